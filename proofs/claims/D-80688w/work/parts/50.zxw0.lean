/-! ScoreThreads' classes: methods, walked, 0 -/
set_option maxRecDepth 100000

def YX1_init : zM := (yX1_init, cX1_init, 1, (Option.none : Option Jvm.ClassFile.FieldType), [], false)
theorem zkX1_init : zMok YX1_init := ⟨rfl, q98, by decide +kernel, by decide +kernel⟩
theorem znX1_init : (parseMethodDescriptor YX1_init.nm.desc).map (fun d => d.parameters.length) = some 0 := by decide +kernel
noncomputable def fX1_init (g : zS) (a0 : Nat) : Option (Unit × zS) := zbj (zpV g [1] a0 1 (.int (-1 : Int32))) (fun g1 => zbj (zpV g1 [1] a0 4 (.float FP.fconst1)) (fun g3 => zgd (¬ (4 : Int32) < 0 ∧ 1 ≤ g3.rc ∧ (4 : Int32).toNatClampNeg ≤ g3.rs ∧ (4 : Int32).toNatClampNeg * 4 ≤ 536870912) (zlet (znew g3 (.inl (8, (4 : Int32).toNatClampNeg, .inr (.inr (.inr (.inr fun _ => none))))) (4 : Int32).toNatClampNeg) (fun g6 => zbj (zpV g6 [1] a0 6 (va_rf (some g3.sz))) (fun g7 => zgd (¬ (8 : Int32) < 0 ∧ 1 ≤ g7.rc ∧ (8 : Int32).toNatClampNeg ≤ g7.rs ∧ (8 : Int32).toNatClampNeg * 8 ≤ 536870912) (zlet (znew g7 (.inl (1, za0 1 (8 : Int32).toNatClampNeg)) (8 : Int32).toNatClampNeg) (fun g10 => zbj (zpV g10 [1] a0 9 (va_rf (some g7.sz))) (fun g11 => zgd (¬ (8 : Int32) < 0 ∧ 1 ≤ g11.rc ∧ (8 : Int32).toNatClampNeg ≤ g11.rs ∧ (8 : Int32).toNatClampNeg * 8 ≤ 536870912) (zlet (znew g11 (.inl (1, za0 1 (8 : Int32).toNatClampNeg)) (8 : Int32).toNatClampNeg) (fun g14 => zbj (zpV g14 [1] a0 10 (va_rf (some g11.sz))) (fun g15 => zgd (¬ (2 : Int32) < 0 ∧ 1 ≤ g15.rc ∧ (2 : Int32).toNatClampNeg ≤ g15.rs ∧ (2 : Int32).toNatClampNeg * 8 ≤ 536870912) (zlet (znew g15 (.inl (0, za0 0 (2 : Int32).toNatClampNeg)) (2 : Int32).toNatClampNeg) (fun g18 => zbj (zpV g18 [1] a0 12 (va_rf (some g15.sz))) (fun g19 => zgd (¬ (2 : Int32) < 0 ∧ 1 ≤ g19.rc ∧ (2 : Int32).toNatClampNeg ≤ g19.rs ∧ (2 : Int32).toNatClampNeg * 8 ≤ 536870912) (zlet (znew g19 (.inl (0, za0 0 (2 : Int32).toNatClampNeg)) (2 : Int32).toNatClampNeg) (fun g22 => zbj (zpV g22 [1] a0 13 (va_rf (some g19.sz))) (fun g23 => some ((), g23))))))))))))))))))
theorem wX1_init {G : zG} {d : Nat} {K : List Nat} {Q : zO → zS → Prop} {g : zS} {a0 : Nat} {p : Unit × zS} (h : fX1_init g a0 = some p) (kq : Q (.inl none) p.2) : zEM G (d + 1) K YX1_init [.ref a0] g Q := by
  show zEF G (d + 1) K YX1_init 0 [some (.ref a0)] [] g Q
  unfold fX1_init at h
  refine ez_aload_n (i := 0) (v := .ref a0) dX1_init_0 rfl rfl rfl ?_
  refine ez_objInit dX1_init_1 rfl q99 q87 q88 (Nat.le_of_ble_eq_true rfl) ?_
  refine ez_aload_n (i := 0) (v := .ref a0) dX1_init_4 rfl rfl rfl ?_
  refine ez_iconst (v := -1) dX1_init_5 (by decide) ?_
  obtain ⟨g1, hx2, h⟩ := zbj_some h
  refine pX1_9 (x := (-1 : Int32)) dX1_init_6 rfl hx2 ?_
  refine ez_aload_n (i := 0) (v := .ref a0) dX1_init_9 rfl rfl rfl ?_
  refine ez_fconst1 dX1_init_10 ?_
  obtain ⟨g3, hx4, h⟩ := zbj_some h
  refine pX1_15 (x := FP.fconst1) dX1_init_11 rfl hx4 ?_
  refine ez_aload_n (i := 0) (v := .ref a0) dX1_init_14 rfl rfl rfl ?_
  refine ez_iconst (v := 4) dX1_init_15 (by decide) ?_
  obtain ⟨hg5, h⟩ := zgd_some h
  refine ez_anew 8 (by decide) (by decide) dX1_init_16 rfl rfl q100 q92 hg5.1 rfl hg5.2.2.2 hg5.2.1 hg5.2.2.1 ?_
  refine zlet_use (fun g6 => zEF G (d + 1) K YX1_init 19 [some (.ref a0)] [.ref g3.sz, .ref a0] g6 Q) h (fun g6 h => ?_)
  obtain ⟨g7, hx8, h⟩ := zbj_some h
  refine pX1_21 (x := (some g3.sz)) dX1_init_19 rfl hx8 ?_
  refine ez_aload_n (i := 0) (v := .ref a0) dX1_init_22 rfl rfl rfl ?_
  refine ez_bipush (v := 8) dX1_init_23 (by decide) ?_
  obtain ⟨hg9, h⟩ := zgd_some h
  refine ez_newa 1 (by decide) dX1_init_25 rfl q153 hg9.1 rfl hg9.2.2.2 hg9.2.1 hg9.2.2.1 ?_
  refine zlet_use (fun g10 => zEF G (d + 1) K YX1_init 27 [some (.ref a0)] [.ref g7.sz, .ref a0] g10 Q) h (fun g10 h => ?_)
  obtain ⟨g11, hx12, h⟩ := zbj_some h
  refine pX1_25 (x := (some g7.sz)) dX1_init_27 rfl hx12 ?_
  refine ez_aload_n (i := 0) (v := .ref a0) dX1_init_30 rfl rfl rfl ?_
  refine ez_bipush (v := 8) dX1_init_31 (by decide) ?_
  obtain ⟨hg13, h⟩ := zgd_some h
  refine ez_newa 1 (by decide) dX1_init_33 rfl q153 hg13.1 rfl hg13.2.2.2 hg13.2.1 hg13.2.2.1 ?_
  refine zlet_use (fun g14 => zEF G (d + 1) K YX1_init 35 [some (.ref a0)] [.ref g11.sz, .ref a0] g14 Q) h (fun g14 h => ?_)
  obtain ⟨g15, hx16, h⟩ := zbj_some h
  refine pX1_29 (x := (some g11.sz)) dX1_init_35 rfl hx16 ?_
  refine ez_aload_n (i := 0) (v := .ref a0) dX1_init_38 rfl rfl rfl ?_
  refine ez_iconst (v := 2) dX1_init_39 (by decide) ?_
  obtain ⟨hg17, h⟩ := zgd_some h
  refine ez_newa 0 (by decide) dX1_init_40 rfl q152 hg17.1 rfl hg17.2.2.2 hg17.2.1 hg17.2.2.1 ?_
  refine zlet_use (fun g18 => zEF G (d + 1) K YX1_init 42 [some (.ref a0)] [.ref g15.sz, .ref a0] g18 Q) h (fun g18 h => ?_)
  obtain ⟨g19, hx20, h⟩ := zbj_some h
  refine pX1_32 (x := (some g15.sz)) dX1_init_42 rfl rfl hx20 ?_
  refine ez_aload_n (i := 0) (v := .ref a0) dX1_init_45 rfl rfl rfl ?_
  refine ez_iconst (v := 2) dX1_init_46 (by decide) ?_
  obtain ⟨hg21, h⟩ := zgd_some h
  refine ez_newa 0 (by decide) dX1_init_47 rfl q152 hg21.1 rfl hg21.2.2.2 hg21.2.1 hg21.2.2.1 ?_
  refine zlet_use (fun g22 => zEF G (d + 1) K YX1_init 49 [some (.ref a0)] [.ref g19.sz, .ref a0] g22 Q) h (fun g22 h => ?_)
  obtain ⟨g23, hx24, h⟩ := zbj_some h
  refine pX1_36 (x := (some g19.sz)) dX1_init_49 rfl rfl hx24 ?_
  obtain rfl := Option.some.inj h
  exact ez_vret dX1_init_52 rfl kq
def YX1_needs : zM := (yX1_needs, cX1_needs, 4, (Option.some Jvm.ClassFile.FieldType.boolean), [], false)
theorem zkX1_needs : zMok YX1_needs := ⟨rfl, q726, by decide +kernel, by decide +kernel⟩
theorem znX1_needs : (parseMethodDescriptor YX1_needs.nm.desc).map (fun d => d.parameters.length) = some 1 := by decide +kernel
noncomputable def fX1_needs_L11 : Nat → zS → Nat → Nat → Int32 → Int32 → Option (Int32 × zS)
  | 0, _, _, _, _, _ => none
  | n + 1, g, y0, y1, y2, y3 => if (4 : Int32) ≤ y3 then zgd (zbl y2) (some (y2, g)) else zbj (zgN g [1] y0 6) (fun a7 => zbj (zaC g a7 y3) (fun o9 => zjoin (fun (g11 : zS) (v12 : Nat) (v13 : Nat) (v14 : Int32) (v15 : Int32) (v16 : Int32) => fX1_needs_L11 n g11 v12 v13 (v16 ||| v15) (v14 + (1 : Int32))) (fun j17 => if o9 = (some y1) then j17 g y0 y1 y3 (1 : Int32) y2 else j17 g y0 y1 y3 (0 : Int32) y2)))
noncomputable def fX1_needs (g : zS) (a0 : Nat) (b0 : Nat) : Option (Int32 × zS) := zbj (zgI g [1] a0 8) (fun i1 => zbj (fJ11_max i1 (0 : Int32)) (fun r3 => fX1_needs_L11 1000 g a0 b0 (0 : Int32) r3 ))
theorem fX1_needs_L11_ok {G : zG} {d : Nat} {K : List Nat} {Q : zO → zS → Prop} : ∀ (n : Nat) (g : zS) (y0 : Nat) (y1 : Nat) (y2 : Int32) (y3 : Int32) (p : Int32 × zS) (h : fX1_needs_L11 n g y0 y1 y2 y3 = some p) (kq : Q (.inl (some (.int p.1))) p.2), zEF G (d + 1) K YX1_needs 11 [some (.ref y0), some (.ref y1), some (.int y2), some (.int y3)] [] g Q := by
  intro n
  induction n with
  | zero =>
    intro g y0 y1 y2 y3 p h kq
    rw [fX1_needs_L11] at h
    cases h
  | succ n ih =>
    intro g y0 y1 y2 y3 p h kq
    rw [fX1_needs_L11] at h
    refine ez_iload_n (i := 3) (x := y3) dX1_needs_11 rfl rfl ?_
    refine ez_iconst (v := 4) dX1_needs_12 (by decide) ?_
    refine ez_icmp_ge (tgt := 40) dX1_needs_13 (by decide) (fun hc => ?_) (fun hc => ?_)
    · replace h := zif_t hc h
      refine ez_iload_n (i := 2) (x := y2) dX1_needs_40 rfl rfl ?_
      obtain ⟨hg6, h⟩ := zgd_some h
      obtain rfl := Option.some.inj h
      exact ez_iret dX1_needs_41 rfl hg6.1 kq
    · replace h := zif_f hc h
      refine ez_iload_n (i := 2) (x := y2) dX1_needs_16 rfl rfl ?_
      refine ez_aload_n (i := 0) (v := .ref y0) dX1_needs_17 rfl rfl rfl ?_
      obtain ⟨a7, hx8, h⟩ := zbj_some h
      refine gX1_21 dX1_needs_18 rfl (zgN_some hx8) ?_
      show zEF G (d + 1) K YX1_needs 21 [some (.ref y0), some (.ref y1), some (.int y2), some (.int y3)] [.ref a7, .int y2] g Q
      refine ez_iload_n (i := 3) (x := y3) dX1_needs_21 rfl rfl ?_
      obtain ⟨o9, hx10, h⟩ := zbj_some h
      refine lX_aac dX1_needs_22 hx10 ?_
      refine ez_aload_n (i := 1) (v := .ref y1) dX1_needs_23 rfl rfl rfl ?_
      refine zjoin_use (fun (j : zS → Nat → Nat → Int32 → Int32 → Int32 → Option (Int32 × zS)) => ∀ (g11 : zS) (v12 : Nat) (v13 : Nat) (v14 : Int32) (v15 : Int32) (v16 : Int32), j g11 v12 v13 v14 v15 v16 = some p → zEF G (d + 1) K YX1_needs 32 [some (.ref v12), some (.ref v13), none, some (.int v14)] [.int v15, .int v16] g11 Q) h (fun g11 v12 v13 v14 v15 v16 h => ?_) (fun j17 hj17 h => ?_)
      · refine ez_ior dX1_needs_32 ?_
        refine ez_istore_n (i := 2) dX1_needs_33 rfl (show 2 < 4 by decide) ?_
        show zEF G (d + 1) K YX1_needs 34 [some (.ref v12), some (.ref v13), some (.int (v16 ||| v15)), some (.int v14)] [] g11 Q
        refine ez_iinc (x := v14) (v := (v14 + (1 : Int32))) dX1_needs_34 rfl rfl (show 3 < 4 by decide) ?_
        show zEF G (d + 1) K YX1_needs 37 [some (.ref v12), some (.ref v13), some (.int (v16 ||| v15)), some (.int (v14 + (1 : Int32)))] [] g11 Q
        refine ez_goto (tgt := 11) dX1_needs_37 (by decide) ?_
        exact ih g11 v12 v13 (v16 ||| v15) (v14 + (1 : Int32)) _ h kq
      · refine ez_acmp_ne (rx := o9) (ry := (some y1)) (tgt := 31) dX1_needs_24 (by decide) (fun hc => ?_) (fun hc => ?_)
        · replace h := zif_f hc h
          refine ez_iconst (v := 0) dX1_needs_31 (by decide) ?_
          refine ez_clr 2 ?_
          exact hj17 g y0 y1 y3 (0 : Int32) y2 h
        · replace h := zif_t hc h
          refine ez_iconst (v := 1) dX1_needs_27 (by decide) ?_
          refine ez_goto (tgt := 32) dX1_needs_28 (by decide) ?_
          refine ez_clr 2 ?_
          exact hj17 g y0 y1 y3 (1 : Int32) y2 h
theorem wX1_needs {G : zG} {d : Nat} {K : List Nat} {Q : zO → zS → Prop} {g : zS} {a0 : Nat} {b0 : Nat} {p : Int32 × zS} (h : fX1_needs g a0 b0 = some p) (kq : Q (.inl (some (.int p.1))) p.2) : zEM G (d + 1) K YX1_needs [.ref a0, .ref b0] g Q := by
  show zEF G (d + 1) K YX1_needs 0 [some (.ref a0), some (.ref b0), none, none] [] g Q
  unfold fX1_needs at h
  refine ez_iconst (v := 0) dX1_needs_0 (by decide) ?_
  refine ez_istore_n (i := 2) dX1_needs_1 rfl (show 2 < 4 by decide) ?_
  show zEF G (d + 1) K YX1_needs 2 [some (.ref a0), some (.ref b0), some (.int (0 : Int32)), none] [] g Q
  refine ez_aload_n (i := 0) (v := .ref a0) dX1_needs_2 rfl rfl rfl ?_
  obtain ⟨i1, hx2, h⟩ := zbj_some h
  refine gX1_39 dX1_needs_3 rfl hx2 ?_
  refine ez_iconst (v := 0) dX1_needs_6 (by decide) ?_
  obtain ⟨r3, hq5, h⟩ := zbj_some h
  refine ez_callS (Y' := YJ11_max) (vs := [.int i1, .int (0 : Int32)]) (rest := []) dX1_needs_7 rfl zkJ11_max q727 q728 q78 znJ11_max (Nat.le_of_ble_eq_true rfl) (Nat.le_of_ble_eq_true rfl) rfl (wJ11_max (d := d + 0) hq5 (zBack_v ?_))
  show zEF G (d + 1) K YX1_needs 10 [some (.ref a0), some (.ref b0), some (.int (0 : Int32)), none] [.int r3] g Q
  refine ez_istore_n (i := 3) dX1_needs_10 rfl (show 3 < 4 by decide) ?_
  show zEF G (d + 1) K YX1_needs 11 [some (.ref a0), some (.ref b0), some (.int (0 : Int32)), some (.int r3)] [] g Q
  refine fX1_needs_L11_ok (d := d) (K := K) 1000 g a0 b0 (0 : Int32) r3 _ h  kq
def YX1_next : zM := (yX1_next, cX1_next, 3, (Option.some Jvm.ClassFile.FieldType.int), [], false)
theorem zkX1_next : zMok YX1_next := ⟨rfl, q840, by decide +kernel, by decide +kernel⟩
theorem znX1_next : (parseMethodDescriptor YX1_next.nm.desc).map (fun d => d.parameters.length) = some 1 := by decide +kernel
noncomputable def fX1_next_L2 : Nat → zS → Nat → Int32 → Option (Int32 × zS)
  | 0, _, _, _ => none
  | n + 1, g, y0, y2 => if (4 : Int32) ≤ y2 then some (y2, g) else zbj (zgN g [1] y0 6) (fun a1 => zbj (zaC g a1 y2) (fun o3 => zcs o3 (fX1_next_L2 n g y0 (y2 + (1 : Int32))) (fun a5 => some (y2, g))))
noncomputable def fX1_next (g : zS) (a0 : Nat) (b0 : Int32) : Option (Int32 × zS) := fX1_next_L2 1000 g a0 b0 
theorem fX1_next_L2_ok {G : zG} {d : Nat} {K : List Nat} {Q : zO → zS → Prop} : ∀ (n : Nat) (g : zS) (y0 : Nat) (y2 : Int32) (p : Int32 × zS) (h : fX1_next_L2 n g y0 y2 = some p) (kq : Q (.inl (some (.int p.1))) p.2), zEF G (d + 0) K YX1_next 2 [some (.ref y0), none, some (.int y2)] [] g Q := by
  intro n
  induction n with
  | zero =>
    intro g y0 y2 p h kq
    rw [fX1_next_L2] at h
    cases h
  | succ n ih =>
    intro g y0 y2 p h kq
    rw [fX1_next_L2] at h
    refine ez_iload_n (i := 2) (x := y2) dX1_next_2 rfl rfl ?_
    refine ez_iconst (v := 4) dX1_next_3 (by decide) ?_
    refine ez_icmp_ge (tgt := 22) dX1_next_4 (by decide) (fun hc => ?_) (fun hc => ?_)
    · replace h := zif_t hc h
      refine ez_iload_n (i := 2) (x := y2) dX1_next_22 rfl rfl ?_
      obtain rfl := Option.some.inj h
      exact ez_iret dX1_next_23 rfl rfl kq
    · replace h := zif_f hc h
      refine ez_aload_n (i := 0) (v := .ref y0) dX1_next_7 rfl rfl rfl ?_
      obtain ⟨a1, hx2, h⟩ := zbj_some h
      refine gX1_21 dX1_next_8 rfl (zgN_some hx2) ?_
      show zEF G (d + 0) K YX1_next 11 [some (.ref y0), none, some (.int y2)] [.ref a1] g Q
      refine ez_iload_n (i := 2) (x := y2) dX1_next_11 rfl rfl ?_
      obtain ⟨o3, hx4, h⟩ := zbj_some h
      refine lX_aac dX1_next_12 hx4 ?_
      rcases o3 with _ | a5
      · replace h := zcs_n h
        refine ez_ifnonnullN dX1_next_13 ?_
        refine ez_iinc (x := y2) (v := (y2 + (1 : Int32))) dX1_next_16 rfl rfl (show 2 < 3 by decide) ?_
        show zEF G (d + 0) K YX1_next 19 [some (.ref y0), none, some (.int (y2 + (1 : Int32)))] [] g Q
        refine ez_goto (tgt := 2) dX1_next_19 (by decide) ?_
        exact ih g y0 (y2 + (1 : Int32)) _ h kq
      · replace h := zcs_s h
        refine ez_ifnonnull (tgt := 22) dX1_next_13 (by decide) ?_
        refine ez_iload_n (i := 2) (x := y2) dX1_next_22 rfl rfl ?_
        obtain rfl := Option.some.inj h
        exact ez_iret dX1_next_23 rfl rfl kq
theorem wX1_next {G : zG} {d : Nat} {K : List Nat} {Q : zO → zS → Prop} {g : zS} {a0 : Nat} {b0 : Int32} {p : Int32 × zS} (h : fX1_next g a0 b0 = some p) (kq : Q (.inl (some (.int p.1))) p.2) : zEM G (d + 0) K YX1_next [.ref a0, .int b0] g Q := by
  show zEF G (d + 0) K YX1_next 0 [some (.ref a0), some (.int b0), none] [] g Q
  unfold fX1_next at h
  refine ez_iload_n (i := 1) (x := b0) dX1_next_0 rfl rfl ?_
  refine ez_istore_n (i := 2) dX1_next_1 rfl (show 2 < 3 by decide) ?_
  show zEF G (d + 0) K YX1_next 2 [some (.ref a0), some (.int b0), some (.int b0)] [] g Q
  refine ez_clr 1 ?_
  refine fX1_next_L2_ok (d := d) (K := K) 1000 g a0 b0 _ h  kq
def YX1_silence : zM := (yX1_silence, cX1_silence, 2, (Option.none : Option Jvm.ClassFile.FieldType), [], false)
theorem zkX1_silence : zMok YX1_silence := ⟨rfl, q844, by decide +kernel, by decide +kernel⟩
theorem znX1_silence : (parseMethodDescriptor YX1_silence.nm.desc).map (fun d => d.parameters.length) = some 0 := by decide +kernel
noncomputable def fX1_silence_L2 : Nat → zS → Nat → Int32 → Option (Unit × zS)
  | 0, _, _, _ => none
  | n + 1, g, y0, y1 => if (8 : Int32) ≤ y1 then some ((), g) else zbj (zgN g [1] y0 9) (fun a1 => zbj (zsF g 1 a1 y1 FP.fconst0) (fun g3 => fX1_silence_L2 n g3 y0 (y1 + (1 : Int32))))
noncomputable def fX1_silence (g : zS) (a0 : Nat) : Option (Unit × zS) := fX1_silence_L2 1000 g a0 (0 : Int32) 
theorem fX1_silence_L2_ok {G : zG} {d : Nat} {K : List Nat} {Q : zO → zS → Prop} : ∀ (n : Nat) (g : zS) (y0 : Nat) (y1 : Int32) (p : Unit × zS) (h : fX1_silence_L2 n g y0 y1 = some p) (kq : Q (.inl none) p.2), zEF G (d + 0) K YX1_silence 2 [some (.ref y0), some (.int y1)] [] g Q := by
  intro n
  induction n with
  | zero =>
    intro g y0 y1 p h kq
    rw [fX1_silence_L2] at h
    cases h
  | succ n ih =>
    intro g y0 y1 p h kq
    rw [fX1_silence_L2] at h
    refine ez_iload_n (i := 1) (x := y1) dX1_silence_2 rfl rfl ?_
    refine ez_bipush (v := 8) dX1_silence_3 (by decide) ?_
    refine ez_icmp_ge (tgt := 21) dX1_silence_5 (by decide) (fun hc => ?_) (fun hc => ?_)
    · replace h := zif_t hc h
      obtain rfl := Option.some.inj h
      exact ez_vret dX1_silence_21 rfl kq
    · replace h := zif_f hc h
      refine ez_aload_n (i := 0) (v := .ref y0) dX1_silence_8 rfl rfl rfl ?_
      obtain ⟨a1, hx2, h⟩ := zbj_some h
      refine gX1_25 dX1_silence_9 rfl (zgN_some hx2) ?_
      show zEF G (d + 0) K YX1_silence 12 [some (.ref y0), some (.int y1)] [.ref a1] g Q
      refine ez_iload_n (i := 1) (x := y1) dX1_silence_12 rfl rfl ?_
      refine ez_fconst0 dX1_silence_13 ?_
      obtain ⟨g3, hx4, h⟩ := zbj_some h
      refine sX_fa dX1_silence_14 hx4 ?_
      refine ez_iinc (x := y1) (v := (y1 + (1 : Int32))) dX1_silence_15 rfl rfl (show 1 < 2 by decide) ?_
      show zEF G (d + 0) K YX1_silence 18 [some (.ref y0), some (.int (y1 + (1 : Int32)))] [] g3 Q
      refine ez_goto (tgt := 2) dX1_silence_18 (by decide) ?_
      exact ih g3 y0 (y1 + (1 : Int32)) _ h kq
theorem wX1_silence {G : zG} {d : Nat} {K : List Nat} {Q : zO → zS → Prop} {g : zS} {a0 : Nat} {p : Unit × zS} (h : fX1_silence g a0 = some p) (kq : Q (.inl none) p.2) : zEM G (d + 0) K YX1_silence [.ref a0] g Q := by
  show zEF G (d + 0) K YX1_silence 0 [some (.ref a0), none] [] g Q
  unfold fX1_silence at h
  refine ez_iconst (v := 0) dX1_silence_0 (by decide) ?_
  refine ez_istore_n (i := 1) dX1_silence_1 rfl (show 1 < 2 by decide) ?_
  show zEF G (d + 0) K YX1_silence 2 [some (.ref a0), some (.int (0 : Int32))] [] g Q
  refine fX1_silence_L2_ok (d := d) (K := K) 1000 g a0 (0 : Int32) _ h  kq
def YX4_init : zM := (yX4_init, cX4_init, 4, (Option.none : Option Jvm.ClassFile.FieldType), [], false)
theorem zkX4_init : zMok YX4_init := ⟨rfl, q450, by decide +kernel, by decide +kernel⟩
theorem znX4_init : (parseMethodDescriptor YX4_init.nm.desc).map (fun d => d.parameters.length) = some 3 := by decide +kernel
noncomputable def fX4_init (g : zS) (a0 : Nat) (b0 : Int32) (b1 : UInt32) (b2 : Int32) : Option (Unit × zS) := zbj (zpV g [4, 5, 6, 7, 8, 9, 10, 11] a0 0 (.int b0)) (fun g1 => zbj (zpV g1 [4, 5, 6, 7, 8, 9, 10, 11] a0 1 (.float b1)) (fun g3 => zbj (zpV g3 [4, 5, 6, 7, 8, 9, 10, 11] a0 2 (.int b2)) (fun g5 => some ((), g5))))
theorem wX4_init {G : zG} {d : Nat} {K : List Nat} {Q : zO → zS → Prop} {g : zS} {a0 : Nat} {b0 : Int32} {b1 : UInt32} {b2 : Int32} {p : Unit × zS} (h : fX4_init g a0 b0 b1 b2 = some p) (kq : Q (.inl none) p.2) : zEM G (d + 1) K YX4_init [.ref a0, .int b0, .float b1, .int b2] g Q := by
  show zEF G (d + 1) K YX4_init 0 [some (.ref a0), some (.int b0), some (.float b1), some (.int b2)] [] g Q
  unfold fX4_init at h
  refine ez_aload_n (i := 0) (v := .ref a0) dX4_init_0 rfl rfl rfl ?_
  refine ez_objInit dX4_init_1 rfl q451 q87 q88 (Nat.le_of_ble_eq_true rfl) ?_
  refine ez_aload_n (i := 0) (v := .ref a0) dX4_init_4 rfl rfl rfl ?_
  refine ez_iload_n (i := 1) (x := b0) dX4_init_5 rfl rfl ?_
  obtain ⟨g1, hx2, h⟩ := zbj_some h
  refine pX4_9 (x := b0) dX4_init_6 rfl rfl hx2 ?_
  refine ez_aload_n (i := 0) (v := .ref a0) dX4_init_9 rfl rfl rfl ?_
  refine ez_fload_n (i := 2) (x := b1) dX4_init_10 rfl rfl ?_
  obtain ⟨g3, hx4, h⟩ := zbj_some h
  refine pX4_15 (x := b1) dX4_init_11 rfl rfl hx4 ?_
  refine ez_aload_n (i := 0) (v := .ref a0) dX4_init_14 rfl rfl rfl ?_
  refine ez_iload_n (i := 3) (x := b2) dX4_init_15 rfl rfl ?_
  obtain ⟨g5, hx6, h⟩ := zbj_some h
  refine pX4_19 (x := b2) dX4_init_16 rfl rfl hx6 ?_
  obtain rfl := Option.some.inj h
  exact ez_vret dX4_init_19 rfl kq
def YX9_init : zM := (yX9_init, cX9_init, 4, (Option.none : Option Jvm.ClassFile.FieldType), [], false)
theorem zkX9_init : zMok YX9_init := ⟨rfl, q515, by decide +kernel, by decide +kernel⟩
theorem znX9_init : (parseMethodDescriptor YX9_init.nm.desc).map (fun d => d.parameters.length) = some 3 := by decide +kernel
noncomputable def fX9_init (g : zS) (a0 : Nat) (b0 : Int32) (b1 : UInt32) (b2 : Int32) : Option ((Unit ⊕ String) × zS) := zbd (fX4_init g a0 b0 b1 b2) (fun _ g2 => if b2 < 0 then zgd (3 ≤ g2.rc ∧ 300 ≤ g2.rs) (some (.inr zNAS, (zxg g2))) else zgd (1 ≤ g2.rc ∧ b2.toNatClampNeg ≤ g2.rs ∧ b2.toNatClampNeg * 8 ≤ 536870912) (zlet (znew g2 (.inl (1, za0 1 b2.toNatClampNeg)) b2.toNatClampNeg) (fun g6 => zbj (zpV g6 [8, 9] a0 4 (va_rf (some g2.sz))) (fun g7 => some (.inl (), g7)))))
theorem wX9_init {G : zG} {d : Nat} {K : List Nat} {Q : zO → zS → Prop} {g : zS} {a0 : Nat} {b0 : Int32} {b1 : UInt32} {b2 : Int32} {p : (Unit ⊕ String) × zS} (h : fX9_init g a0 b0 b1 b2 = some p) (kq : Q (zoV p.1 p.2) p.2) : zEM G (d + 8) K YX9_init [.ref a0, .int b0, .float b1, .int b2] g Q := by
  show zEF G (d + 8) K YX9_init 0 [some (.ref a0), some (.int b0), some (.float b1), some (.int b2)] [] g Q
  unfold fX9_init at h
  refine ez_aload_n (i := 0) (v := .ref a0) dX9_init_0 rfl rfl rfl ?_
  refine ez_iload_n (i := 1) (x := b0) dX9_init_1 rfl rfl ?_
  refine ez_fload_n (i := 2) (x := b1) dX9_init_2 rfl rfl ?_
  refine ez_iload_n (i := 3) (x := b2) dX9_init_3 rfl rfl ?_
  obtain ⟨r1, g2, hq3, h⟩ := zbd_some h
  refine ez_callI (Y' := YX4_init) (a := a0) (vs := [.int b0, .float b1, .int b2]) (rest := []) dX9_init_4 rfl zkX4_init rfl rfl rfl q516 q449 znX4_init (Nat.le_of_ble_eq_true rfl) (Nat.le_of_ble_eq_true rfl) rfl (wX4_init (d := d + 6) hq3 (zBack_n ?_))
  show zEF G (d + 8) K YX9_init 7 [some (.ref a0), some (.int b0), some (.float b1), some (.int b2)] [] g2 Q
  refine ez_aload_n (i := 0) (v := .ref a0) dX9_init_7 rfl rfl rfl ?_
  refine ez_iload_n (i := 3) (x := b2) dX9_init_8 rfl rfl ?_
  by_cases hc : b2 < 0
  · replace h := zif_t hc h
    obtain ⟨hr4, h⟩ := zgd_some h
    refine ex_newa (n := b2) dX9_init_9 hc (Nat.le_of_ble_eq_true rfl) hr4.1 hr4.2 ?_
    obtain rfl := Option.some.inj h
    exact zTH_out (fun x hx => by cases hx) kq
  · replace h := zif_f hc h
    obtain ⟨hr5, h⟩ := zgd_some h
    refine ez_newa 1 (by decide) dX9_init_9 rfl q153 hc rfl hr5.2.2 hr5.1 hr5.2.1 ?_
    refine zlet_use (fun g6 => zEF G (d + 8) K YX9_init 11 [some (.ref a0), some (.int b0), some (.float b1), some (.int b2)] [.ref g2.sz, .ref a0] g6 Q) h (fun g6 h => ?_)
    obtain ⟨g7, hx8, h⟩ := zbj_some h
    refine pX9_7 (x := (some g2.sz)) dX9_init_11 rfl hx8 ?_
    obtain rfl := Option.some.inj h
    exact ez_vret dX9_init_14 rfl kq
def YX10_init : zM := (yX10_init, cX10_init, 4, (Option.none : Option Jvm.ClassFile.FieldType), [], false)
theorem zkX10_init : zMok YX10_init := ⟨rfl, q534, by decide +kernel, by decide +kernel⟩
theorem znX10_init : (parseMethodDescriptor YX10_init.nm.desc).map (fun d => d.parameters.length) = some 3 := by decide +kernel
noncomputable def fX10_init (g : zS) (a0 : Nat) (b0 : Int32) (b1 : UInt32) (b2 : Int32) : Option ((Unit ⊕ String) × zS) := zbd (fX9_init g a0 b0 b1 b2) (fun r1 g2 => zsm r1 (fun _ => some (.inl (), g2)) (fun X5 => some (.inr X5, g2)))
theorem wX10_init {G : zG} {d : Nat} {K : List Nat} {Q : zO → zS → Prop} {g : zS} {a0 : Nat} {b0 : Int32} {b1 : UInt32} {b2 : Int32} {p : (Unit ⊕ String) × zS} (h : fX10_init g a0 b0 b1 b2 = some p) (kq : Q (zoV p.1 p.2) p.2) : zEM G (d + 9) K YX10_init [.ref a0, .int b0, .float b1, .int b2] g Q := by
  show zEF G (d + 9) K YX10_init 0 [some (.ref a0), some (.int b0), some (.float b1), some (.int b2)] [] g Q
  unfold fX10_init at h
  refine ez_aload_n (i := 0) (v := .ref a0) dX10_init_0 rfl rfl rfl ?_
  refine ez_iload_n (i := 1) (x := b0) dX10_init_1 rfl rfl ?_
  refine ez_fload_n (i := 2) (x := b1) dX10_init_2 rfl rfl ?_
  refine ez_iload_n (i := 3) (x := b2) dX10_init_3 rfl rfl ?_
  obtain ⟨r1, g2, hq3, h⟩ := zbd_some h
  refine ez_callI (Y' := YX9_init) (a := a0) (vs := [.int b0, .float b1, .int b2]) (rest := []) dX10_init_4 rfl zkX9_init rfl rfl rfl q535 q514 znX9_init (Nat.le_of_ble_eq_true rfl) (Nat.le_of_ble_eq_true rfl) rfl (wX9_init (d := d + 0) hq3 ?_)
  rcases r1 with v4 | X5
  · replace h := zsm_l h
    refine zBack_n ?_
    show zEF G (d + 9) K YX10_init 7 [some (.ref a0), some (.int b0), some (.float b1), some (.int b2)] [] g2 Q
    obtain rfl := Option.some.inj h
    exact ez_vret dX10_init_7 rfl kq
  · replace h := zsm_r h
    refine zBack_t ?_
    obtain rfl := Option.some.inj h
    exact zTH_out (fun x hx => by cases hx) kq
def YX9_tail : zM := (yX9_tail, cX9_tail, 1, (Option.some Jvm.ClassFile.FieldType.int), [], false)
theorem zkX9_tail : zMok YX9_tail := ⟨rfl, q609, by decide +kernel, by decide +kernel⟩
theorem znX9_tail : (parseMethodDescriptor YX9_tail.nm.desc).map (fun d => d.parameters.length) = some 0 := by decide +kernel
noncomputable def fX9_tail (g : zS) (a0 : Nat) : Option (Int32 × zS) := zbj (zgI g [8, 9] a0 2) (fun i1 => some (i1, g))
theorem wX9_tail {G : zG} {d : Nat} {K : List Nat} {Q : zO → zS → Prop} {g : zS} {a0 : Nat} {p : Int32 × zS} (h : fX9_tail g a0 = some p) (kq : Q (.inl (some (.int p.1))) p.2) : zEM G (d + 0) K YX9_tail [.ref a0] g Q := by
  show zEF G (d + 0) K YX9_tail 0 [some (.ref a0)] [] g Q
  unfold fX9_tail at h
  refine ez_aload_n (i := 0) (v := .ref a0) dX9_tail_0 rfl rfl rfl ?_
  obtain ⟨i1, hx2, h⟩ := zbj_some h
  refine gX9_27 dX9_tail_1 rfl hx2 ?_
  obtain rfl := Option.some.inj h
  exact ez_iret dX9_tail_4 rfl rfl kq
def YX10_tail : zM := (yX10_tail, cX10_tail, 1, (Option.some Jvm.ClassFile.FieldType.int), [], false)
theorem zkX10_tail : zMok YX10_tail := ⟨rfl, q606, by decide +kernel, by decide +kernel⟩
theorem znX10_tail : (parseMethodDescriptor YX10_tail.nm.desc).map (fun d => d.parameters.length) = some 0 := by decide +kernel
noncomputable def fX10_tail (g : zS) (a0 : Nat) : Option (Int32 × zS) := zbj (zob g [9] a0) (fun ob1 => zbd (fX9_tail g a0) (fun r3 g4 => some ((r3 + (3 : Int32)), g4)))
theorem wX10_tail {G : zG} {d : Nat} {K : List Nat} {Q : zO → zS → Prop} {g : zS} {a0 : Nat} {p : Int32 × zS} (h : fX10_tail g a0 = some p) (kq : Q (.inl (some (.int p.1))) p.2) : zEM G (d + 1) K YX10_tail [.ref a0] g Q := by
  show zEF G (d + 1) K YX10_tail 0 [some (.ref a0)] [] g Q
  unfold fX10_tail at h
  refine ez_aload_n (i := 0) (v := .ref a0) dX10_tail_0 rfl rfl rfl ?_
  obtain ⟨ob1, hx2, h⟩ := zbj_some h
  obtain ⟨r3, g4, hq5, h⟩ := zbd_some h
  refine ez_callSup (x := ⟨"ScoreThreads$Echo", "tail", "()I"⟩) (Y' := YX9_tail) (C := RX10) (Tt := TX10) (N := 6) (a := a0) (vs := []) (rest := []) dX10_tail_1 rfl zkX9_tail q607 ⟨rfl, rfl⟩ q1328 q542 (Or.inl rfl) (by decide) q608 rfl (zob1 hx2) znX9_tail (Nat.le_of_ble_eq_true rfl) (Nat.le_of_ble_eq_true rfl) rfl (wX9_tail (d := d + 0) hq5 (zBack_v ?_))
  show zEF G (d + 1) K YX10_tail 4 [some (.ref a0)] [.int r3] g4 Q
  refine ez_iconst (v := 3) dX10_tail_4 (by decide) ?_
  refine ez_iadd dX10_tail_5 ?_
  obtain rfl := Option.some.inj h
  exact ez_iret dX10_tail_6 rfl rfl kq
def YX9_shape : zM := (yX9_shape, cX9_shape, 3, (Option.some Jvm.ClassFile.FieldType.float), [], false)
theorem zkX9_shape : zMok YX9_shape := ⟨rfl, q776, by decide +kernel, by decide +kernel⟩
theorem znX9_shape : (parseMethodDescriptor YX9_shape.nm.desc).map (fun d => d.parameters.length) = some 1 := by decide +kernel
noncomputable def fX9_shape (g : zS) (a0 : Nat) (b0 : UInt32) : Option ((UInt32 ⊕ String) × zS) := zbj (zgF g [8, 9] a0 1) (fun f1 => zbj (zgR g [8, 9] a0 4) (fun o3 => zbj (zgI g [8, 9] a0 5) (fun i5 => zcs o3 (zgd (1 ≤ g.rc ∧ 8 ≤ g.rs) (some (.inr zNPE, (zng g)))) (fun a7 => zbj (zaln g a7) (fun n9 => zgd (n9 < 2 ^ 31) (if zout i5 n9 then zgd (3 ≤ g.rc ∧ 300 ≤ g.rs) (some (.inr zAIO, (zxg g))) else zbj (zaF g 1 a7 i5) (fun e12 => zgd (vf_n32 (FP.fmul f1 e12)) (zgd (vf_n32 (FP.fadd b0 (FP.fmul f1 e12))) (zbj (fX0_clipped (FP.fadd b0 (FP.fmul f1 e12))) (fun r17 => zbj (zgR g [8, 9] a0 4) (fun o20 => zbj (zgI g [8, 9] a0 5) (fun i22 => zbj (o20) (fun a24 => zbj (zsF g 1 a24 i22 r17) (fun g26 => zbj (zgI g26 [8, 9] a0 5) (fun i28 => zbj (zgR g26 [8, 9] a0 4) (fun o30 => zbj (o30) (fun a32 => zbj (zaln g26 a32) (fun n34 => if (i28 + (1 : Int32)) = (Int32.ofNat n34) then zbj (zpV g26 [8, 9] a0 5 (.int (0 : Int32))) (fun g41 => some (.inl r17, g41)) else zbj (zgI g26 [8, 9] a0 5) (fun i37 => zbj (zpV g26 [8, 9] a0 5 (.int (i37 + (1 : Int32)))) (fun g39 => some (.inl r17, g39)))))))))))))))))))))
theorem wX9_shape {G : zG} {d : Nat} {K : List Nat} {Q : zO → zS → Prop} {g : zS} {a0 : Nat} {b0 : UInt32} {p : (UInt32 ⊕ String) × zS} (h : fX9_shape g a0 b0 = some p) (kq : Q (zoF p.1 p.2) p.2) : zEM G (d + 8) K YX9_shape [.ref a0, .float b0] g Q := by
  show zEF G (d + 8) K YX9_shape 0 [some (.ref a0), some (.float b0), none] [] g Q
  unfold fX9_shape at h
  refine ez_fload_n (i := 1) (x := b0) dX9_shape_0 rfl rfl ?_
  refine ez_aload_n (i := 0) (v := .ref a0) dX9_shape_1 rfl rfl rfl ?_
  obtain ⟨f1, hx2, h⟩ := zbj_some h
  refine gX9_13 dX9_shape_2 rfl hx2 ?_
  refine ez_aload_n (i := 0) (v := .ref a0) dX9_shape_5 rfl rfl rfl ?_
  obtain ⟨o3, hx4, h⟩ := zbj_some h
  refine gX9_7 dX9_shape_6 rfl hx4 ?_
  refine ez_aload_n (i := 0) (v := .ref a0) dX9_shape_9 rfl rfl rfl ?_
  obtain ⟨i5, hx6, h⟩ := zbj_some h
  refine gX9_17 dX9_shape_10 rfl hx6 ?_
  rcases o3 with _ | a7
  · replace h := zcs_n h
    obtain ⟨hr8, h⟩ := zgd_some h
    refine ex_falN dX9_shape_13 (Nat.le_of_ble_eq_true rfl) hr8.1 hr8.2 ?_
    obtain rfl := Option.some.inj h
    exact zTH_out (fun x hx => by cases hx) kq
  · replace h := zcs_s h
    obtain ⟨n9, hx10, h⟩ := zbj_some h
    obtain ⟨hg11, h⟩ := zgd_some h
    by_cases hc : zout i5 n9
    · replace h := zif_t hc h
      obtain ⟨tT, xT, hE, hT, hN⟩ := zaln_some hx10
      obtain ⟨hr14, h⟩ := zgd_some h
      refine ex_falO (i := i5) dX9_shape_13 hE hT (by rw [hN]; exact hg11) (by rw [hN]; exact hc) (Nat.le_of_ble_eq_true rfl) hr14.1 hr14.2 ?_
      obtain rfl := Option.some.inj h
      exact zTH_out (fun x hx => by cases hx) kq
    · replace h := zif_f hc h
      obtain ⟨e12, hx13, h⟩ := zbj_some h
      refine lX_fa dX9_shape_13 hx13 ?_
      obtain ⟨hg15, h⟩ := zgd_some h
      refine ez_fmul dX9_shape_14 hg15 ?_
      obtain ⟨hg16, h⟩ := zgd_some h
      refine ez_fadd dX9_shape_15 hg16 ?_
      obtain ⟨r17, hq19, h⟩ := zbj_some h
      refine ez_callSN (Y' := YX0_clipped) (vs := [.float (FP.fadd b0 (FP.fmul f1 e12))]) (rest := []) dX9_shape_16 rfl zkX0_clipped q777 q412 q52 znX0_clipped (Nat.le_of_ble_eq_true rfl) (Nat.le_of_ble_eq_true rfl) rfl (wX0_clipped (d := d + 7) hq19 (zBack_v ?_))
      show zEF G (d + 8) K YX9_shape 19 [some (.ref a0), some (.float b0), none] [.float r17] g Q
      refine ez_fstore_n (i := 2) dX9_shape_19 rfl (show 2 < 3 by decide) ?_
      show zEF G (d + 8) K YX9_shape 20 [some (.ref a0), some (.float b0), some (.float r17)] [] g Q
      refine ez_aload_n (i := 0) (v := .ref a0) dX9_shape_20 rfl rfl rfl ?_
      obtain ⟨o20, hx21, h⟩ := zbj_some h
      refine gX9_7 dX9_shape_21 rfl hx21 ?_
      refine ez_aload_n (i := 0) (v := .ref a0) dX9_shape_24 rfl rfl rfl ?_
      obtain ⟨i22, hx23, h⟩ := zbj_some h
      refine gX9_17 dX9_shape_25 rfl hx23 ?_
      refine ez_fload_n (i := 2) (x := r17) dX9_shape_28 rfl rfl ?_
      obtain ⟨a24, ho25, h⟩ := zbj_some h
      rw [ho25]
      obtain ⟨g26, hx27, h⟩ := zbj_some h
      refine sX_fa dX9_shape_29 hx27 ?_
      refine ez_aload_n (i := 0) (v := .ref a0) dX9_shape_30 rfl rfl rfl ?_
      refine ez_aload_n (i := 0) (v := .ref a0) dX9_shape_31 rfl rfl rfl ?_
      obtain ⟨i28, hx29, h⟩ := zbj_some h
      refine gX9_17 dX9_shape_32 rfl hx29 ?_
      refine ez_iconst (v := 1) dX9_shape_35 (by decide) ?_
      refine ez_iadd dX9_shape_36 ?_
      refine ez_aload_n (i := 0) (v := .ref a0) dX9_shape_37 rfl rfl rfl ?_
      obtain ⟨o30, hx31, h⟩ := zbj_some h
      refine gX9_7 dX9_shape_38 rfl hx31 ?_
      obtain ⟨a32, ho33, h⟩ := zbj_some h
      rw [ho33]
      obtain ⟨n34, hx35, h⟩ := zbj_some h
      obtain ⟨tT36, xT36, hE36, hT36, hN36⟩ := zaln_some hx35
      refine ez_alen (v := Int32.ofNat n34) dX9_shape_41 hE36 hT36 (by rw [hN36]) ?_
      refine ez_icmp_ne (tgt := 49) dX9_shape_42 (by decide) (fun hc => ?_) (fun hc => ?_)
      · replace h := zif_f hc h
        refine ez_aload_n (i := 0) (v := .ref a0) dX9_shape_49 rfl rfl rfl ?_
        obtain ⟨i37, hx38, h⟩ := zbj_some h
        refine gX9_17 dX9_shape_50 rfl hx38 ?_
        refine ez_iconst (v := 1) dX9_shape_53 (by decide) ?_
        refine ez_iadd dX9_shape_54 ?_
        obtain ⟨g39, hx40, h⟩ := zbj_some h
        refine pX9_17 (x := (i37 + (1 : Int32))) dX9_shape_55 rfl hx40 ?_
        refine ez_fload_n (i := 2) (x := r17) dX9_shape_58 rfl rfl ?_
        obtain rfl := Option.some.inj h
        exact ez_fret dX9_shape_59 rfl kq
      · replace h := zif_t hc h
        refine ez_iconst (v := 0) dX9_shape_45 (by decide) ?_
        refine ez_goto (tgt := 55) dX9_shape_46 (by decide) ?_
        obtain ⟨g41, hx42, h⟩ := zbj_some h
        refine pX9_17 (x := (0 : Int32)) dX9_shape_55 rfl hx42 ?_
        refine ez_fload_n (i := 2) (x := r17) dX9_shape_58 rfl rfl ?_
        obtain rfl := Option.some.inj h
        exact ez_fret dX9_shape_59 rfl kq
def YX10_shape : zM := (yX10_shape, cX10_shape, 2, (Option.some Jvm.ClassFile.FieldType.float), [], false)
theorem zkX10_shape : zMok YX10_shape := ⟨rfl, q773, by decide +kernel, by decide +kernel⟩
theorem znX10_shape : (parseMethodDescriptor YX10_shape.nm.desc).map (fun d => d.parameters.length) = some 1 := by decide +kernel
noncomputable def fX10_shape (g : zS) (a0 : Nat) (b0 : UInt32) : Option ((UInt32 ⊕ String) × zS) := zbj (zob g [9] a0) (fun ob1 => zbd (fX9_shape g a0 b0) (fun r3 g4 => zsm r3 (fun v6 => zbj (zgF g4 [9] a0 1) (fun f8 => zgd (FP.fIsNaN v6 = false) (zgd (FP.fIsNaN f8 = false) (some (.inl (Native.java_lang_Math.nans.pick32 true v6 f8), g4))))) (fun X7 => some (.inr X7, g4))))
theorem wX10_shape {G : zG} {d : Nat} {K : List Nat} {Q : zO → zS → Prop} {g : zS} {a0 : Nat} {b0 : UInt32} {p : (UInt32 ⊕ String) × zS} (h : fX10_shape g a0 b0 = some p) (kq : Q (zoF p.1 p.2) p.2) : zEM G (d + 9) K YX10_shape [.ref a0, .float b0] g Q := by
  show zEF G (d + 9) K YX10_shape 0 [some (.ref a0), some (.float b0)] [] g Q
  unfold fX10_shape at h
  refine ez_aload_n (i := 0) (v := .ref a0) dX10_shape_0 rfl rfl rfl ?_
  refine ez_fload_n (i := 1) (x := b0) dX10_shape_1 rfl rfl ?_
  obtain ⟨ob1, hx2, h⟩ := zbj_some h
  obtain ⟨r3, g4, hq5, h⟩ := zbd_some h
  refine ez_callSup (x := ⟨"ScoreThreads$Echo", "shape", "(F)F"⟩) (Y' := YX9_shape) (C := RX10) (Tt := TX10) (N := 6) (a := a0) (vs := [.float b0]) (rest := []) dX10_shape_2 rfl zkX9_shape q774 ⟨rfl, rfl⟩ q1330 q542 (Or.inl rfl) (by decide) q775 rfl (zob1 hx2) znX9_shape (Nat.le_of_ble_eq_true rfl) (Nat.le_of_ble_eq_true rfl) rfl (wX9_shape (d := d + 0) hq5 ?_)
  rcases r3 with v6 | X7
  · replace h := zsm_l h
    refine zBack_v ?_
    show zEF G (d + 9) K YX10_shape 5 [some (.ref a0), some (.float b0)] [.float v6] g4 Q
    refine ez_aload_n (i := 0) (v := .ref a0) dX10_shape_5 rfl rfl rfl ?_
    obtain ⟨f8, hx9, h⟩ := zbj_some h
    refine gX10_11 dX10_shape_6 rfl hx9 ?_
    obtain ⟨hg10, h⟩ := zgd_some h
    obtain ⟨hg11, h⟩ := zgd_some h
    refine ez_maxF dX10_shape_9 rfl q778 hg10 hg11 (Nat.le_of_ble_eq_true rfl) ?_
    obtain rfl := Option.some.inj h
    exact ez_fret dX10_shape_12 rfl kq
  · replace h := zsm_r h
    refine zBack_t ?_
    obtain rfl := Option.some.inj h
    exact zTH_out (fun x hx => by cases hx) kq
def YX11_init : zM := (yX11_init, cX11_init, 4, (Option.none : Option Jvm.ClassFile.FieldType), [], false)
theorem zkX11_init : zMok YX11_init := ⟨rfl, q547, by decide +kernel, by decide +kernel⟩
theorem znX11_init : (parseMethodDescriptor YX11_init.nm.desc).map (fun d => d.parameters.length) = some 3 := by decide +kernel
noncomputable def fX11_init (g : zS) (a0 : Nat) (b0 : Int32) (b1 : UInt32) (b2 : Int32) : Option (Unit × zS) := zbd (fX4_init g a0 b0 b1 b2) (fun _ g2 => some ((), g2))
theorem wX11_init {G : zG} {d : Nat} {K : List Nat} {Q : zO → zS → Prop} {g : zS} {a0 : Nat} {b0 : Int32} {b1 : UInt32} {b2 : Int32} {p : Unit × zS} (h : fX11_init g a0 b0 b1 b2 = some p) (kq : Q (.inl none) p.2) : zEM G (d + 2) K YX11_init [.ref a0, .int b0, .float b1, .int b2] g Q := by
  show zEF G (d + 2) K YX11_init 0 [some (.ref a0), some (.int b0), some (.float b1), some (.int b2)] [] g Q
  unfold fX11_init at h
  refine ez_aload_n (i := 0) (v := .ref a0) dX11_init_0 rfl rfl rfl ?_
  refine ez_iload_n (i := 1) (x := b0) dX11_init_1 rfl rfl ?_
  refine ez_fload_n (i := 2) (x := b1) dX11_init_2 rfl rfl ?_
  refine ez_iload_n (i := 3) (x := b2) dX11_init_3 rfl rfl ?_
  obtain ⟨r1, g2, hq3, h⟩ := zbd_some h
  refine ez_callI (Y' := YX4_init) (a := a0) (vs := [.int b0, .float b1, .int b2]) (rest := []) dX11_init_4 rfl zkX4_init rfl rfl rfl q548 q449 znX4_init (Nat.le_of_ble_eq_true rfl) (Nat.le_of_ble_eq_true rfl) rfl (wX4_init (d := d + 0) hq3 (zBack_n ?_))
  show zEF G (d + 2) K YX11_init 7 [some (.ref a0), some (.int b0), some (.float b1), some (.int b2)] [] g2 Q
  obtain rfl := Option.some.inj h
  exact ez_vret dX11_init_7 rfl kq
def YX11_shape : zM := (yX11_shape, cX11_shape, 2, (Option.some Jvm.ClassFile.FieldType.float), [], false)
theorem zkX11_shape : zMok YX11_shape := ⟨rfl, q797, by decide +kernel, by decide +kernel⟩
theorem znX11_shape : (parseMethodDescriptor YX11_shape.nm.desc).map (fun d => d.parameters.length) = some 1 := by decide +kernel
noncomputable def fX11_shape (g : zS) (a0 : Nat) (b0 : UInt32) : Option ((UInt32 ⊕ String) × zS) := zgd (vf_n32 b0) (zbj (zgF g [10] a0 1) (fun f2 => zgd (vf_n32 f2) (if 0 ≤ (Op.cmpValue (FP.fcmp (b0 &&& 0x7fffffff) (f2 &&& 0x7fffffff)) .g) then some (.inl b0, g) else zgd (FP.fIsNaN b0 = false) (some (.inl ((FP.fconst0 &&& 0x7fffffff) ||| (if b0 >>> 31 == 1 then 0x80000000 else 0)), g)))))
theorem wX11_shape {G : zG} {d : Nat} {K : List Nat} {Q : zO → zS → Prop} {g : zS} {a0 : Nat} {b0 : UInt32} {p : (UInt32 ⊕ String) × zS} (h : fX11_shape g a0 b0 = some p) (kq : Q (zoF p.1 p.2) p.2) : zEM G (d + 1) K YX11_shape [.ref a0, .float b0] g Q := by
  show zEF G (d + 1) K YX11_shape 0 [some (.ref a0), some (.float b0)] [] g Q
  unfold fX11_shape at h
  refine ez_fload_n (i := 1) (x := b0) dX11_shape_0 rfl rfl ?_
  obtain ⟨hg1, h⟩ := zgd_some h
  refine ez_absF dX11_shape_1 rfl q798 hg1 (Nat.le_of_ble_eq_true rfl) ?_
  refine ez_aload_n (i := 0) (v := .ref a0) dX11_shape_4 rfl rfl rfl ?_
  obtain ⟨f2, hx3, h⟩ := zbj_some h
  refine gX11_13 dX11_shape_5 rfl hx3 ?_
  obtain ⟨hg4, h⟩ := zgd_some h
  refine ez_absF dX11_shape_8 rfl q798 hg4 (Nat.le_of_ble_eq_true rfl) ?_
  refine ez_fcmp dX11_shape_11 ?_
  refine ez_if_ge (tgt := 23) dX11_shape_12 (by decide) (fun hc => ?_) (fun hc => ?_)
  · replace h := zif_t hc h
    refine ez_fload_n (i := 1) (x := b0) dX11_shape_23 rfl rfl ?_
    obtain rfl := Option.some.inj h
    exact ez_fret dX11_shape_24 rfl kq
  · replace h := zif_f hc h
    refine ez_fconst0 dX11_shape_15 ?_
    refine ez_fload_n (i := 1) (x := b0) dX11_shape_16 rfl rfl ?_
    obtain ⟨hg5, h⟩ := zgd_some h
    refine ez_copyF dX11_shape_17 rfl q803 hg5 (Nat.le_of_ble_eq_true rfl) ?_
    refine ez_goto (tgt := 24) dX11_shape_20 (by decide) ?_
    obtain rfl := Option.some.inj h
    exact ez_fret dX11_shape_24 rfl kq
def YX12_init : zM := (yX12_init, cX12_init, 5, (Option.none : Option Jvm.ClassFile.FieldType), [], false)
theorem zkX12_init : zMok YX12_init := ⟨rfl, q558, by decide +kernel, by decide +kernel⟩
theorem znX12_init : (parseMethodDescriptor YX12_init.nm.desc).map (fun d => d.parameters.length) = some 4 := by decide +kernel
noncomputable def fX12_init (g : zS) (a0 : Nat) (b0 : Int32) (b1 : UInt32) (b2 : Int32) (b3 : Nat) : Option (Unit × zS) := zbd (fX4_init g a0 b0 b1 b2) (fun _ g2 => zbj (zpV g2 [11] a0 4 (va_rf (some b3))) (fun g4 => some ((), g4)))
theorem wX12_init {G : zG} {d : Nat} {K : List Nat} {Q : zO → zS → Prop} {g : zS} {a0 : Nat} {b0 : Int32} {b1 : UInt32} {b2 : Int32} {b3 : Nat} {p : Unit × zS} (h : fX12_init g a0 b0 b1 b2 b3 = some p) (kq : Q (.inl none) p.2) : zEM G (d + 2) K YX12_init [.ref a0, .int b0, .float b1, .int b2, .ref b3] g Q := by
  show zEF G (d + 2) K YX12_init 0 [some (.ref a0), some (.int b0), some (.float b1), some (.int b2), some (.ref b3)] [] g Q
  unfold fX12_init at h
  refine ez_aload_n (i := 0) (v := .ref a0) dX12_init_0 rfl rfl rfl ?_
  refine ez_iload_n (i := 1) (x := b0) dX12_init_1 rfl rfl ?_
  refine ez_fload_n (i := 2) (x := b1) dX12_init_2 rfl rfl ?_
  refine ez_iload_n (i := 3) (x := b2) dX12_init_3 rfl rfl ?_
  obtain ⟨r1, g2, hq3, h⟩ := zbd_some h
  refine ez_callI (Y' := YX4_init) (a := a0) (vs := [.int b0, .float b1, .int b2]) (rest := []) dX12_init_4 rfl zkX4_init rfl rfl rfl q559 q449 znX4_init (Nat.le_of_ble_eq_true rfl) (Nat.le_of_ble_eq_true rfl) rfl (wX4_init (d := d + 0) hq3 (zBack_n ?_))
  show zEF G (d + 2) K YX12_init 7 [some (.ref a0), some (.int b0), some (.float b1), some (.int b2), some (.ref b3)] [] g2 Q
  refine ez_aload_n (i := 0) (v := .ref a0) dX12_init_7 rfl rfl rfl ?_
  refine ez_aload (i := 4) (v := .ref b3) dX12_init_8 rfl rfl ?_
  obtain ⟨g4, hx5, h⟩ := zbj_some h
  refine pX12_7 (x := (some b3)) dX12_init_10 rfl rfl hx5 ?_
  obtain rfl := Option.some.inj h
  exact ez_vret dX12_init_13 rfl kq
def YX3_sample : zM := (yX3_sample, cX3_sample, 2, (Option.some Jvm.ClassFile.FieldType.float), [], false)
theorem zkX3_sample : zMok YX3_sample := ⟨rfl, q407, by decide +kernel, by decide +kernel⟩
theorem znX3_sample : (parseMethodDescriptor YX3_sample.nm.desc).map (fun d => d.parameters.length) = some 1 := by decide +kernel
noncomputable def fX3_sample (g : zS) (a0 : Nat) (b0 : Int32) : Option ((UInt32 ⊕ String) × zS) := zbj (zgI g [3] a0 0) (fun i1 => if i1 = (0 : Int32) then zbj (zgN g [3] a0 2) (fun a3 => zgd (zaty g a3 = some 2) (zbj (zaln g a3) (fun n6 => zgd (n6 < 2 ^ 31) (if zout b0 n6 then zgd (3 ≤ g.rc ∧ 300 ≤ g.rs) (some (.inr zAIO, (zxg g))) else zbj (zaI g 2 a3 b0) (fun e9 => zgd (vf_n64 (FP.ddiv (FP.i2d e9) (4638707616191610880 : UInt64))) (zgd (vf_n32 (FP.d2f (FP.ddiv (FP.i2d e9) (4638707616191610880 : UInt64)))) (some (.inl (FP.d2f (FP.ddiv (FP.i2d e9) (4638707616191610880 : UInt64))), g)))))))) else if i1 = (1 : Int32) then zbj (zgN g [3] a0 2) (fun a14 => zgd (zaty g a14 = some 3) (zbj (zaln g a14) (fun n17 => zgd (n17 < 2 ^ 31) (if zout b0 n17 then zgd (3 ≤ g.rc ∧ 300 ≤ g.rs) (some (.inr zAIO, (zxg g))) else zbj (zaI g 3 a14 b0) (fun e20 => zgd (vf_n64 (FP.ddiv (FP.i2d e20) (4674736413210574848 : UInt64))) (zgd (vf_n32 (FP.d2f (FP.ddiv (FP.i2d e20) (4674736413210574848 : UInt64)))) (some (.inl (FP.d2f (FP.ddiv (FP.i2d e20) (4674736413210574848 : UInt64))), g)))))))) else if i1 = (2 : Int32) then zbj (zgN g [3] a0 2) (fun a25 => zgd (zaty g a25 = some 0) (zbj (zaln g a25) (fun n28 => zgd (n28 < 2 ^ 31) (if zout b0 n28 then zgd (3 ≤ g.rc ∧ 300 ≤ g.rs) (some (.inr zAIO, (zxg g))) else zbj (zaI g 0 a25 b0) (fun e31 => zgd (vf_n64 (FP.ddiv (FP.i2d e31) (4746794007248502784 : UInt64))) (zgd (vf_n32 (FP.d2f (FP.ddiv (FP.i2d e31) (4746794007248502784 : UInt64)))) (some (.inl (FP.d2f (FP.ddiv (FP.i2d e31) (4746794007248502784 : UInt64))), g)))))))) else if i1 = (3 : Int32) then zbj (zgN g [3] a0 2) (fun a36 => zgd (zaty g a36 = some 1) (zbj (zaln g a36) (fun n39 => zgd (n39 < 2 ^ 31) (if zout b0 n39 then zgd (3 ≤ g.rc ∧ 300 ≤ g.rs) (some (.inr zAIO, (zxg g))) else zbj (zaF g 1 a36 b0) (fun e42 => zbj (fX0_clipped e42) (fun r45 => some (.inl r45, g))))))) else zbj (zgN g [3] a0 2) (fun a48 => zgd (zaty g a48 = some 4) (zbj (zaln g a48) (fun n51 => zgd (n51 < 2 ^ 31) (if zout b0 n51 then zgd (3 ≤ g.rc ∧ 300 ≤ g.rs) (some (.inr zAIO, (zxg g))) else zbj (zaD g 4 a48 b0) (fun e54 => zgd (vf_n32 (FP.d2f e54)) (zbj (fX0_clipped (FP.d2f e54)) (fun r58 => some (.inl r58, g)))))))))
theorem wX3_sample {G : zG} {d : Nat} {K : List Nat} {Q : zO → zS → Prop} {g : zS} {a0 : Nat} {b0 : Int32} {p : (UInt32 ⊕ String) × zS} (h : fX3_sample g a0 b0 = some p) (kq : Q (zoF p.1 p.2) p.2) : zEM G (d + 8) K YX3_sample [.ref a0, .int b0] g Q := by
  show zEF G (d + 8) K YX3_sample 0 [some (.ref a0), some (.int b0)] [] g Q
  unfold fX3_sample at h
  refine ez_aload_n (i := 0) (v := .ref a0) dX3_sample_0 rfl rfl rfl ?_
  obtain ⟨i1, hx2, h⟩ := zbj_some h
  refine gX3_7 dX3_sample_1 rfl hx2 ?_
  by_cases hs0 : i1 = (0 : Int32)
  · replace h := zif_t hs0 h
    refine ez_tableIn (tgt := 36) (off := 32) dX3_sample_4 (by rw [hs0]; decide) (by rw [hs0]; decide) (by rw [hs0]; rfl) (by decide) ?_
    refine ez_aload_n (i := 0) (v := .ref a0) dX3_sample_36 rfl rfl rfl ?_
    obtain ⟨a3, hx4, h⟩ := zbj_some h
    refine gX3_20 dX3_sample_37 rfl (zgN_some hx4) ?_
    show zEF G (d + 8) K YX3_sample 40 [some (.ref a0), some (.int b0)] [.ref a3] g Q
    obtain ⟨hg5, h⟩ := zgd_some h
    refine cX_arr2 dX3_sample_40 rfl hg5 ?_
    refine ez_iload_n (i := 1) (x := b0) dX3_sample_43 rfl rfl ?_
    obtain ⟨n6, hx7, h⟩ := zbj_some h
    obtain ⟨hg8, h⟩ := zgd_some h
    by_cases hc : zout b0 n6
    · replace h := zif_t hc h
      obtain ⟨tT, xT, hE, hT, hN⟩ := zaln_some hx7
      obtain ⟨hr11, h⟩ := zgd_some h
      refine ex_balO (i := b0) dX3_sample_44 hE hT (by rw [hN]; exact hg8) (by rw [hN]; exact hc) (Nat.le_of_ble_eq_true rfl) hr11.1 hr11.2 ?_
      obtain rfl := Option.some.inj h
      exact zTH_out (fun x hx => by cases hx) kq
    · replace h := zif_f hc h
      obtain ⟨e9, hx10, h⟩ := zbj_some h
      refine lX_ba dX3_sample_44 hx10 ?_
      refine ez_i2d dX3_sample_45 ?_
      refine ez_ldc2d dX3_sample_46 rfl q408 ?_
      obtain ⟨hg12, h⟩ := zgd_some h
      refine ez_ddiv dX3_sample_49 hg12 ?_
      obtain ⟨hg13, h⟩ := zgd_some h
      refine ez_d2f dX3_sample_50 hg13 ?_
      obtain rfl := Option.some.inj h
      exact ez_fret dX3_sample_51 rfl kq
  · replace h := zif_f hs0 h
    by_cases hs1 : i1 = (1 : Int32)
    · replace h := zif_t hs1 h
      refine ez_tableIn (tgt := 52) (off := 48) dX3_sample_4 (by rw [hs1]; decide) (by rw [hs1]; decide) (by rw [hs1]; rfl) (by decide) ?_
      refine ez_aload_n (i := 0) (v := .ref a0) dX3_sample_52 rfl rfl rfl ?_
      obtain ⟨a14, hx15, h⟩ := zbj_some h
      refine gX3_20 dX3_sample_53 rfl (zgN_some hx15) ?_
      show zEF G (d + 8) K YX3_sample 56 [some (.ref a0), some (.int b0)] [.ref a14] g Q
      obtain ⟨hg16, h⟩ := zgd_some h
      refine cX_arr3 dX3_sample_56 rfl hg16 ?_
      refine ez_iload_n (i := 1) (x := b0) dX3_sample_59 rfl rfl ?_
      obtain ⟨n17, hx18, h⟩ := zbj_some h
      obtain ⟨hg19, h⟩ := zgd_some h
      by_cases hc : zout b0 n17
      · replace h := zif_t hc h
        obtain ⟨tT, xT, hE, hT, hN⟩ := zaln_some hx18
        obtain ⟨hr22, h⟩ := zgd_some h
        refine ex_salO (i := b0) dX3_sample_60 hE hT (by rw [hN]; exact hg19) (by rw [hN]; exact hc) (Nat.le_of_ble_eq_true rfl) hr22.1 hr22.2 ?_
        obtain rfl := Option.some.inj h
        exact zTH_out (fun x hx => by cases hx) kq
      · replace h := zif_f hc h
        obtain ⟨e20, hx21, h⟩ := zbj_some h
        refine lX_sa dX3_sample_60 hx21 ?_
        refine ez_i2d dX3_sample_61 ?_
        refine ez_ldc2d dX3_sample_62 rfl q409 ?_
        obtain ⟨hg23, h⟩ := zgd_some h
        refine ez_ddiv dX3_sample_65 hg23 ?_
        obtain ⟨hg24, h⟩ := zgd_some h
        refine ez_d2f dX3_sample_66 hg24 ?_
        obtain rfl := Option.some.inj h
        exact ez_fret dX3_sample_67 rfl kq
    · replace h := zif_f hs1 h
      by_cases hs2 : i1 = (2 : Int32)
      · replace h := zif_t hs2 h
        refine ez_tableIn (tgt := 68) (off := 64) dX3_sample_4 (by rw [hs2]; decide) (by rw [hs2]; decide) (by rw [hs2]; rfl) (by decide) ?_
        refine ez_aload_n (i := 0) (v := .ref a0) dX3_sample_68 rfl rfl rfl ?_
        obtain ⟨a25, hx26, h⟩ := zbj_some h
        refine gX3_20 dX3_sample_69 rfl (zgN_some hx26) ?_
        show zEF G (d + 8) K YX3_sample 72 [some (.ref a0), some (.int b0)] [.ref a25] g Q
        obtain ⟨hg27, h⟩ := zgd_some h
        refine cX_arr0 dX3_sample_72 rfl hg27 ?_
        refine ez_iload_n (i := 1) (x := b0) dX3_sample_75 rfl rfl ?_
        obtain ⟨n28, hx29, h⟩ := zbj_some h
        obtain ⟨hg30, h⟩ := zgd_some h
        by_cases hc : zout b0 n28
        · replace h := zif_t hc h
          obtain ⟨tT, xT, hE, hT, hN⟩ := zaln_some hx29
          obtain ⟨hr33, h⟩ := zgd_some h
          refine ex_ialO (i := b0) dX3_sample_76 hE hT (by rw [hN]; exact hg30) (by rw [hN]; exact hc) (Nat.le_of_ble_eq_true rfl) hr33.1 hr33.2 ?_
          obtain rfl := Option.some.inj h
          exact zTH_out (fun x hx => by cases hx) kq
        · replace h := zif_f hc h
          obtain ⟨e31, hx32, h⟩ := zbj_some h
          refine lX_ia dX3_sample_76 hx32 ?_
          refine ez_i2d dX3_sample_77 ?_
          refine ez_ldc2d dX3_sample_78 rfl q410 ?_
          obtain ⟨hg34, h⟩ := zgd_some h
          refine ez_ddiv dX3_sample_81 hg34 ?_
          obtain ⟨hg35, h⟩ := zgd_some h
          refine ez_d2f dX3_sample_82 hg35 ?_
          obtain rfl := Option.some.inj h
          exact ez_fret dX3_sample_83 rfl kq
      · replace h := zif_f hs2 h
        by_cases hs3 : i1 = (3 : Int32)
        · replace h := zif_t hs3 h
          refine ez_tableIn (tgt := 84) (off := 80) dX3_sample_4 (by rw [hs3]; decide) (by rw [hs3]; decide) (by rw [hs3]; rfl) (by decide) ?_
          refine ez_aload_n (i := 0) (v := .ref a0) dX3_sample_84 rfl rfl rfl ?_
          obtain ⟨a36, hx37, h⟩ := zbj_some h
          refine gX3_20 dX3_sample_85 rfl (zgN_some hx37) ?_
          show zEF G (d + 8) K YX3_sample 88 [some (.ref a0), some (.int b0)] [.ref a36] g Q
          obtain ⟨hg38, h⟩ := zgd_some h
          refine cX_arr1 dX3_sample_88 rfl hg38 ?_
          refine ez_iload_n (i := 1) (x := b0) dX3_sample_91 rfl rfl ?_
          obtain ⟨n39, hx40, h⟩ := zbj_some h
          obtain ⟨hg41, h⟩ := zgd_some h
          by_cases hc : zout b0 n39
          · replace h := zif_t hc h
            obtain ⟨tT, xT, hE, hT, hN⟩ := zaln_some hx40
            obtain ⟨hr44, h⟩ := zgd_some h
            refine ex_falO (i := b0) dX3_sample_92 hE hT (by rw [hN]; exact hg41) (by rw [hN]; exact hc) (Nat.le_of_ble_eq_true rfl) hr44.1 hr44.2 ?_
            obtain rfl := Option.some.inj h
            exact zTH_out (fun x hx => by cases hx) kq
          · replace h := zif_f hc h
            obtain ⟨e42, hx43, h⟩ := zbj_some h
            refine lX_fa dX3_sample_92 hx43 ?_
            obtain ⟨r45, hq47, h⟩ := zbj_some h
            refine ez_callSN (Y' := YX0_clipped) (vs := [.float e42]) (rest := []) dX3_sample_93 rfl zkX0_clipped q411 q412 q52 znX0_clipped (Nat.le_of_ble_eq_true rfl) (Nat.le_of_ble_eq_true rfl) rfl (wX0_clipped (d := d + 7) hq47 (zBack_v ?_))
            show zEF G (d + 8) K YX3_sample 96 [some (.ref a0), some (.int b0)] [.float r45] g Q
            obtain rfl := Option.some.inj h
            exact ez_fret dX3_sample_96 rfl kq
        · replace h := zif_f hs3 h
          have he0 : i1.toInt ≠ 0 := zsw_ne hs0
          have he1 : i1.toInt ≠ 1 := zsw_ne hs1
          have he2 : i1.toInt ≠ 2 := zsw_ne hs2
          have he3 : i1.toInt ≠ 3 := zsw_ne hs3
          refine ez_tableOut (tgt := 97) dX3_sample_4 (by omega) (by decide) ?_
          refine ez_aload_n (i := 0) (v := .ref a0) dX3_sample_97 rfl rfl rfl ?_
          obtain ⟨a48, hx49, h⟩ := zbj_some h
          refine gX3_20 dX3_sample_98 rfl (zgN_some hx49) ?_
          show zEF G (d + 8) K YX3_sample 101 [some (.ref a0), some (.int b0)] [.ref a48] g Q
          obtain ⟨hg50, h⟩ := zgd_some h
          refine cX_arr4 dX3_sample_101 rfl hg50 ?_
          refine ez_iload_n (i := 1) (x := b0) dX3_sample_104 rfl rfl ?_
          obtain ⟨n51, hx52, h⟩ := zbj_some h
          obtain ⟨hg53, h⟩ := zgd_some h
          by_cases hc : zout b0 n51
          · replace h := zif_t hc h
            obtain ⟨tT, xT, hE, hT, hN⟩ := zaln_some hx52
            obtain ⟨hr56, h⟩ := zgd_some h
            refine ex_dalO (i := b0) dX3_sample_105 hE hT (by rw [hN]; exact hg53) (by rw [hN]; exact hc) (Nat.le_of_ble_eq_true rfl) hr56.1 hr56.2 ?_
            obtain rfl := Option.some.inj h
            exact zTH_out (fun x hx => by cases hx) kq
          · replace h := zif_f hc h
            obtain ⟨e54, hx55, h⟩ := zbj_some h
            refine lX_da dX3_sample_105 hx55 ?_
            obtain ⟨hg57, h⟩ := zgd_some h
            refine ez_d2f dX3_sample_106 hg57 ?_
            obtain ⟨r58, hq60, h⟩ := zbj_some h
            refine ez_callSN (Y' := YX0_clipped) (vs := [.float (FP.d2f e54)]) (rest := []) dX3_sample_107 rfl zkX0_clipped q411 q412 q52 znX0_clipped (Nat.le_of_ble_eq_true rfl) (Nat.le_of_ble_eq_true rfl) rfl (wX0_clipped (d := d + 7) hq60 (zBack_v ?_))
            show zEF G (d + 8) K YX3_sample 110 [some (.ref a0), some (.int b0)] [.float r58] g Q
            obtain rfl := Option.some.inj h
            exact ez_fret dX3_sample_110 rfl kq
def YX12_shape : zM := (yX12_shape, cX12_shape, 2, (Option.some Jvm.ClassFile.FieldType.float), [], false)
theorem zkX12_shape : zMok YX12_shape := ⟨rfl, q832, by decide +kernel, by decide +kernel⟩
theorem znX12_shape : (parseMethodDescriptor YX12_shape.nm.desc).map (fun d => d.parameters.length) = some 1 := by decide +kernel
noncomputable def fX12_shape (g : zS) (a0 : Nat) (b0 : UInt32) : Option ((UInt32 ⊕ String) × zS) := zbj (zgN g [11] a0 4) (fun a1 => zgd (vf_n32 (FP.fadd b0 (1090519040 : UInt32))) (zgd (vf_n32 (FP.fmul (FP.fadd b0 (1090519040 : UInt32)) (1082130432 : UInt32))) (zbj (zob g [3] a1) (fun ob5 => zbd (fX3_sample g a1 (FP.f2i (FP.fmul (FP.fadd b0 (1090519040 : UInt32)) (1082130432 : UInt32)))) (fun r7 g8 => zsm r7 (fun v10 => some (.inl v10, g8)) (fun X11 => some (.inr X11, g8)))))))
theorem wX12_shape {G : zG} {d : Nat} {K : List Nat} {Q : zO → zS → Prop} {g : zS} {a0 : Nat} {b0 : UInt32} {p : (UInt32 ⊕ String) × zS} (h : fX12_shape g a0 b0 = some p) (kq : Q (zoF p.1 p.2) p.2) : zEM G (d + 9) K YX12_shape [.ref a0, .float b0] g Q := by
  show zEF G (d + 9) K YX12_shape 0 [some (.ref a0), some (.float b0)] [] g Q
  unfold fX12_shape at h
  refine ez_aload_n (i := 0) (v := .ref a0) dX12_shape_0 rfl rfl rfl ?_
  obtain ⟨a1, hx2, h⟩ := zbj_some h
  refine gX12_7 dX12_shape_1 rfl (zgN_some hx2) ?_
  show zEF G (d + 9) K YX12_shape 4 [some (.ref a0), some (.float b0)] [.ref a1] g Q
  refine ez_fload_n (i := 1) (x := b0) dX12_shape_4 rfl rfl ?_
  refine ez_ldcf dX12_shape_5 rfl q833 ?_
  obtain ⟨hg3, h⟩ := zgd_some h
  refine ez_fadd dX12_shape_7 hg3 ?_
  refine ez_ldcf dX12_shape_8 rfl q834 ?_
  obtain ⟨hg4, h⟩ := zgd_some h
  refine ez_fmul dX12_shape_10 hg4 ?_
  refine ez_f2i dX12_shape_11 ?_
  obtain ⟨ob5, hx6, h⟩ := zbj_some h
  obtain ⟨r7, g8, hq9, h⟩ := zbd_some h
  refine ez_callV (C := RX3) (Tt := TX3) (N := 3) (Y' := YX3_sample) (a := a1) (vs := [.int (FP.f2i (FP.fmul (FP.fadd b0 (1090519040 : UInt32)) (1082130432 : UInt32)))]) (rest := []) dX12_shape_12 rfl zkX3_sample q835 q405 rfl q406 (zob1 hx6) znX3_sample (Nat.le_of_ble_eq_true rfl) (Nat.le_of_ble_eq_true rfl) rfl (wX3_sample (d := d + 0) hq9 ?_)
  rcases r7 with v10 | X11
  · replace h := zsm_l h
    refine zBack_v ?_
    show zEF G (d + 9) K YX12_shape 15 [some (.ref a0), some (.float b0)] [.float v10] g8 Q
    obtain rfl := Option.some.inj h
    exact ez_fret dX12_shape_15 rfl kq
  · replace h := zsm_r h
    refine zBack_t ?_
    obtain rfl := Option.some.inj h
    exact zTH_out (fun x hx => by cases hx) kq
def YX3_newRow : zM := (yX3_newRow, cX3_newRow, 2, (Option.some (Jvm.ClassFile.FieldType.object "java/lang/Object")), [], false)
theorem zkX3_newRow : zMok YX3_newRow := ⟨rfl, q316, by decide +kernel, by decide +kernel⟩
theorem znX3_newRow : (parseMethodDescriptor YX3_newRow.nm.desc).map (fun d => d.parameters.length) = some 2 := by decide +kernel
noncomputable def fX3_newRow (g : zS) (b0 : Int32) (b1 : Int32) : Option ((Nat ⊕ String) × zS) := if b0 = (0 : Int32) then if b1 < 0 then zgd (3 ≤ g.rc ∧ 300 ≤ g.rs) (some (.inr zNAS, (zxg g))) else zgd (1 ≤ g.rc ∧ b1.toNatClampNeg ≤ g.rs ∧ b1.toNatClampNeg * 8 ≤ 536870912) (zlet (znew g (.inl (2, za0 2 b1.toNatClampNeg)) b1.toNatClampNeg) (fun g3 => some (.inl g.sz, g3))) else if b0 = (1 : Int32) then if b1 < 0 then zgd (3 ≤ g.rc ∧ 300 ≤ g.rs) (some (.inr zNAS, (zxg g))) else zgd (1 ≤ g.rc ∧ b1.toNatClampNeg ≤ g.rs ∧ b1.toNatClampNeg * 8 ≤ 536870912) (zlet (znew g (.inl (3, za0 3 b1.toNatClampNeg)) b1.toNatClampNeg) (fun g6 => some (.inl g.sz, g6))) else if b0 = (2 : Int32) then if b1 < 0 then zgd (3 ≤ g.rc ∧ 300 ≤ g.rs) (some (.inr zNAS, (zxg g))) else zgd (1 ≤ g.rc ∧ b1.toNatClampNeg ≤ g.rs ∧ b1.toNatClampNeg * 8 ≤ 536870912) (zlet (znew g (.inl (0, za0 0 b1.toNatClampNeg)) b1.toNatClampNeg) (fun g9 => some (.inl g.sz, g9))) else if b0 = (3 : Int32) then if b1 < 0 then zgd (3 ≤ g.rc ∧ 300 ≤ g.rs) (some (.inr zNAS, (zxg g))) else zgd (1 ≤ g.rc ∧ b1.toNatClampNeg ≤ g.rs ∧ b1.toNatClampNeg * 8 ≤ 536870912) (zlet (znew g (.inl (1, za0 1 b1.toNatClampNeg)) b1.toNatClampNeg) (fun g12 => some (.inl g.sz, g12))) else if b1 < 0 then zgd (3 ≤ g.rc ∧ 300 ≤ g.rs) (some (.inr zNAS, (zxg g))) else zgd (1 ≤ g.rc ∧ b1.toNatClampNeg ≤ g.rs ∧ b1.toNatClampNeg * 8 ≤ 536870912) (zlet (znew g (.inl (4, za0 4 b1.toNatClampNeg)) b1.toNatClampNeg) (fun g15 => some (.inl g.sz, g15)))
theorem wX3_newRow {G : zG} {d : Nat} {K : List Nat} {Q : zO → zS → Prop} {g : zS} {b0 : Int32} {b1 : Int32} {p : (Nat ⊕ String) × zS} (h : fX3_newRow g b0 b1 = some p) (kq : Q (zoR p.1 p.2) p.2) : zEM G (d + 8) K YX3_newRow [.int b0, .int b1] g Q := by
  show zEF G (d + 8) K YX3_newRow 0 [some (.int b0), some (.int b1)] [] g Q
  unfold fX3_newRow at h
  refine ez_iload_n (i := 0) (x := b0) dX3_newRow_0 rfl rfl ?_
  by_cases hs0 : b0 = (0 : Int32)
  · replace h := zif_t hs0 h
    refine ez_tableIn (tgt := 32) (off := 31) dX3_newRow_1 (by rw [hs0]; decide) (by rw [hs0]; decide) (by rw [hs0]; rfl) (by decide) ?_
    refine ez_iload_n (i := 1) (x := b1) dX3_newRow_32 rfl rfl ?_
    by_cases hc : b1 < 0
    · replace h := zif_t hc h
      obtain ⟨hr1, h⟩ := zgd_some h
      refine ex_newa (n := b1) dX3_newRow_33 hc (Nat.le_of_ble_eq_true rfl) hr1.1 hr1.2 ?_
      obtain rfl := Option.some.inj h
      exact zTH_out (fun x hx => by cases hx) kq
    · replace h := zif_f hc h
      obtain ⟨hr2, h⟩ := zgd_some h
      refine ez_newa 2 (by decide) dX3_newRow_33 rfl q301 hc rfl hr2.2.2 hr2.1 hr2.2.1 ?_
      refine zlet_use (fun g3 => zEF G (d + 8) K YX3_newRow 35 [some (.int b0), some (.int b1)] [.ref g.sz] g3 Q) h (fun g3 h => ?_)
      obtain rfl := Option.some.inj h
      exact ez_aret dX3_newRow_35 rfl rfl rfl kq
  · replace h := zif_f hs0 h
    by_cases hs1 : b0 = (1 : Int32)
    · replace h := zif_t hs1 h
      refine ez_tableIn (tgt := 36) (off := 35) dX3_newRow_1 (by rw [hs1]; decide) (by rw [hs1]; decide) (by rw [hs1]; rfl) (by decide) ?_
      refine ez_iload_n (i := 1) (x := b1) dX3_newRow_36 rfl rfl ?_
      by_cases hc : b1 < 0
      · replace h := zif_t hc h
        obtain ⟨hr4, h⟩ := zgd_some h
        refine ex_newa (n := b1) dX3_newRow_37 hc (Nat.le_of_ble_eq_true rfl) hr4.1 hr4.2 ?_
        obtain rfl := Option.some.inj h
        exact zTH_out (fun x hx => by cases hx) kq
      · replace h := zif_f hc h
        obtain ⟨hr5, h⟩ := zgd_some h
        refine ez_newa 3 (by decide) dX3_newRow_37 rfl q327 hc rfl hr5.2.2 hr5.1 hr5.2.1 ?_
        refine zlet_use (fun g6 => zEF G (d + 8) K YX3_newRow 39 [some (.int b0), some (.int b1)] [.ref g.sz] g6 Q) h (fun g6 h => ?_)
        obtain rfl := Option.some.inj h
        exact ez_aret dX3_newRow_39 rfl rfl rfl kq
    · replace h := zif_f hs1 h
      by_cases hs2 : b0 = (2 : Int32)
      · replace h := zif_t hs2 h
        refine ez_tableIn (tgt := 40) (off := 39) dX3_newRow_1 (by rw [hs2]; decide) (by rw [hs2]; decide) (by rw [hs2]; rfl) (by decide) ?_
        refine ez_iload_n (i := 1) (x := b1) dX3_newRow_40 rfl rfl ?_
        by_cases hc : b1 < 0
        · replace h := zif_t hc h
          obtain ⟨hr7, h⟩ := zgd_some h
          refine ex_newa (n := b1) dX3_newRow_41 hc (Nat.le_of_ble_eq_true rfl) hr7.1 hr7.2 ?_
          obtain rfl := Option.some.inj h
          exact zTH_out (fun x hx => by cases hx) kq
        · replace h := zif_f hc h
          obtain ⟨hr8, h⟩ := zgd_some h
          refine ez_newa 0 (by decide) dX3_newRow_41 rfl q152 hc rfl hr8.2.2 hr8.1 hr8.2.1 ?_
          refine zlet_use (fun g9 => zEF G (d + 8) K YX3_newRow 43 [some (.int b0), some (.int b1)] [.ref g.sz] g9 Q) h (fun g9 h => ?_)
          obtain rfl := Option.some.inj h
          exact ez_aret dX3_newRow_43 rfl rfl rfl kq
      · replace h := zif_f hs2 h
        by_cases hs3 : b0 = (3 : Int32)
        · replace h := zif_t hs3 h
          refine ez_tableIn (tgt := 44) (off := 43) dX3_newRow_1 (by rw [hs3]; decide) (by rw [hs3]; decide) (by rw [hs3]; rfl) (by decide) ?_
          refine ez_iload_n (i := 1) (x := b1) dX3_newRow_44 rfl rfl ?_
          by_cases hc : b1 < 0
          · replace h := zif_t hc h
            obtain ⟨hr10, h⟩ := zgd_some h
            refine ex_newa (n := b1) dX3_newRow_45 hc (Nat.le_of_ble_eq_true rfl) hr10.1 hr10.2 ?_
            obtain rfl := Option.some.inj h
            exact zTH_out (fun x hx => by cases hx) kq
          · replace h := zif_f hc h
            obtain ⟨hr11, h⟩ := zgd_some h
            refine ez_newa 1 (by decide) dX3_newRow_45 rfl q153 hc rfl hr11.2.2 hr11.1 hr11.2.1 ?_
            refine zlet_use (fun g12 => zEF G (d + 8) K YX3_newRow 47 [some (.int b0), some (.int b1)] [.ref g.sz] g12 Q) h (fun g12 h => ?_)
            obtain rfl := Option.some.inj h
            exact ez_aret dX3_newRow_47 rfl rfl rfl kq
        · replace h := zif_f hs3 h
          have he0 : b0.toInt ≠ 0 := zsw_ne hs0
          have he1 : b0.toInt ≠ 1 := zsw_ne hs1
          have he2 : b0.toInt ≠ 2 := zsw_ne hs2
          have he3 : b0.toInt ≠ 3 := zsw_ne hs3
          refine ez_tableOut (tgt := 48) dX3_newRow_1 (by omega) (by decide) ?_
          refine ez_iload_n (i := 1) (x := b1) dX3_newRow_48 rfl rfl ?_
          by_cases hc : b1 < 0
          · replace h := zif_t hc h
            obtain ⟨hr13, h⟩ := zgd_some h
            refine ex_newa (n := b1) dX3_newRow_49 hc (Nat.le_of_ble_eq_true rfl) hr13.1 hr13.2 ?_
            obtain rfl := Option.some.inj h
            exact zTH_out (fun x hx => by cases hx) kq
          · replace h := zif_f hc h
            obtain ⟨hr14, h⟩ := zgd_some h
            refine ez_newa 4 (by decide) dX3_newRow_49 rfl q328 hc rfl hr14.2.2 hr14.1 hr14.2.1 ?_
            refine zlet_use (fun g15 => zEF G (d + 8) K YX3_newRow 51 [some (.int b0), some (.int b1)] [.ref g.sz] g15 Q) h (fun g15 h => ?_)
            obtain rfl := Option.some.inj h
            exact ez_aret dX3_newRow_51 rfl rfl rfl kq
def YX3_init : zM := (yX3_init, cX3_init, 3, (Option.none : Option Jvm.ClassFile.FieldType), [], false)
theorem zkX3_init : zMok YX3_init := ⟨rfl, q312, by decide +kernel, by decide +kernel⟩
theorem znX3_init : (parseMethodDescriptor YX3_init.nm.desc).map (fun d => d.parameters.length) = some 2 := by decide +kernel
noncomputable def fX3_init (g : zS) (a0 : Nat) (b0 : Int32) (b1 : Int32) : Option ((Unit ⊕ String) × zS) := zbj (zpV g [3] a0 0 (.int b0)) (fun g1 => zbj (zpV g1 [3] a0 1 (.int b1)) (fun g3 => zbd (fX3_newRow g3 b0 b1) (fun r5 g6 => zsm r5 (fun v8 => zbj (zpV g6 [3] a0 2 (va_rf (some v8))) (fun g10 => some (.inl (), g10))) (fun X9 => some (.inr X9, g6)))))
theorem wX3_init {G : zG} {d : Nat} {K : List Nat} {Q : zO → zS → Prop} {g : zS} {a0 : Nat} {b0 : Int32} {b1 : Int32} {p : (Unit ⊕ String) × zS} (h : fX3_init g a0 b0 b1 = some p) (kq : Q (zoV p.1 p.2) p.2) : zEM G (d + 9) K YX3_init [.ref a0, .int b0, .int b1] g Q := by
  show zEF G (d + 9) K YX3_init 0 [some (.ref a0), some (.int b0), some (.int b1)] [] g Q
  unfold fX3_init at h
  refine ez_aload_n (i := 0) (v := .ref a0) dX3_init_0 rfl rfl rfl ?_
  refine ez_objInit dX3_init_1 rfl q313 q87 q88 (Nat.le_of_ble_eq_true rfl) ?_
  refine ez_aload_n (i := 0) (v := .ref a0) dX3_init_4 rfl rfl rfl ?_
  refine ez_iload_n (i := 1) (x := b0) dX3_init_5 rfl rfl ?_
  obtain ⟨g1, hx2, h⟩ := zbj_some h
  refine pX3_7 (x := b0) dX3_init_6 rfl rfl hx2 ?_
  refine ez_aload_n (i := 0) (v := .ref a0) dX3_init_9 rfl rfl rfl ?_
  refine ez_iload_n (i := 2) (x := b1) dX3_init_10 rfl rfl ?_
  obtain ⟨g3, hx4, h⟩ := zbj_some h
  refine pX3_13 (x := b1) dX3_init_11 rfl rfl hx4 ?_
  refine ez_aload_n (i := 0) (v := .ref a0) dX3_init_14 rfl rfl rfl ?_
  refine ez_iload_n (i := 1) (x := b0) dX3_init_15 rfl rfl ?_
  refine ez_iload_n (i := 2) (x := b1) dX3_init_16 rfl rfl ?_
  obtain ⟨r5, g6, hq7, h⟩ := zbd_some h
  refine ez_callS (Y' := YX3_newRow) (vs := [.int b0, .int b1]) (rest := [.ref a0]) dX3_init_17 rfl zkX3_newRow q314 q315 q60 znX3_newRow (Nat.le_of_ble_eq_true rfl) (Nat.le_of_ble_eq_true rfl) rfl (wX3_newRow (d := d + 0) hq7 ?_)
  rcases r5 with v8 | X9
  · replace h := zsm_l h
    refine zBack_v ?_
    show zEF G (d + 9) K YX3_init 20 [some (.ref a0), some (.int b0), some (.int b1)] [.ref v8, .ref a0] g6 Q
    obtain ⟨g10, hx11, h⟩ := zbj_some h
    refine pX3_20 (x := (some v8)) dX3_init_20 rfl rfl hx11 ?_
    obtain rfl := Option.some.inj h
    exact ez_vret dX3_init_23 rfl kq
  · replace h := zsm_r h
    refine zBack_t ?_
    obtain rfl := Option.some.inj h
    exact zTH_out (fun x hx => by cases hx) kq
def YX3_put : zM := (yX3_put, cX3_put, 5, (Option.none : Option Jvm.ClassFile.FieldType), [], false)
theorem zkX3_put : zMok YX3_put := ⟨rfl, q384, by decide +kernel, by decide +kernel⟩
theorem znX3_put : (parseMethodDescriptor YX3_put.nm.desc).map (fun d => d.parameters.length) = some 3 := by decide +kernel
noncomputable def fX3_put (g : zS) (a0 : Nat) (b0 : Int32) (b1 : Int32) (b2 : Int64) : Option ((Unit ⊕ String) × zS) := if b0 = (0 : Int32) then zbj (zgN g [3] a0 2) (fun a1 => zbj (zaty g a1) (fun t3 => if t3 = 2 then zbj (zaln g a1) (fun n6 => zgd (n6 < 2 ^ 31) (if zout b1 n6 then zgd (3 ≤ g.rc ∧ 300 ≤ g.rs) (some (.inr zAIO, (zxg g))) else zbj (zsI g 2 a1 b1 (((b2.toInt32).toInt8.toInt32).toInt8.toInt32)) (fun g9 => some (.inl (), g9)))) else zgd (3 ≤ g.rc ∧ 300 ≤ g.rs) (some (.inr zCCE, (zxg g))))) else if b0 = (1 : Int32) then zbj (zgN g [3] a0 2) (fun a12 => zbj (zaty g a12) (fun t14 => if t14 = 3 then zbj (zaln g a12) (fun n17 => zgd (n17 < 2 ^ 31) (if zout b1 n17 then zgd (3 ≤ g.rc ∧ 300 ≤ g.rs) (some (.inr zAIO, (zxg g))) else zbj (zsI g 3 a12 b1 (((b2.toInt32).toInt16.toInt32).toInt16.toInt32)) (fun g20 => some (.inl (), g20)))) else zgd (3 ≤ g.rc ∧ 300 ≤ g.rs) (some (.inr zCCE, (zxg g))))) else if b0 = (2 : Int32) then zbj (zgN g [3] a0 2) (fun a23 => zbj (zaty g a23) (fun t25 => if t25 = 0 then zbj (zaln g a23) (fun n28 => zgd (n28 < 2 ^ 31) (if zout b1 n28 then zgd (3 ≤ g.rc ∧ 300 ≤ g.rs) (some (.inr zAIO, (zxg g))) else zbj (zsI g 0 a23 b1 (b2.toInt32)) (fun g31 => some (.inl (), g31)))) else zgd (3 ≤ g.rc ∧ 300 ≤ g.rs) (some (.inr zCCE, (zxg g))))) else if b0 = (3 : Int32) then zbj (zgN g [3] a0 2) (fun a34 => zbj (zaty g a34) (fun t36 => if t36 = 1 then zgd (vn_sni2f (b2.toInt32) = false) (zbj (zaln g a34) (fun n40 => zgd (n40 < 2 ^ 31) (if zout b1 n40 then zgd (3 ≤ g.rc ∧ 300 ≤ g.rs) (some (.inr zAIO, (zxg g))) else zbj (zsF g 1 a34 b1 ((b2.toInt32).toUInt32)) (fun g43 => some (.inl (), g43))))) else zgd (3 ≤ g.rc ∧ 300 ≤ g.rs) (some (.inr zCCE, (zxg g))))) else zbj (zgN g [3] a0 2) (fun a46 => zbj (zaty g a46) (fun t48 => if t48 = 4 then zgd (vn_snl2d b2 = false) (zbj (zaln g a46) (fun n52 => zgd (n52 < 2 ^ 31) (if zout b1 n52 then zgd (3 ≤ g.rc ∧ 300 ≤ g.rs) (some (.inr zAIO, (zxg g))) else zbj (zsD g 4 a46 b1 (b2.toUInt64)) (fun g55 => some (.inl (), g55))))) else zgd (3 ≤ g.rc ∧ 300 ≤ g.rs) (some (.inr zCCE, (zxg g)))))
theorem wX3_put {G : zG} {d : Nat} {K : List Nat} {Q : zO → zS → Prop} {g : zS} {a0 : Nat} {b0 : Int32} {b1 : Int32} {b2 : Int64} {p : (Unit ⊕ String) × zS} (h : fX3_put g a0 b0 b1 b2 = some p) (kq : Q (zoV p.1 p.2) p.2) : zEM G (d + 8) K YX3_put [.ref a0, .int b0, .int b1, .long b2] g Q := by
  show zEF G (d + 8) K YX3_put 0 [some (.ref a0), some (.int b0), some (.int b1), some (.long b2), none] [] g Q
  unfold fX3_put at h
  refine ez_iload_n (i := 1) (x := b0) dX3_put_0 rfl rfl ?_
  by_cases hs0 : b0 = (0 : Int32)
  · replace h := zif_t hs0 h
    refine ez_tableIn (tgt := 32) (off := 31) dX3_put_1 (by rw [hs0]; decide) (by rw [hs0]; decide) (by rw [hs0]; rfl) (by decide) ?_
    refine ez_aload_n (i := 0) (v := .ref a0) dX3_put_32 rfl rfl rfl ?_
    obtain ⟨a1, hx2, h⟩ := zbj_some h
    refine gX3_20 dX3_put_33 rfl (zgN_some hx2) ?_
    show zEF G (d + 8) K YX3_put 36 [some (.ref a0), some (.int b0), some (.int b1), some (.long b2), none] [.ref a1] g Q
    obtain ⟨t3, hx4, h⟩ := zbj_some h
    by_cases hc : t3 = 2
    · replace h := zif_t hc h
      refine cX_arr2 dX3_put_36 rfl (by rw [hx4, hc]) ?_
      refine ez_iload_n (i := 2) (x := b1) dX3_put_39 rfl rfl ?_
      refine ez_lload_n (i := 3) (x := b2) dX3_put_40 rfl rfl ?_
      refine ez_l2i dX3_put_41 ?_
      refine ez_i2b dX3_put_42 ?_
      obtain ⟨n6, hx7, h⟩ := zbj_some h
      obtain ⟨hg8, h⟩ := zgd_some h
      by_cases hc : zout b1 n6
      · replace h := zif_t hc h
        obtain ⟨tT, xT, hE, hT, hN⟩ := zaln_some hx7
        obtain ⟨hr11, h⟩ := zgd_some h
        refine ex_basO (i := b1) dX3_put_43 hE hT (by rw [hN]; exact hg8) (by rw [hN]; exact hc) (Nat.le_of_ble_eq_true rfl) hr11.1 hr11.2 ?_
        obtain rfl := Option.some.inj h
        exact zTH_out (fun x hx => by cases hx) kq
      · replace h := zif_f hc h
        obtain ⟨g9, hx10, h⟩ := zbj_some h
        refine sX_ba dX3_put_43 hx10 ?_
        refine ez_goto (tgt := 106) dX3_put_44 (by decide) ?_
        obtain rfl := Option.some.inj h
        exact ez_vret dX3_put_106 rfl kq
    · replace h := zif_f hc h
      obtain ⟨hr5, h⟩ := zgd_some h
      refine eX_arr2 dX3_put_36 rfl hx4 hc (Nat.le_of_ble_eq_true rfl) hr5.1 hr5.2 ?_
      obtain rfl := Option.some.inj h
      exact zTH_out (fun x hx => by cases hx) kq
  · replace h := zif_f hs0 h
    by_cases hs1 : b0 = (1 : Int32)
    · replace h := zif_t hs1 h
      refine ez_tableIn (tgt := 47) (off := 46) dX3_put_1 (by rw [hs1]; decide) (by rw [hs1]; decide) (by rw [hs1]; rfl) (by decide) ?_
      refine ez_aload_n (i := 0) (v := .ref a0) dX3_put_47 rfl rfl rfl ?_
      obtain ⟨a12, hx13, h⟩ := zbj_some h
      refine gX3_20 dX3_put_48 rfl (zgN_some hx13) ?_
      show zEF G (d + 8) K YX3_put 51 [some (.ref a0), some (.int b0), some (.int b1), some (.long b2), none] [.ref a12] g Q
      obtain ⟨t14, hx15, h⟩ := zbj_some h
      by_cases hc : t14 = 3
      · replace h := zif_t hc h
        refine cX_arr3 dX3_put_51 rfl (by rw [hx15, hc]) ?_
        refine ez_iload_n (i := 2) (x := b1) dX3_put_54 rfl rfl ?_
        refine ez_lload_n (i := 3) (x := b2) dX3_put_55 rfl rfl ?_
        refine ez_l2i dX3_put_56 ?_
        refine ez_i2s dX3_put_57 ?_
        obtain ⟨n17, hx18, h⟩ := zbj_some h
        obtain ⟨hg19, h⟩ := zgd_some h
        by_cases hc : zout b1 n17
        · replace h := zif_t hc h
          obtain ⟨tT, xT, hE, hT, hN⟩ := zaln_some hx18
          obtain ⟨hr22, h⟩ := zgd_some h
          refine ex_sasO (i := b1) dX3_put_58 hE hT (by rw [hN]; exact hg19) (by rw [hN]; exact hc) (Nat.le_of_ble_eq_true rfl) hr22.1 hr22.2 ?_
          obtain rfl := Option.some.inj h
          exact zTH_out (fun x hx => by cases hx) kq
        · replace h := zif_f hc h
          obtain ⟨g20, hx21, h⟩ := zbj_some h
          refine sX_sa dX3_put_58 hx21 ?_
          refine ez_goto (tgt := 106) dX3_put_59 (by decide) ?_
          obtain rfl := Option.some.inj h
          exact ez_vret dX3_put_106 rfl kq
      · replace h := zif_f hc h
        obtain ⟨hr16, h⟩ := zgd_some h
        refine eX_arr3 dX3_put_51 rfl hx15 hc (Nat.le_of_ble_eq_true rfl) hr16.1 hr16.2 ?_
        obtain rfl := Option.some.inj h
        exact zTH_out (fun x hx => by cases hx) kq
    · replace h := zif_f hs1 h
      by_cases hs2 : b0 = (2 : Int32)
      · replace h := zif_t hs2 h
        refine ez_tableIn (tgt := 62) (off := 61) dX3_put_1 (by rw [hs2]; decide) (by rw [hs2]; decide) (by rw [hs2]; rfl) (by decide) ?_
        refine ez_aload_n (i := 0) (v := .ref a0) dX3_put_62 rfl rfl rfl ?_
        obtain ⟨a23, hx24, h⟩ := zbj_some h
        refine gX3_20 dX3_put_63 rfl (zgN_some hx24) ?_
        show zEF G (d + 8) K YX3_put 66 [some (.ref a0), some (.int b0), some (.int b1), some (.long b2), none] [.ref a23] g Q
        obtain ⟨t25, hx26, h⟩ := zbj_some h
        by_cases hc : t25 = 0
        · replace h := zif_t hc h
          refine cX_arr0 dX3_put_66 rfl (by rw [hx26, hc]) ?_
          refine ez_iload_n (i := 2) (x := b1) dX3_put_69 rfl rfl ?_
          refine ez_lload_n (i := 3) (x := b2) dX3_put_70 rfl rfl ?_
          refine ez_l2i dX3_put_71 ?_
          obtain ⟨n28, hx29, h⟩ := zbj_some h
          obtain ⟨hg30, h⟩ := zgd_some h
          by_cases hc : zout b1 n28
          · replace h := zif_t hc h
            obtain ⟨tT, xT, hE, hT, hN⟩ := zaln_some hx29
            obtain ⟨hr33, h⟩ := zgd_some h
            refine ex_iasO (i := b1) dX3_put_72 hE hT (by rw [hN]; exact hg30) (by rw [hN]; exact hc) (Nat.le_of_ble_eq_true rfl) hr33.1 hr33.2 ?_
            obtain rfl := Option.some.inj h
            exact zTH_out (fun x hx => by cases hx) kq
          · replace h := zif_f hc h
            obtain ⟨g31, hx32, h⟩ := zbj_some h
            refine sX_ia dX3_put_72 hx32 ?_
            refine ez_goto (tgt := 106) dX3_put_73 (by decide) ?_
            obtain rfl := Option.some.inj h
            exact ez_vret dX3_put_106 rfl kq
        · replace h := zif_f hc h
          obtain ⟨hr27, h⟩ := zgd_some h
          refine eX_arr0 dX3_put_66 rfl hx26 hc (Nat.le_of_ble_eq_true rfl) hr27.1 hr27.2 ?_
          obtain rfl := Option.some.inj h
          exact zTH_out (fun x hx => by cases hx) kq
      · replace h := zif_f hs2 h
        by_cases hs3 : b0 = (3 : Int32)
        · replace h := zif_t hs3 h
          refine ez_tableIn (tgt := 76) (off := 75) dX3_put_1 (by rw [hs3]; decide) (by rw [hs3]; decide) (by rw [hs3]; rfl) (by decide) ?_
          refine ez_aload_n (i := 0) (v := .ref a0) dX3_put_76 rfl rfl rfl ?_
          obtain ⟨a34, hx35, h⟩ := zbj_some h
          refine gX3_20 dX3_put_77 rfl (zgN_some hx35) ?_
          show zEF G (d + 8) K YX3_put 80 [some (.ref a0), some (.int b0), some (.int b1), some (.long b2), none] [.ref a34] g Q
          obtain ⟨t36, hx37, h⟩ := zbj_some h
          by_cases hc : t36 = 1
          · replace h := zif_t hc h
            refine cX_arr1 dX3_put_80 rfl (by rw [hx37, hc]) ?_
            refine ez_iload_n (i := 2) (x := b1) dX3_put_83 rfl rfl ?_
            refine ez_lload_n (i := 3) (x := b2) dX3_put_84 rfl rfl ?_
            refine ez_l2i dX3_put_85 ?_
            obtain ⟨hg39, h⟩ := zgd_some h
            refine ez_raw2f dX3_put_86 rfl q389 q391 q390 q65 (Nat.le_of_ble_eq_true rfl) hg39 ?_
            obtain ⟨n40, hx41, h⟩ := zbj_some h
            obtain ⟨hg42, h⟩ := zgd_some h
            by_cases hc : zout b1 n40
            · replace h := zif_t hc h
              obtain ⟨tT, xT, hE, hT, hN⟩ := zaln_some hx41
              obtain ⟨hr45, h⟩ := zgd_some h
              refine ex_fasO (i := b1) dX3_put_89 hE hT (by rw [hN]; exact hg42) (by rw [hN]; exact hc) (Nat.le_of_ble_eq_true rfl) hr45.1 hr45.2 ?_
              obtain rfl := Option.some.inj h
              exact zTH_out (fun x hx => by cases hx) kq
            · replace h := zif_f hc h
              obtain ⟨g43, hx44, h⟩ := zbj_some h
              refine sX_fa dX3_put_89 hx44 ?_
              refine ez_goto (tgt := 106) dX3_put_90 (by decide) ?_
              obtain rfl := Option.some.inj h
              exact ez_vret dX3_put_106 rfl kq
          · replace h := zif_f hc h
            obtain ⟨hr38, h⟩ := zgd_some h
            refine eX_arr1 dX3_put_80 rfl hx37 hc (Nat.le_of_ble_eq_true rfl) hr38.1 hr38.2 ?_
            obtain rfl := Option.some.inj h
            exact zTH_out (fun x hx => by cases hx) kq
        · replace h := zif_f hs3 h
          have he0 : b0.toInt ≠ 0 := zsw_ne hs0
          have he1 : b0.toInt ≠ 1 := zsw_ne hs1
          have he2 : b0.toInt ≠ 2 := zsw_ne hs2
          have he3 : b0.toInt ≠ 3 := zsw_ne hs3
          refine ez_tableOut (tgt := 93) dX3_put_1 (by omega) (by decide) ?_
          refine ez_aload_n (i := 0) (v := .ref a0) dX3_put_93 rfl rfl rfl ?_
          obtain ⟨a46, hx47, h⟩ := zbj_some h
          refine gX3_20 dX3_put_94 rfl (zgN_some hx47) ?_
          show zEF G (d + 8) K YX3_put 97 [some (.ref a0), some (.int b0), some (.int b1), some (.long b2), none] [.ref a46] g Q
          obtain ⟨t48, hx49, h⟩ := zbj_some h
          by_cases hc : t48 = 4
          · replace h := zif_t hc h
            refine cX_arr4 dX3_put_97 rfl (by rw [hx49, hc]) ?_
            refine ez_iload_n (i := 2) (x := b1) dX3_put_100 rfl rfl ?_
            refine ez_lload_n (i := 3) (x := b2) dX3_put_101 rfl rfl ?_
            obtain ⟨hg51, h⟩ := zgd_some h
            refine ez_raw2d dX3_put_102 rfl q393 q395 q394 q66 (Nat.le_of_ble_eq_true rfl) hg51 ?_
            obtain ⟨n52, hx53, h⟩ := zbj_some h
            obtain ⟨hg54, h⟩ := zgd_some h
            by_cases hc : zout b1 n52
            · replace h := zif_t hc h
              obtain ⟨tT, xT, hE, hT, hN⟩ := zaln_some hx53
              obtain ⟨hr57, h⟩ := zgd_some h
              refine ex_dasO (i := b1) dX3_put_105 hE hT (by rw [hN]; exact hg54) (by rw [hN]; exact hc) (Nat.le_of_ble_eq_true rfl) hr57.1 hr57.2 ?_
              obtain rfl := Option.some.inj h
              exact zTH_out (fun x hx => by cases hx) kq
            · replace h := zif_f hc h
              obtain ⟨g55, hx56, h⟩ := zbj_some h
              refine sX_da dX3_put_105 hx56 ?_
              obtain rfl := Option.some.inj h
              exact ez_vret dX3_put_106 rfl kq
          · replace h := zif_f hc h
            obtain ⟨hr50, h⟩ := zgd_some h
            refine eX_arr4 dX3_put_97 rfl hx49 hc (Nat.le_of_ble_eq_true rfl) hr50.1 hr50.2 ?_
            obtain rfl := Option.some.inj h
            exact zTH_out (fun x hx => by cases hx) kq
def YX3_has : zM := (yX3_has, cX3_has, 2, (Option.some Jvm.ClassFile.FieldType.boolean), [], false)
theorem zkX3_has : zMok YX3_has := ⟨rfl, q403, by decide +kernel, by decide +kernel⟩
theorem znX3_has : (parseMethodDescriptor YX3_has.nm.desc).map (fun d => d.parameters.length) = some 1 := by decide +kernel
noncomputable def fX3_has (g : zS) (a0 : Nat) (b0 : Int32) : Option (Int32 × zS) := if b0 < 0 then some ((0 : Int32), g) else zbj (zgI g [3] a0 1) (fun i1 => if i1 ≤ b0 then some ((0 : Int32), g) else some ((1 : Int32), g))
theorem wX3_has {G : zG} {d : Nat} {K : List Nat} {Q : zO → zS → Prop} {g : zS} {a0 : Nat} {b0 : Int32} {p : Int32 × zS} (h : fX3_has g a0 b0 = some p) (kq : Q (.inl (some (.int p.1))) p.2) : zEM G (d + 0) K YX3_has [.ref a0, .int b0] g Q := by
  show zEF G (d + 0) K YX3_has 0 [some (.ref a0), some (.int b0)] [] g Q
  unfold fX3_has at h
  refine ez_iload_n (i := 1) (x := b0) dX3_has_0 rfl rfl ?_
  refine ez_if_lt (tgt := 16) dX3_has_1 (by decide) (fun hc => ?_) (fun hc => ?_)
  · replace h := zif_t hc h
    refine ez_iconst (v := 0) dX3_has_16 (by decide) ?_
    obtain rfl := Option.some.inj h
    exact ez_iret dX3_has_17 rfl rfl kq
  · replace h := zif_f hc h
    refine ez_iload_n (i := 1) (x := b0) dX3_has_4 rfl rfl ?_
    refine ez_aload_n (i := 0) (v := .ref a0) dX3_has_5 rfl rfl rfl ?_
    obtain ⟨i1, hx2, h⟩ := zbj_some h
    refine gX3_13 dX3_has_6 rfl hx2 ?_
    refine ez_icmp_ge (tgt := 16) dX3_has_9 (by decide) (fun hc => ?_) (fun hc => ?_)
    · replace h := zif_t hc h
      refine ez_iconst (v := 0) dX3_has_16 (by decide) ?_
      obtain rfl := Option.some.inj h
      exact ez_iret dX3_has_17 rfl rfl kq
    · replace h := zif_f hc h
      refine ez_iconst (v := 1) dX3_has_12 (by decide) ?_
      refine ez_goto (tgt := 17) dX3_has_13 (by decide) ?_
      obtain rfl := Option.some.inj h
      exact ez_iret dX3_has_17 rfl rfl kq

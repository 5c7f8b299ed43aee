/-! the Model: methods, walked, 2 -/
set_option maxRecDepth 100000

def YX2_nextPlace : zM := (yX2_nextPlace, cX2_nextPlace, 4, (Option.some Jvm.ClassFile.FieldType.int), [], false)
theorem zkX2_nextPlace : zMok YX2_nextPlace := ⟨rfl, q1247, by decide +kernel, by decide +kernel⟩
theorem znX2_nextPlace : (parseMethodDescriptor YX2_nextPlace.nm.desc).map (fun d => d.parameters.length) = some 2 := by decide +kernel
theorem slX2_nextPlace : Cond.selects RX2 yX2_nextPlace yX2_nextPlace ∈ lw_all := lw_w 40 rfl rfl
noncomputable def fX2_nextPlace_L2 : Nat → MS → Int32 → Int32 → Option (Int32 × MS)
  | 0, _, _, _ => none
  | n + 1, M, y1, y3 => if (4 : Int32) ≤ y3 then some (y3, M) else zgd (vp_in (((4 : Int32) * y1) + y3) 32) (if (M.A 19 (((4 : Int32) * y1) + y3).toNatClampNeg) = (-1 : Int32) then fX2_nextPlace_L2 n M y1 (y3 + (1 : Int32)) else some (y3, M))
noncomputable def fX2_nextPlace (M : MS) (b0 : Int32) (b1 : Int32) : Option (Int32 × MS) := fX2_nextPlace_L2 1000 M b0 b1 
theorem fX2_nextPlace_L2_ok {G : zG} {d : Nat} {K : List Nat} {Q : zO → zS → Prop} {a0 : Nat} {g0 : zS} : ∀ (n : Nat) (M : MS) (y1 : Int32) (y3 : Int32) (p : Int32 × MS) (h : fX2_nextPlace_L2 n M y1 y3 = some p) (kq : Q (.inl (some (.int p.1))) (zm a0 g0 p.2)), zEF G (d + 0) K YX2_nextPlace 2 [some (.ref a0), some (.int y1), none, some (.int y3)] [] (zm a0 g0 M) Q := by
  intro n
  induction n with
  | zero =>
    intro M y1 y3 p h kq
    rw [fX2_nextPlace_L2] at h
    cases h
  | succ n ih =>
    intro M y1 y3 p h kq
    rw [fX2_nextPlace_L2] at h
    refine ez_iload_n (i := 3) (x := y3) dX2_nextPlace_2 rfl rfl ?_
    refine ez_iconst (v := 4) dX2_nextPlace_3 (by decide) ?_
    refine ez_icmp_ge (tgt := 27) dX2_nextPlace_4 (by decide) (fun hc => ?_) (fun hc => ?_)
    · replace h := zif_t hc h
      refine ez_iload_n (i := 3) (x := y3) dX2_nextPlace_27 rfl rfl ?_
      obtain rfl := Option.some.inj h
      exact ez_iret dX2_nextPlace_28 rfl rfl kq
    · replace h := zif_f hc h
      refine ez_aload_n (i := 0) (v := .ref a0) dX2_nextPlace_7 rfl rfl rfl ?_
      refine gM_64 dX2_nextPlace_8 rfl ?_
      refine ez_iconst (v := 4) dX2_nextPlace_11 (by decide) ?_
      refine ez_iload_n (i := 1) (x := y1) dX2_nextPlace_12 rfl rfl ?_
      refine ez_imul dX2_nextPlace_13 ?_
      refine ez_iload_n (i := 3) (x := y3) dX2_nextPlace_14 rfl rfl ?_
      refine ez_iadd dX2_nextPlace_15 ?_
      obtain ⟨hg1, h⟩ := zgd_some h
      refine lM_19 dX2_nextPlace_16 hg1 ?_
      refine ez_iconst (v := -1) dX2_nextPlace_17 (by decide) ?_
      refine ez_icmp_ne (tgt := 27) dX2_nextPlace_18 (by decide) (fun hc => ?_) (fun hc => ?_)
      · replace h := zif_f hc h
        refine ez_iload_n (i := 3) (x := y3) dX2_nextPlace_27 rfl rfl ?_
        obtain rfl := Option.some.inj h
        exact ez_iret dX2_nextPlace_28 rfl rfl kq
      · replace h := zif_t hc h
        refine ez_iinc (x := y3) (v := (y3 + (1 : Int32))) dX2_nextPlace_21 rfl rfl (show 3 < 4 by decide) ?_
        show zEF G (d + 0) K YX2_nextPlace 24 [some (.ref a0), some (.int y1), none, some (.int (y3 + (1 : Int32)))] [] (zm a0 g0 M) Q
        refine ez_goto (tgt := 2) dX2_nextPlace_24 (by decide) ?_
        exact ih M y1 (y3 + (1 : Int32)) _ h kq
theorem wX2_nextPlace {G : zG} {d : Nat} {K : List Nat} {Q : zO → zS → Prop} {a0 : Nat} {g0 : zS} {M : MS} {b0 : Int32} {b1 : Int32} {p : Int32 × MS} (h : fX2_nextPlace M b0 b1 = some p) (kq : Q (.inl (some (.int p.1))) (zm a0 g0 p.2)) : zEM G (d + 0) K YX2_nextPlace [.ref a0, .int b0, .int b1] (zm a0 g0 M) Q := by
  show zEF G (d + 0) K YX2_nextPlace 0 [some (.ref a0), some (.int b0), some (.int b1), none] [] (zm a0 g0 M) Q
  unfold fX2_nextPlace at h
  refine ez_iload_n (i := 2) (x := b1) dX2_nextPlace_0 rfl rfl ?_
  refine ez_istore_n (i := 3) dX2_nextPlace_1 rfl (show 3 < 4 by decide) ?_
  show zEF G (d + 0) K YX2_nextPlace 2 [some (.ref a0), some (.int b0), some (.int b1), some (.int b1)] [] (zm a0 g0 M) Q
  refine ez_clr 2 ?_
  refine fX2_nextPlace_L2_ok (d := d) (K := K) 1000 M b0 b1 _ h  kq
def YX2_behind : zM := (yX2_behind, cX2_behind, 4, (Option.none : Option Jvm.ClassFile.FieldType), [], false)
theorem zkX2_behind : zMok YX2_behind := ⟨rfl, q1243, by decide +kernel, by decide +kernel⟩
theorem znX2_behind : (parseMethodDescriptor YX2_behind.nm.desc).map (fun d => d.parameters.length) = some 3 := by decide +kernel
theorem slX2_behind : Cond.selects RX2 yX2_behind yX2_behind ∈ lw_all := lw_w 39 rfl rfl
noncomputable def fX2_behind (M : MS) (b0 : Int32) (b1 : Int32) (b2 : Int32) : Option (Unit × MS) := zbd (fX2_nextPlace M b0 b1) (fun r1 M2 => zgd (vp_in b0 8) (zlet (mA M2 21 b0.toNatClampNeg r1) (fun M4 => zgd (vp_in b0 8) (zjoin (fun (M6 : MS) (v7 : Int32) (v8 : Int32) (v9 : Int32) (v10 : Int32) => zgd (vp_in v10 8) (zlet (mA M6 20 v10.toNatClampNeg v9) (fun M12 => zgd (vp_in v7 8) (if (M12.A 20 v7.toNatClampNeg) = (3 : Int32) then zgd (vp_in v8 4) (zlet (mA M12 27 v8.toNatClampNeg (-1 : Int32)) (fun M17 => some ((), M17))) else zgd (vp_in v8 4) (zlet (mA M12 27 v8.toNatClampNeg v7) (fun M15 => some ((), M15))))))) (fun j18 => if (M4.A 21 b0.toNatClampNeg) = (4 : Int32) then j18 M4 b0 b2 (3 : Int32) b0 else j18 M4 b0 b2 (2 : Int32) b0)))))
theorem wX2_behind {G : zG} {d : Nat} {K : List Nat} {Q : zO → zS → Prop} {a0 : Nat} {g0 : zS} {M : MS} {b0 : Int32} {b1 : Int32} {b2 : Int32} {p : Unit × MS} (h : fX2_behind M b0 b1 b2 = some p) (kq : Q (.inl none) (zm a0 g0 p.2)) : zEM G (d + 1) K YX2_behind [.ref a0, .int b0, .int b1, .int b2] (zm a0 g0 M) Q := by
  show zEF G (d + 1) K YX2_behind 0 [some (.ref a0), some (.int b0), some (.int b1), some (.int b2)] [] (zm a0 g0 M) Q
  unfold fX2_behind at h
  refine ez_aload_n (i := 0) (v := .ref a0) dX2_behind_0 rfl rfl rfl ?_
  refine gM_70 dX2_behind_1 rfl ?_
  refine ez_iload_n (i := 1) (x := b0) dX2_behind_4 rfl rfl ?_
  refine ez_aload_n (i := 0) (v := .ref a0) dX2_behind_5 rfl rfl rfl ?_
  refine ez_iload_n (i := 1) (x := b0) dX2_behind_6 rfl rfl ?_
  refine ez_iload_n (i := 2) (x := b1) dX2_behind_7 rfl rfl ?_
  obtain ⟨r1, M2, hq2, h⟩ := zbd_some h
  refine ez_callV (C := RX2) (Tt := TX2) (N := 53) (Y' := YX2_nextPlace) (vs := [.int b0, .int b1]) (rest := [.int b0, .ref (a0 + 20)]) dX2_behind_8 rfl zkX2_nextPlace q1244 q1246 rfl slX2_nextPlace (zm0 _ _ _) znX2_nextPlace (Nat.le_of_ble_eq_true rfl) (Nat.le_of_ble_eq_true rfl) rfl (wX2_nextPlace (d := d + 0) hq2 (zBack_v ?_))
  show zEF G (d + 1) K YX2_behind 11 [some (.ref a0), some (.int b0), some (.int b1), some (.int b2)] [.int r1, .int b0, .ref (a0 + 20)] (zm a0 g0 M2) Q
  obtain ⟨hg3, h⟩ := zgd_some h
  refine sM_21 dX2_behind_11 hg3 ?_
  refine zlet_use (fun M4 => zEF G (d + 1) K YX2_behind 12 [some (.ref a0), some (.int b0), some (.int b1), some (.int b2)] [] (zm a0 g0 M4) Q) h (fun M4 h => ?_)
  refine ez_aload_n (i := 0) (v := .ref a0) dX2_behind_12 rfl rfl rfl ?_
  refine gM_67 dX2_behind_13 rfl ?_
  refine ez_iload_n (i := 1) (x := b0) dX2_behind_16 rfl rfl ?_
  refine ez_aload_n (i := 0) (v := .ref a0) dX2_behind_17 rfl rfl rfl ?_
  refine gM_70 dX2_behind_18 rfl ?_
  refine ez_iload_n (i := 1) (x := b0) dX2_behind_21 rfl rfl ?_
  obtain ⟨hg5, h⟩ := zgd_some h
  refine lM_21 dX2_behind_22 hg5 ?_
  refine ez_iconst (v := 4) dX2_behind_23 (by decide) ?_
  refine zjoin_use (fun (j : MS → Int32 → Int32 → Int32 → Int32 → Option (Unit × MS)) => ∀ (M6 : MS) (v7 : Int32) (v8 : Int32) (v9 : Int32) (v10 : Int32), j M6 v7 v8 v9 v10 = some p → zEF G (d + 1) K YX2_behind 32 [some (.ref a0), some (.int v7), none, some (.int v8)] [.int v9, .int v10, .ref (a0 + 19)] (zm a0 g0 M6) Q) h (fun M6 v7 v8 v9 v10 h => ?_) (fun j18 hj18 h => ?_)
  · obtain ⟨hg11, h⟩ := zgd_some h
    refine sM_20 dX2_behind_32 hg11 ?_
    refine zlet_use (fun M12 => zEF G (d + 1) K YX2_behind 33 [some (.ref a0), some (.int v7), none, some (.int v8)] [] (zm a0 g0 M12) Q) h (fun M12 h => ?_)
    refine ez_aload_n (i := 0) (v := .ref a0) dX2_behind_33 rfl rfl rfl ?_
    refine gM_89 dX2_behind_34 rfl ?_
    refine ez_iload_n (i := 3) (x := v8) dX2_behind_37 rfl rfl ?_
    refine ez_aload_n (i := 0) (v := .ref a0) dX2_behind_38 rfl rfl rfl ?_
    refine gM_67 dX2_behind_39 rfl ?_
    refine ez_iload_n (i := 1) (x := v7) dX2_behind_42 rfl rfl ?_
    obtain ⟨hg13, h⟩ := zgd_some h
    refine lM_20 dX2_behind_43 hg13 ?_
    refine ez_iconst (v := 3) dX2_behind_44 (by decide) ?_
    refine ez_icmp_ne (tgt := 52) dX2_behind_45 (by decide) (fun hc => ?_) (fun hc => ?_)
    · replace h := zif_f hc h
      refine ez_iload_n (i := 1) (x := v7) dX2_behind_52 rfl rfl ?_
      obtain ⟨hg14, h⟩ := zgd_some h
      refine sM_27 dX2_behind_53 hg14 ?_
      refine zlet_use (fun M15 => zEF G (d + 1) K YX2_behind 54 [some (.ref a0), some (.int v7), none, some (.int v8)] [] (zm a0 g0 M15) Q) h (fun M15 h => ?_)
      obtain rfl := Option.some.inj h
      exact ez_vret dX2_behind_54 rfl kq
    · replace h := zif_t hc h
      refine ez_iconst (v := -1) dX2_behind_48 (by decide) ?_
      refine ez_goto (tgt := 53) dX2_behind_49 (by decide) ?_
      obtain ⟨hg16, h⟩ := zgd_some h
      refine sM_27 dX2_behind_53 hg16 ?_
      refine zlet_use (fun M17 => zEF G (d + 1) K YX2_behind 54 [some (.ref a0), some (.int v7), none, some (.int v8)] [] (zm a0 g0 M17) Q) h (fun M17 h => ?_)
      obtain rfl := Option.some.inj h
      exact ez_vret dX2_behind_54 rfl kq
  · refine ez_icmp_ne (tgt := 31) dX2_behind_24 (by decide) (fun hc => ?_) (fun hc => ?_)
    · replace h := zif_f hc h
      refine ez_iconst (v := 2) dX2_behind_31 (by decide) ?_
      refine ez_clr 2 ?_
      exact hj18 M4 b0 b2 (2 : Int32) b0 h
    · replace h := zif_t hc h
      refine ez_iconst (v := 3) dX2_behind_27 (by decide) ?_
      refine ez_goto (tgt := 32) dX2_behind_28 (by decide) ?_
      refine ez_clr 2 ?_
      exact hj18 M4 b0 b2 (3 : Int32) b0 h
def YX2_passes : zM := (yX2_passes, cX2_passes, 7, (Option.some Jvm.ClassFile.FieldType.int), [], false)
theorem zkX2_passes : zMok YX2_passes := ⟨rfl, q1221, by decide +kernel, by decide +kernel⟩
theorem znX2_passes : (parseMethodDescriptor YX2_passes.nm.desc).map (fun d => d.parameters.length) = some 3 := by decide +kernel
theorem slX2_passes : Cond.selects RX2 yX2_passes yX2_passes ∈ lw_all := lw_w 35 rfl rfl
noncomputable def fX2_passes_L34 : Nat → MS → Int32 → Int32 → Int32 → Int32 → Int32 → Int32 → (MS → Int32 → Int32 → Int32 → Int32 → Int32 → Option (Int32 × MS)) → Option (Int32 × MS)
  | 0, _, _, _, _, _, _, _, _ => none
  | n + 1, M, y1, y2, y3, y4, y5, y6, k67 => if (16 : Int32) ≤ y6 then k67 M y1 y2 y3 y4 y5 else zgd (vp_in (((16 : Int32) * y4) + y6) 192) (zgd (vp_in y6 16) (zlet (mF M 12 y6.toNatClampNeg (M.F 11 (((16 : Int32) * y4) + y6).toNatClampNeg)) (fun M8 => fX2_passes_L34 n M8 y1 y2 y3 y4 y5 (y6 + (1 : Int32)) k67)))
noncomputable def fX2_passes_L75 : Nat → MS → Int32 → Int32 → Int32 → Int32 → Int32 → Int32 → (MS → Int32 → Int32 → Int32 → Int32 → Int32 → Option (Int32 × MS)) → Option (Int32 × MS)
  | 0, _, _, _, _, _, _, _, _ => none
  | n + 1, M, y1, y2, y3, y4, y5, y6, k120 => if (8 : Int32) ≤ y6 then k120 M y1 y2 y3 y4 y5 else if (M.I 49) = 0 then zgd (vp_in (((8 : Int32) * y1) + y6) 64) (zbd (fX2_through M y4 (M.F 25 (((8 : Int32) * y1) + y6).toNatClampNeg)) (fun r17 M18 => zgd (vp_in y6 8) (zlet (mF M18 50 y6.toNatClampNeg r17) (fun M20 => fX2_passes_L75 n M20 y1 y2 y3 y4 y5 (y6 + (1 : Int32)) k120)))) else k120 M y1 y2 y3 y4 y5
noncomputable def fX2_passes_L183 : Nat → MS → Int32 → Int32 → Int32 → Int32 → Int32 → (MS → Int32 → Int32 → Int32 → Int32 → Option (Int32 × MS)) → Option (Int32 × MS)
  | 0, _, _, _, _, _, _, _ => none
  | n + 1, M, y1, y2, y3, y4, y6, k215 => if (8 : Int32) ≤ y6 then k215 M y1 y2 y3 y4 else zgd (vp_in y6 8) (zgd (vp_in (((8 : Int32) * y1) + y6) 64) (zlet (mF M 25 (((8 : Int32) * y1) + y6).toNatClampNeg (M.F 50 y6.toNatClampNeg)) (fun M29 => fX2_passes_L183 n M29 y1 y2 y3 y4 (y6 + (1 : Int32)) k215)))
noncomputable def fX2_passes_L139 : Nat → MS → Int32 → Int32 → Int32 → Int32 → Int32 → (MS → Int32 → Int32 → Int32 → Option (Int32 × MS)) → Option (Int32 × MS)
  | 0, _, _, _, _, _, _, _ => none
  | n + 1, M, y1, y2, y3, y4, y6, k172 => if (16 : Int32) ≤ y6 then k172 M y1 y2 y3 else zgd (vp_in y6 16) (zgd (vp_in (((16 : Int32) * y4) + y6) 192) (zlet (mF M 11 (((16 : Int32) * y4) + y6).toNatClampNeg (M.F 12 y6.toNatClampNeg)) (fun M44 => fX2_passes_L139 n M44 y1 y2 y3 y4 (y6 + (1 : Int32)) k172)))
noncomputable def fX2_passes (M : MS) (b0 : Int32) (b1 : Int32) (b2 : Int32) : Option (Int32 × MS) := zlet (mI M 46 ((M.I 46) + (1 : Int32))) (fun M1 => zgd (vp_in (((4 : Int32) * b0) + b1) 32) (zlet (M1.A 19 (((4 : Int32) * b0) + b1).toNatClampNeg) (fun a3 => zgd (vp_in a3 12) (zlet (M1.A 9 a3.toNatClampNeg) (fun a5 => fX2_passes_L34 1000 M1 b0 b1 b2 a3 a5 (0 : Int32) (fun (M9 : MS) (x10 : Int32) (x11 : Int32) (x12 : Int32) (x13 : Int32) (x14 : Int32) => zlet (mI M9 49 (0 : Int32)) (fun M15 => fX2_passes_L75 1000 M15 x10 x11 x12 x13 x14 (0 : Int32) (fun (M21 : MS) (x22 : Int32) (x23 : Int32) (x24 : Int32) (x25 : Int32) (x26 : Int32) => if (M21.I 49) = 0 then fX2_passes_L183 1000 M21 x22 x23 x24 x25 (0 : Int32) (fun (M30 : MS) (x31 : Int32) (x32 : Int32) (x33 : Int32) (x34 : Int32) => zgd (vp_in x34 12) (zgd (vp_in x34 12) (zlet (mA M30 8 x34.toNatClampNeg ((M30.A 8 x34.toNatClampNeg) + (1 : Int32))) (fun M37 => zbd (fX2_behind M37 x31 (x32 + (1 : Int32)) x33) (fun _ M39 => some ((1 : Int32), M39)))))) else zgd (vp_in x25 12) (zlet (mA M21 9 x25.toNatClampNeg x26) (fun M41 => fX2_passes_L139 1000 M41 x22 x23 x24 x25 (0 : Int32) (fun (M45 : MS) (x46 : Int32) (x47 : Int32) (x48 : Int32) => zbd (fX2_fails M45 x46 x47 x48) (fun r49 M50 => some (r49, M50)))))))))))))
theorem fX2_passes_L34_ok {G : zG} {d : Nat} {K : List Nat} {Q : zO → zS → Prop} {a0 : Nat} {g0 : zS} : ∀ (n : Nat) (M : MS) (y1 : Int32) (y2 : Int32) (y3 : Int32) (y4 : Int32) (y5 : Int32) (y6 : Int32) (k67 : MS → Int32 → Int32 → Int32 → Int32 → Int32 → Option (Int32 × MS)) (p : Int32 × MS) (h : fX2_passes_L34 n M y1 y2 y3 y4 y5 y6 k67 = some p) (hk67 : ∀ (M : MS) (x1 : Int32) (x2 : Int32) (x3 : Int32) (x4 : Int32) (x5 : Int32), k67 M x1 x2 x3 x4 x5 = some p → zEF G (d + 3) K YX2_passes 67 [some (.ref a0), some (.int x1), some (.int x2), some (.int x3), some (.int x4), some (.int x5), none] [] (zm a0 g0 M) Q) (kq : Q (.inl (some (.int p.1))) (zm a0 g0 p.2)), zEF G (d + 3) K YX2_passes 34 [some (.ref a0), some (.int y1), some (.int y2), some (.int y3), some (.int y4), some (.int y5), some (.int y6)] [] (zm a0 g0 M) Q := by
  intro n
  induction n with
  | zero =>
    intro M y1 y2 y3 y4 y5 y6 k67 p h hk67 kq
    rw [fX2_passes_L34] at h
    cases h
  | succ n ih =>
    intro M y1 y2 y3 y4 y5 y6 k67 p h hk67 kq
    rw [fX2_passes_L34] at h
    refine ez_iload (i := 6) (x := y6) dX2_passes_34 rfl ?_
    refine ez_bipush (v := 16) dX2_passes_36 (by decide) ?_
    refine ez_icmp_ge (tgt := 67) dX2_passes_38 (by decide) (fun hc => ?_) (fun hc => ?_)
    · replace h := zif_t hc h
      refine ez_clr 6 ?_
      exact hk67 M y1 y2 y3 y4 y5 h
    · replace h := zif_f hc h
      refine ez_aload_n (i := 0) (v := .ref a0) dX2_passes_41 rfl rfl rfl ?_
      refine gM_42 dX2_passes_42 rfl ?_
      refine ez_iload (i := 6) (x := y6) dX2_passes_45 rfl ?_
      refine ez_aload_n (i := 0) (v := .ref a0) dX2_passes_47 rfl rfl rfl ?_
      refine gM_39 dX2_passes_48 rfl ?_
      refine ez_bipush (v := 16) dX2_passes_51 (by decide) ?_
      refine ez_iload (i := 4) (x := y4) dX2_passes_53 rfl ?_
      refine ez_imul dX2_passes_55 ?_
      refine ez_iload (i := 6) (x := y6) dX2_passes_56 rfl ?_
      refine ez_iadd dX2_passes_58 ?_
      obtain ⟨hg6, h⟩ := zgd_some h
      refine lM_11 dX2_passes_59 hg6 ?_
      obtain ⟨hg7, h⟩ := zgd_some h
      refine sM_12 dX2_passes_60 hg7 ?_
      refine zlet_use (fun M8 => zEF G (d + 3) K YX2_passes 61 [some (.ref a0), some (.int y1), some (.int y2), some (.int y3), some (.int y4), some (.int y5), some (.int y6)] [] (zm a0 g0 M8) Q) h (fun M8 h => ?_)
      refine ez_iinc (x := y6) (v := (y6 + (1 : Int32))) dX2_passes_61 rfl rfl (show 6 < 7 by decide) ?_
      show zEF G (d + 3) K YX2_passes 64 [some (.ref a0), some (.int y1), some (.int y2), some (.int y3), some (.int y4), some (.int y5), some (.int (y6 + (1 : Int32)))] [] (zm a0 g0 M8) Q
      refine ez_goto (tgt := 34) dX2_passes_64 (by decide) ?_
      exact ih M8 y1 y2 y3 y4 y5 (y6 + (1 : Int32)) _ _ h hk67 kq
theorem fX2_passes_L75_ok {G : zG} {d : Nat} {K : List Nat} {Q : zO → zS → Prop} {a0 : Nat} {g0 : zS} : ∀ (n : Nat) (M : MS) (y1 : Int32) (y2 : Int32) (y3 : Int32) (y4 : Int32) (y5 : Int32) (y6 : Int32) (k120 : MS → Int32 → Int32 → Int32 → Int32 → Int32 → Option (Int32 × MS)) (p : Int32 × MS) (h : fX2_passes_L75 n M y1 y2 y3 y4 y5 y6 k120 = some p) (hk120 : ∀ (M : MS) (x1 : Int32) (x2 : Int32) (x3 : Int32) (x4 : Int32) (x5 : Int32), k120 M x1 x2 x3 x4 x5 = some p → zEF G (d + 3) K YX2_passes 120 [some (.ref a0), some (.int x1), some (.int x2), some (.int x3), some (.int x4), some (.int x5), none] [] (zm a0 g0 M) Q) (kq : Q (.inl (some (.int p.1))) (zm a0 g0 p.2)), zEF G (d + 3) K YX2_passes 75 [some (.ref a0), some (.int y1), some (.int y2), some (.int y3), some (.int y4), some (.int y5), some (.int y6)] [] (zm a0 g0 M) Q := by
  intro n
  induction n with
  | zero =>
    intro M y1 y2 y3 y4 y5 y6 k120 p h hk120 kq
    rw [fX2_passes_L75] at h
    cases h
  | succ n ih =>
    intro M y1 y2 y3 y4 y5 y6 k120 p h hk120 kq
    rw [fX2_passes_L75] at h
    refine ez_iload (i := 6) (x := y6) dX2_passes_75 rfl ?_
    refine ez_bipush (v := 8) dX2_passes_77 (by decide) ?_
    refine ez_icmp_ge (tgt := 120) dX2_passes_79 (by decide) (fun hc => ?_) (fun hc => ?_)
    · replace h := zif_t hc h
      refine ez_clr 6 ?_
      exact hk120 M y1 y2 y3 y4 y5 h
    · replace h := zif_f hc h
      refine ez_aload_n (i := 0) (v := .ref a0) dX2_passes_82 rfl rfl rfl ?_
      refine gM_210 dX2_passes_83 rfl ?_
      refine ez_if_ne (tgt := 120) dX2_passes_86 (by decide) (fun hc => ?_) (fun hc => ?_)
      · replace h := zif_f hc h
        refine ez_clr 6 ?_
        exact hk120 M y1 y2 y3 y4 y5 h
      · replace h := zif_t hc h
        refine ez_aload_n (i := 0) (v := .ref a0) dX2_passes_89 rfl rfl rfl ?_
        refine gM_128 dX2_passes_90 rfl ?_
        refine ez_iload (i := 6) (x := y6) dX2_passes_93 rfl ?_
        refine ez_aload_n (i := 0) (v := .ref a0) dX2_passes_95 rfl rfl rfl ?_
        refine ez_iload (i := 4) (x := y4) dX2_passes_96 rfl ?_
        refine ez_aload_n (i := 0) (v := .ref a0) dX2_passes_98 rfl rfl rfl ?_
        refine gM_82 dX2_passes_99 rfl ?_
        refine ez_bipush (v := 8) dX2_passes_102 (by decide) ?_
        refine ez_iload_n (i := 1) (x := y1) dX2_passes_104 rfl rfl ?_
        refine ez_imul dX2_passes_105 ?_
        refine ez_iload (i := 6) (x := y6) dX2_passes_106 rfl ?_
        refine ez_iadd dX2_passes_108 ?_
        obtain ⟨hg16, h⟩ := zgd_some h
        refine lM_25 dX2_passes_109 hg16 ?_
        obtain ⟨r17, M18, hq18, h⟩ := zbd_some h
        refine ez_callV (C := RX2) (Tt := TX2) (N := 53) (Y' := YX2_through) (vs := [.int y4, .float (M.F 25 (((8 : Int32) * y1) + y6).toNatClampNeg)]) (rest := [.int y6, .ref (a0 + 38)]) dX2_passes_110 rfl zkX2_through q1222 q1224 rfl slX2_through (zm0 _ _ _) znX2_through (Nat.le_of_ble_eq_true rfl) (Nat.le_of_ble_eq_true rfl) rfl (wX2_through (d := d + 0) hq18 (zBack_v ?_))
        show zEF G (d + 3) K YX2_passes 113 [some (.ref a0), some (.int y1), some (.int y2), some (.int y3), some (.int y4), some (.int y5), some (.int y6)] [.float r17, .int y6, .ref (a0 + 38)] (zm a0 g0 M18) Q
        obtain ⟨hg19, h⟩ := zgd_some h
        refine sM_50 dX2_passes_113 hg19 ?_
        refine zlet_use (fun M20 => zEF G (d + 3) K YX2_passes 114 [some (.ref a0), some (.int y1), some (.int y2), some (.int y3), some (.int y4), some (.int y5), some (.int y6)] [] (zm a0 g0 M20) Q) h (fun M20 h => ?_)
        refine ez_iinc (x := y6) (v := (y6 + (1 : Int32))) dX2_passes_114 rfl rfl (show 6 < 7 by decide) ?_
        show zEF G (d + 3) K YX2_passes 117 [some (.ref a0), some (.int y1), some (.int y2), some (.int y3), some (.int y4), some (.int y5), some (.int (y6 + (1 : Int32)))] [] (zm a0 g0 M20) Q
        refine ez_goto (tgt := 75) dX2_passes_117 (by decide) ?_
        exact ih M20 y1 y2 y3 y4 y5 (y6 + (1 : Int32)) _ _ h hk120 kq
theorem fX2_passes_L183_ok {G : zG} {d : Nat} {K : List Nat} {Q : zO → zS → Prop} {a0 : Nat} {g0 : zS} : ∀ (n : Nat) (M : MS) (y1 : Int32) (y2 : Int32) (y3 : Int32) (y4 : Int32) (y6 : Int32) (k215 : MS → Int32 → Int32 → Int32 → Int32 → Option (Int32 × MS)) (p : Int32 × MS) (h : fX2_passes_L183 n M y1 y2 y3 y4 y6 k215 = some p) (hk215 : ∀ (M : MS) (x1 : Int32) (x2 : Int32) (x3 : Int32) (x4 : Int32), k215 M x1 x2 x3 x4 = some p → zEF G (d + 3) K YX2_passes 215 [some (.ref a0), some (.int x1), some (.int x2), some (.int x3), some (.int x4), none, none] [] (zm a0 g0 M) Q) (kq : Q (.inl (some (.int p.1))) (zm a0 g0 p.2)), zEF G (d + 3) K YX2_passes 183 [some (.ref a0), some (.int y1), some (.int y2), some (.int y3), some (.int y4), none, some (.int y6)] [] (zm a0 g0 M) Q := by
  intro n
  induction n with
  | zero =>
    intro M y1 y2 y3 y4 y6 k215 p h hk215 kq
    rw [fX2_passes_L183] at h
    cases h
  | succ n ih =>
    intro M y1 y2 y3 y4 y6 k215 p h hk215 kq
    rw [fX2_passes_L183] at h
    refine ez_iload (i := 6) (x := y6) dX2_passes_183 rfl ?_
    refine ez_bipush (v := 8) dX2_passes_185 (by decide) ?_
    refine ez_icmp_ge (tgt := 215) dX2_passes_187 (by decide) (fun hc => ?_) (fun hc => ?_)
    · replace h := zif_t hc h
      refine ez_clr 6 ?_
      exact hk215 M y1 y2 y3 y4 h
    · replace h := zif_f hc h
      refine ez_aload_n (i := 0) (v := .ref a0) dX2_passes_190 rfl rfl rfl ?_
      refine gM_82 dX2_passes_191 rfl ?_
      refine ez_bipush (v := 8) dX2_passes_194 (by decide) ?_
      refine ez_iload_n (i := 1) (x := y1) dX2_passes_196 rfl rfl ?_
      refine ez_imul dX2_passes_197 ?_
      refine ez_iload (i := 6) (x := y6) dX2_passes_198 rfl ?_
      refine ez_iadd dX2_passes_200 ?_
      refine ez_aload_n (i := 0) (v := .ref a0) dX2_passes_201 rfl rfl rfl ?_
      refine gM_128 dX2_passes_202 rfl ?_
      refine ez_iload (i := 6) (x := y6) dX2_passes_205 rfl ?_
      obtain ⟨hg27, h⟩ := zgd_some h
      refine lM_50 dX2_passes_207 hg27 ?_
      obtain ⟨hg28, h⟩ := zgd_some h
      refine sM_25 dX2_passes_208 hg28 ?_
      refine zlet_use (fun M29 => zEF G (d + 3) K YX2_passes 209 [some (.ref a0), some (.int y1), some (.int y2), some (.int y3), some (.int y4), none, some (.int y6)] [] (zm a0 g0 M29) Q) h (fun M29 h => ?_)
      refine ez_iinc (x := y6) (v := (y6 + (1 : Int32))) dX2_passes_209 rfl rfl (show 6 < 7 by decide) ?_
      show zEF G (d + 3) K YX2_passes 212 [some (.ref a0), some (.int y1), some (.int y2), some (.int y3), some (.int y4), none, some (.int (y6 + (1 : Int32)))] [] (zm a0 g0 M29) Q
      refine ez_goto (tgt := 183) dX2_passes_212 (by decide) ?_
      exact ih M29 y1 y2 y3 y4 (y6 + (1 : Int32)) _ _ h hk215 kq
theorem fX2_passes_L139_ok {G : zG} {d : Nat} {K : List Nat} {Q : zO → zS → Prop} {a0 : Nat} {g0 : zS} : ∀ (n : Nat) (M : MS) (y1 : Int32) (y2 : Int32) (y3 : Int32) (y4 : Int32) (y6 : Int32) (k172 : MS → Int32 → Int32 → Int32 → Option (Int32 × MS)) (p : Int32 × MS) (h : fX2_passes_L139 n M y1 y2 y3 y4 y6 k172 = some p) (hk172 : ∀ (M : MS) (x1 : Int32) (x2 : Int32) (x3 : Int32), k172 M x1 x2 x3 = some p → zEF G (d + 3) K YX2_passes 172 [some (.ref a0), some (.int x1), some (.int x2), some (.int x3), none, none, none] [] (zm a0 g0 M) Q) (kq : Q (.inl (some (.int p.1))) (zm a0 g0 p.2)), zEF G (d + 3) K YX2_passes 139 [some (.ref a0), some (.int y1), some (.int y2), some (.int y3), some (.int y4), none, some (.int y6)] [] (zm a0 g0 M) Q := by
  intro n
  induction n with
  | zero =>
    intro M y1 y2 y3 y4 y6 k172 p h hk172 kq
    rw [fX2_passes_L139] at h
    cases h
  | succ n ih =>
    intro M y1 y2 y3 y4 y6 k172 p h hk172 kq
    rw [fX2_passes_L139] at h
    refine ez_iload (i := 6) (x := y6) dX2_passes_139 rfl ?_
    refine ez_bipush (v := 16) dX2_passes_141 (by decide) ?_
    refine ez_icmp_ge (tgt := 172) dX2_passes_143 (by decide) (fun hc => ?_) (fun hc => ?_)
    · replace h := zif_t hc h
      refine ez_clr 4 ?_
      refine ez_clr 6 ?_
      exact hk172 M y1 y2 y3 h
    · replace h := zif_f hc h
      refine ez_aload_n (i := 0) (v := .ref a0) dX2_passes_146 rfl rfl rfl ?_
      refine gM_39 dX2_passes_147 rfl ?_
      refine ez_bipush (v := 16) dX2_passes_150 (by decide) ?_
      refine ez_iload (i := 4) (x := y4) dX2_passes_152 rfl ?_
      refine ez_imul dX2_passes_154 ?_
      refine ez_iload (i := 6) (x := y6) dX2_passes_155 rfl ?_
      refine ez_iadd dX2_passes_157 ?_
      refine ez_aload_n (i := 0) (v := .ref a0) dX2_passes_158 rfl rfl rfl ?_
      refine gM_42 dX2_passes_159 rfl ?_
      refine ez_iload (i := 6) (x := y6) dX2_passes_162 rfl ?_
      obtain ⟨hg42, h⟩ := zgd_some h
      refine lM_12 dX2_passes_164 hg42 ?_
      obtain ⟨hg43, h⟩ := zgd_some h
      refine sM_11 dX2_passes_165 hg43 ?_
      refine zlet_use (fun M44 => zEF G (d + 3) K YX2_passes 166 [some (.ref a0), some (.int y1), some (.int y2), some (.int y3), some (.int y4), none, some (.int y6)] [] (zm a0 g0 M44) Q) h (fun M44 h => ?_)
      refine ez_iinc (x := y6) (v := (y6 + (1 : Int32))) dX2_passes_166 rfl rfl (show 6 < 7 by decide) ?_
      show zEF G (d + 3) K YX2_passes 169 [some (.ref a0), some (.int y1), some (.int y2), some (.int y3), some (.int y4), none, some (.int (y6 + (1 : Int32)))] [] (zm a0 g0 M44) Q
      refine ez_goto (tgt := 139) dX2_passes_169 (by decide) ?_
      exact ih M44 y1 y2 y3 y4 (y6 + (1 : Int32)) _ _ h hk172 kq
theorem wX2_passes {G : zG} {d : Nat} {K : List Nat} {Q : zO → zS → Prop} {a0 : Nat} {g0 : zS} {M : MS} {b0 : Int32} {b1 : Int32} {b2 : Int32} {p : Int32 × MS} (h : fX2_passes M b0 b1 b2 = some p) (kq : Q (.inl (some (.int p.1))) (zm a0 g0 p.2)) : zEM G (d + 3) K YX2_passes [.ref a0, .int b0, .int b1, .int b2] (zm a0 g0 M) Q := by
  show zEF G (d + 3) K YX2_passes 0 [some (.ref a0), some (.int b0), some (.int b1), some (.int b2), none, none, none] [] (zm a0 g0 M) Q
  unfold fX2_passes at h
  refine ez_aload_n (i := 0) (v := .ref a0) dX2_passes_0 rfl rfl rfl ?_
  refine ez_dup dX2_passes_1 rfl ?_
  refine gM_254 dX2_passes_2 rfl ?_
  refine ez_iconst (v := 1) dX2_passes_5 (by decide) ?_
  refine ez_iadd dX2_passes_6 ?_
  refine pM_254 dX2_passes_7 rfl ?_
  refine zlet_use (fun M1 => zEF G (d + 3) K YX2_passes 10 [some (.ref a0), some (.int b0), some (.int b1), some (.int b2), none, none, none] [] (zm a0 g0 M1) Q) h (fun M1 h => ?_)
  refine ez_aload_n (i := 0) (v := .ref a0) dX2_passes_10 rfl rfl rfl ?_
  refine gM_64 dX2_passes_11 rfl ?_
  refine ez_iconst (v := 4) dX2_passes_14 (by decide) ?_
  refine ez_iload_n (i := 1) (x := b0) dX2_passes_15 rfl rfl ?_
  refine ez_imul dX2_passes_16 ?_
  refine ez_iload_n (i := 2) (x := b1) dX2_passes_17 rfl rfl ?_
  refine ez_iadd dX2_passes_18 ?_
  obtain ⟨hg2, h⟩ := zgd_some h
  refine lM_19 dX2_passes_19 hg2 ?_
  refine ez_istore (i := 4) dX2_passes_20 (show 4 < 7 by decide) ?_
  refine zlet_use (fun a3 => zEF G (d + 3) K YX2_passes 22 [some (.ref a0), some (.int b0), some (.int b1), some (.int b2), some (.int a3), none, none] [] (zm a0 g0 M1) Q) h (fun a3 h => ?_)
  refine ez_aload_n (i := 0) (v := .ref a0) dX2_passes_22 rfl rfl rfl ?_
  refine gM_33 dX2_passes_23 rfl ?_
  refine ez_iload (i := 4) (x := a3) dX2_passes_26 rfl ?_
  obtain ⟨hg4, h⟩ := zgd_some h
  refine lM_9 dX2_passes_28 hg4 ?_
  refine ez_istore (i := 5) dX2_passes_29 (show 5 < 7 by decide) ?_
  refine zlet_use (fun a5 => zEF G (d + 3) K YX2_passes 31 [some (.ref a0), some (.int b0), some (.int b1), some (.int b2), some (.int a3), some (.int a5), none] [] (zm a0 g0 M1) Q) h (fun a5 h => ?_)
  refine ez_iconst (v := 0) dX2_passes_31 (by decide) ?_
  refine ez_istore (i := 6) dX2_passes_32 (show 6 < 7 by decide) ?_
  show zEF G (d + 3) K YX2_passes 34 [some (.ref a0), some (.int b0), some (.int b1), some (.int b2), some (.int a3), some (.int a5), some (.int (0 : Int32))] [] (zm a0 g0 M1) Q
  refine fX2_passes_L34_ok (d := d) (K := K) 1000 M1 b0 b1 b2 a3 a5 (0 : Int32) _ _ h (fun M9 x10 x11 x12 x13 x14 h => ?_) kq
  refine ez_aload_n (i := 0) (v := .ref a0) dX2_passes_67 rfl rfl rfl ?_
  refine ez_iconst (v := 0) dX2_passes_68 (by decide) ?_
  refine pM_210 dX2_passes_69 rfl ?_
  refine zlet_use (fun M15 => zEF G (d + 3) K YX2_passes 72 [some (.ref a0), some (.int x10), some (.int x11), some (.int x12), some (.int x13), some (.int x14), none] [] (zm a0 g0 M15) Q) h (fun M15 h => ?_)
  refine ez_iconst (v := 0) dX2_passes_72 (by decide) ?_
  refine ez_istore (i := 6) dX2_passes_73 (show 6 < 7 by decide) ?_
  show zEF G (d + 3) K YX2_passes 75 [some (.ref a0), some (.int x10), some (.int x11), some (.int x12), some (.int x13), some (.int x14), some (.int (0 : Int32))] [] (zm a0 g0 M15) Q
  refine fX2_passes_L75_ok (d := d) (K := K) 1000 M15 x10 x11 x12 x13 x14 (0 : Int32) _ _ h (fun M21 x22 x23 x24 x25 x26 h => ?_) kq
  refine ez_aload_n (i := 0) (v := .ref a0) dX2_passes_120 rfl rfl rfl ?_
  refine gM_210 dX2_passes_121 rfl ?_
  refine ez_if_eq (tgt := 180) dX2_passes_124 (by decide) (fun hc => ?_) (fun hc => ?_)
  · replace h := zif_t hc h
    refine ez_iconst (v := 0) dX2_passes_180 (by decide) ?_
    refine ez_istore (i := 6) dX2_passes_181 (show 6 < 7 by decide) ?_
    show zEF G (d + 3) K YX2_passes 183 [some (.ref a0), some (.int x22), some (.int x23), some (.int x24), some (.int x25), some (.int x26), some (.int (0 : Int32))] [] (zm a0 g0 M21) Q
    refine ez_clr 5 ?_
    refine fX2_passes_L183_ok (d := d) (K := K) 1000 M21 x22 x23 x24 x25 (0 : Int32) _ _ h (fun M30 x31 x32 x33 x34 h => ?_) kq
    refine ez_aload_n (i := 0) (v := .ref a0) dX2_passes_215 rfl rfl rfl ?_
    refine gM_30 dX2_passes_216 rfl ?_
    refine ez_iload (i := 4) (x := x34) dX2_passes_219 rfl ?_
    refine ez_dup2 dX2_passes_221 rfl rfl ?_
    obtain ⟨hg35, h⟩ := zgd_some h
    refine lM_8 dX2_passes_222 hg35 ?_
    refine ez_iconst (v := 1) dX2_passes_223 (by decide) ?_
    refine ez_iadd dX2_passes_224 ?_
    obtain ⟨hg36, h⟩ := zgd_some h
    refine sM_8 dX2_passes_225 hg36 ?_
    refine zlet_use (fun M37 => zEF G (d + 3) K YX2_passes 226 [some (.ref a0), some (.int x31), some (.int x32), some (.int x33), some (.int x34), none, none] [] (zm a0 g0 M37) Q) h (fun M37 h => ?_)
    refine ez_aload_n (i := 0) (v := .ref a0) dX2_passes_226 rfl rfl rfl ?_
    refine ez_iload_n (i := 1) (x := x31) dX2_passes_227 rfl rfl ?_
    refine ez_iload_n (i := 2) (x := x32) dX2_passes_228 rfl rfl ?_
    refine ez_iconst (v := 1) dX2_passes_229 (by decide) ?_
    refine ez_iadd dX2_passes_230 ?_
    refine ez_iload_n (i := 3) (x := x33) dX2_passes_231 rfl rfl ?_
    obtain ⟨_, M39, hq39, h⟩ := zbd_some h
    refine ez_callV (C := RX2) (Tt := TX2) (N := 53) (Y' := YX2_behind) (vs := [.int x31, .int (x32 + (1 : Int32)), .int x33]) (rest := []) dX2_passes_232 rfl zkX2_behind q1240 q1242 rfl slX2_behind (zm0 _ _ _) znX2_behind (Nat.le_of_ble_eq_true rfl) (Nat.le_of_ble_eq_true rfl) rfl (wX2_behind (d := d + 1) hq39 (zBack_n ?_))
    show zEF G (d + 3) K YX2_passes 235 [some (.ref a0), some (.int x31), some (.int x32), some (.int x33), some (.int x34), none, none] [] (zm a0 g0 M39) Q
    refine ez_iconst (v := 1) dX2_passes_235 (by decide) ?_
    obtain rfl := Option.some.inj h
    exact ez_iret dX2_passes_236 rfl rfl kq
  · replace h := zif_f hc h
    refine ez_aload_n (i := 0) (v := .ref a0) dX2_passes_127 rfl rfl rfl ?_
    refine gM_33 dX2_passes_128 rfl ?_
    refine ez_iload (i := 4) (x := x25) dX2_passes_131 rfl ?_
    refine ez_iload (i := 5) (x := x26) dX2_passes_133 rfl ?_
    obtain ⟨hg40, h⟩ := zgd_some h
    refine sM_9 dX2_passes_135 hg40 ?_
    refine zlet_use (fun M41 => zEF G (d + 3) K YX2_passes 136 [some (.ref a0), some (.int x22), some (.int x23), some (.int x24), some (.int x25), some (.int x26), none] [] (zm a0 g0 M41) Q) h (fun M41 h => ?_)
    refine ez_iconst (v := 0) dX2_passes_136 (by decide) ?_
    refine ez_istore (i := 6) dX2_passes_137 (show 6 < 7 by decide) ?_
    show zEF G (d + 3) K YX2_passes 139 [some (.ref a0), some (.int x22), some (.int x23), some (.int x24), some (.int x25), some (.int x26), some (.int (0 : Int32))] [] (zm a0 g0 M41) Q
    refine ez_clr 5 ?_
    refine fX2_passes_L139_ok (d := d) (K := K) 1000 M41 x22 x23 x24 x25 (0 : Int32) _ _ h (fun M45 x46 x47 x48 h => ?_) kq
    refine ez_aload_n (i := 0) (v := .ref a0) dX2_passes_172 rfl rfl rfl ?_
    refine ez_iload_n (i := 1) (x := x46) dX2_passes_173 rfl rfl ?_
    refine ez_iload_n (i := 2) (x := x47) dX2_passes_174 rfl rfl ?_
    refine ez_iload_n (i := 3) (x := x48) dX2_passes_175 rfl rfl ?_
    obtain ⟨r49, M50, hq50, h⟩ := zbd_some h
    refine ez_callV (C := RX2) (Tt := TX2) (N := 53) (Y' := YX2_fails) (vs := [.int x46, .int x47, .int x48]) (rest := []) dX2_passes_176 rfl zkX2_fails q1236 q1238 rfl slX2_fails (zm0 _ _ _) znX2_fails (Nat.le_of_ble_eq_true rfl) (Nat.le_of_ble_eq_true rfl) rfl (wX2_fails (d := d + 2) hq50 (zBack_v ?_))
    show zEF G (d + 3) K YX2_passes 179 [some (.ref a0), some (.int x46), some (.int x47), some (.int x48), none, none, none] [.int r49] (zm a0 g0 M50) Q
    obtain rfl := Option.some.inj h
    exact ez_iret dX2_passes_179 rfl rfl kq
def YX2_waits : zM := (yX2_waits, cX2_waits, 1, (Option.some Jvm.ClassFile.FieldType.int), [], false)
theorem zkX2_waits : zMok YX2_waits := ⟨rfl, q1251, by decide +kernel, by decide +kernel⟩
theorem znX2_waits : (parseMethodDescriptor YX2_waits.nm.desc).map (fun d => d.parameters.length) = some 0 := by decide +kernel
theorem slX2_waits : Cond.selects RX2 yX2_waits yX2_waits ∈ lw_all := lw_w 41 rfl rfl
noncomputable def fX2_waits (M : MS) : Option (Int32 × MS) := zlet (mI M 47 ((M.I 47) + (1 : Int32))) (fun M1 => some ((0 : Int32), M1))
theorem wX2_waits {G : zG} {d : Nat} {K : List Nat} {Q : zO → zS → Prop} {a0 : Nat} {g0 : zS} {M : MS} {p : Int32 × MS} (h : fX2_waits M = some p) (kq : Q (.inl (some (.int p.1))) (zm a0 g0 p.2)) : zEM G (d + 0) K YX2_waits [.ref a0] (zm a0 g0 M) Q := by
  show zEF G (d + 0) K YX2_waits 0 [some (.ref a0)] [] (zm a0 g0 M) Q
  unfold fX2_waits at h
  refine ez_aload_n (i := 0) (v := .ref a0) dX2_waits_0 rfl rfl rfl ?_
  refine ez_dup dX2_waits_1 rfl ?_
  refine gM_268 dX2_waits_2 rfl ?_
  refine ez_iconst (v := 1) dX2_waits_5 (by decide) ?_
  refine ez_iadd dX2_waits_6 ?_
  refine pM_268 dX2_waits_7 rfl ?_
  refine zlet_use (fun M1 => zEF G (d + 0) K YX2_waits 10 [some (.ref a0)] [] (zm a0 g0 M1) Q) h (fun M1 h => ?_)
  refine ez_iconst (v := 0) dX2_waits_10 (by decide) ?_
  obtain rfl := Option.some.inj h
  exact ez_iret dX2_waits_11 rfl rfl kq
def YX2_firstOf : zM := (yX2_firstOf, cX2_firstOf, 3, (Option.some Jvm.ClassFile.FieldType.int), [], false)
theorem zkX2_firstOf : zMok YX2_firstOf := ⟨rfl, q1255, by decide +kernel, by decide +kernel⟩
theorem znX2_firstOf : (parseMethodDescriptor YX2_firstOf.nm.desc).map (fun d => d.parameters.length) = some 1 := by decide +kernel
theorem slX2_firstOf : Cond.selects RX2 yX2_firstOf yX2_firstOf ∈ lw_all := lw_w 42 rfl rfl
noncomputable def fX2_firstOf_L2 : Nat → MS → Int32 → Int32 → Option (Int32 × MS)
  | 0, _, _, _ => none
  | n + 1, M, y1, y2 => if (8 : Int32) ≤ y2 then some (y2, M) else zgd (vp_in y2 8) (if (M.A 20 y2.toNatClampNeg) = y1 then some (y2, M) else fX2_firstOf_L2 n M y1 (y2 + (1 : Int32)))
noncomputable def fX2_firstOf (M : MS) (b0 : Int32) : Option (Int32 × MS) := fX2_firstOf_L2 1000 M b0 (0 : Int32) 
theorem fX2_firstOf_L2_ok {G : zG} {d : Nat} {K : List Nat} {Q : zO → zS → Prop} {a0 : Nat} {g0 : zS} : ∀ (n : Nat) (M : MS) (y1 : Int32) (y2 : Int32) (p : Int32 × MS) (h : fX2_firstOf_L2 n M y1 y2 = some p) (kq : Q (.inl (some (.int p.1))) (zm a0 g0 p.2)), zEF G (d + 0) K YX2_firstOf 2 [some (.ref a0), some (.int y1), some (.int y2)] [] (zm a0 g0 M) Q := by
  intro n
  induction n with
  | zero =>
    intro M y1 y2 p h kq
    rw [fX2_firstOf_L2] at h
    cases h
  | succ n ih =>
    intro M y1 y2 p h kq
    rw [fX2_firstOf_L2] at h
    refine ez_iload_n (i := 2) (x := y2) dX2_firstOf_2 rfl rfl ?_
    refine ez_bipush (v := 8) dX2_firstOf_3 (by decide) ?_
    refine ez_icmp_ge (tgt := 24) dX2_firstOf_5 (by decide) (fun hc => ?_) (fun hc => ?_)
    · replace h := zif_t hc h
      refine ez_iload_n (i := 2) (x := y2) dX2_firstOf_24 rfl rfl ?_
      obtain rfl := Option.some.inj h
      exact ez_iret dX2_firstOf_25 rfl rfl kq
    · replace h := zif_f hc h
      refine ez_aload_n (i := 0) (v := .ref a0) dX2_firstOf_8 rfl rfl rfl ?_
      refine gM_67 dX2_firstOf_9 rfl ?_
      refine ez_iload_n (i := 2) (x := y2) dX2_firstOf_12 rfl rfl ?_
      obtain ⟨hg1, h⟩ := zgd_some h
      refine lM_20 dX2_firstOf_13 hg1 ?_
      refine ez_iload_n (i := 1) (x := y1) dX2_firstOf_14 rfl rfl ?_
      refine ez_icmp_eq (tgt := 24) dX2_firstOf_15 (by decide) (fun hc => ?_) (fun hc => ?_)
      · replace h := zif_t hc h
        refine ez_iload_n (i := 2) (x := y2) dX2_firstOf_24 rfl rfl ?_
        obtain rfl := Option.some.inj h
        exact ez_iret dX2_firstOf_25 rfl rfl kq
      · replace h := zif_f hc h
        refine ez_iinc (x := y2) (v := (y2 + (1 : Int32))) dX2_firstOf_18 rfl rfl (show 2 < 3 by decide) ?_
        show zEF G (d + 0) K YX2_firstOf 21 [some (.ref a0), some (.int y1), some (.int (y2 + (1 : Int32)))] [] (zm a0 g0 M) Q
        refine ez_goto (tgt := 2) dX2_firstOf_21 (by decide) ?_
        exact ih M y1 (y2 + (1 : Int32)) _ h kq
theorem wX2_firstOf {G : zG} {d : Nat} {K : List Nat} {Q : zO → zS → Prop} {a0 : Nat} {g0 : zS} {M : MS} {b0 : Int32} {p : Int32 × MS} (h : fX2_firstOf M b0 = some p) (kq : Q (.inl (some (.int p.1))) (zm a0 g0 p.2)) : zEM G (d + 0) K YX2_firstOf [.ref a0, .int b0] (zm a0 g0 M) Q := by
  show zEF G (d + 0) K YX2_firstOf 0 [some (.ref a0), some (.int b0), none] [] (zm a0 g0 M) Q
  unfold fX2_firstOf at h
  refine ez_iconst (v := 0) dX2_firstOf_0 (by decide) ?_
  refine ez_istore_n (i := 2) dX2_firstOf_1 rfl (show 2 < 3 by decide) ?_
  show zEF G (d + 0) K YX2_firstOf 2 [some (.ref a0), some (.int b0), some (.int (0 : Int32))] [] (zm a0 g0 M) Q
  refine fX2_firstOf_L2_ok (d := d) (K := K) 1000 M b0 (0 : Int32) _ h  kq
def YX2_loads : zM := (yX2_loads, cX2_loads, 6, (Option.some Jvm.ClassFile.FieldType.int), [], false)
theorem zkX2_loads : zMok YX2_loads := ⟨rfl, q1259, by decide +kernel, by decide +kernel⟩
theorem znX2_loads : (parseMethodDescriptor YX2_loads.nm.desc).map (fun d => d.parameters.length) = some 2 := by decide +kernel
theorem slX2_loads : Cond.selects RX2 yX2_loads yX2_loads ∈ lw_all := lw_w 43 rfl rfl
noncomputable def fX2_loads_L31 : Nat → MS → Int32 → Int32 → Int32 → (MS → Int32 → Int32 → Option (Int32 × MS)) → Option (Int32 × MS)
  | 0, _, _, _, _, _ => none
  | n + 1, M, y1, y2, y3, k144 => if (8 : Int32) ≤ y3 then k144 M y1 y2 else if (M.I 49) = 0 then zgd (vp_in y1 8) (zlet (((M.A 15 y1.toNatClampNeg) + ((8 : Int32) * (M.I 31))) + y3) (fun a9 => zgd (vp_in y1 8) (zgd (vp_in (M.A 14 y1.toNatClampNeg) 16) (zbj (fX2_in a9 (0 : Int32) ((M.A 2 (M.A 14 y1.toNatClampNeg).toNatClampNeg) - (1 : Int32))) (fun r12 => zjoin (fun (M14 : MS) (v15 : Int32) (v16 : Int32) (v17 : Int32) (v18 : Int32) (v19 : Int32) (v20 : Int32) => zlet (mI M14 49 v20) (fun M21 => zjoin (fun (M22 : MS) (v23 : Int32) (v24 : Int32) (v25 : Int32) (v26 : UInt32) (v27 : Int32) => zgd (vp_in v27 64) (zlet (mF M22 25 v27.toNatClampNeg v26) (fun M29 => fX2_loads_L31 n M29 v23 v24 (v25 + (1 : Int32)) k144))) (fun j30 => if v19 = 0 then j30 M21 v15 v16 v17 FP.fconst0 (((8 : Int32) * v15) + v17) else zgd (vp_in v15 8) (zbd (fX2_sampleAt M21 (M21.A 14 v15.toNatClampNeg) v18) (fun r32 M33 => j30 M33 v15 v16 v17 r32 (((8 : Int32) * v15) + v17)))))) (fun j34 => zjoin (fun (M35 : MS) (v36 : Int32) (v37 : Int32) (v38 : Int32) (v39 : Int32) (v40 : Int32) => j34 M35 v36 v37 v38 v39 v40 (0 : Int32)) (fun j41 => if r12 = 0 then zgd (vp_in y1 8) (if (M.A 16 y1.toNatClampNeg) = 0 then j41 M y1 y2 y3 a9 r12 else j34 M y1 y2 y3 a9 r12 (2 : Int32)) else j41 M y1 y2 y3 a9 r12))))))) else k144 M y1 y2
noncomputable def fX2_loads (M : MS) (b0 : Int32) (b1 : Int32) : Option (Int32 × MS) := zlet (mI M 46 ((M.I 46) + (1 : Int32))) (fun M1 => zgd (vp_in b0 8) (zjoin (fun (M3 : MS) (v4 : Int32) (v5 : Int32) (v6 : Int32) => zlet (mI M3 49 v6) (fun M7 => fX2_loads_L31 1000 M7 v4 v5 (0 : Int32) (fun (M43 : MS) (x44 : Int32) (x45 : Int32) => if (M43.I 49) = 0 then zbd (fX2_behind M43 x44 (0 : Int32) x45) (fun _ M47 => some ((1 : Int32), M47)) else zbd (fX2_fails M43 x44 (-1 : Int32) x45) (fun r48 M49 => some (r48, M49))))) (fun j50 => if (M1.A 14 b0.toNatClampNeg) = (-1 : Int32) then j50 M1 b0 b1 (1 : Int32) else j50 M1 b0 b1 (0 : Int32))))
theorem fX2_loads_L31_ok {G : zG} {d : Nat} {K : List Nat} {Q : zO → zS → Prop} {a0 : Nat} {g0 : zS} : ∀ (n : Nat) (M : MS) (y1 : Int32) (y2 : Int32) (y3 : Int32) (k144 : MS → Int32 → Int32 → Option (Int32 × MS)) (p : Int32 × MS) (h : fX2_loads_L31 n M y1 y2 y3 k144 = some p) (hk144 : ∀ (M : MS) (x1 : Int32) (x2 : Int32), k144 M x1 x2 = some p → zEF G (d + 2) K YX2_loads 144 [some (.ref a0), some (.int x1), some (.int x2), none, none, none] [] (zm a0 g0 M) Q) (kq : Q (.inl (some (.int p.1))) (zm a0 g0 p.2)), zEF G (d + 2) K YX2_loads 31 [some (.ref a0), some (.int y1), some (.int y2), some (.int y3), none, none] [] (zm a0 g0 M) Q := by
  intro n
  induction n with
  | zero =>
    intro M y1 y2 y3 k144 p h hk144 kq
    rw [fX2_loads_L31] at h
    cases h
  | succ n ih =>
    intro M y1 y2 y3 k144 p h hk144 kq
    rw [fX2_loads_L31] at h
    refine ez_iload_n (i := 3) (x := y3) dX2_loads_31 rfl rfl ?_
    refine ez_bipush (v := 8) dX2_loads_32 (by decide) ?_
    refine ez_icmp_ge (tgt := 144) dX2_loads_34 (by decide) (fun hc => ?_) (fun hc => ?_)
    · replace h := zif_t hc h
      refine ez_clr 3 ?_
      exact hk144 M y1 y2 h
    · replace h := zif_f hc h
      refine ez_aload_n (i := 0) (v := .ref a0) dX2_loads_37 rfl rfl rfl ?_
      refine gM_210 dX2_loads_38 rfl ?_
      refine ez_if_ne (tgt := 144) dX2_loads_41 (by decide) (fun hc => ?_) (fun hc => ?_)
      · replace h := zif_f hc h
        refine ez_clr 3 ?_
        exact hk144 M y1 y2 h
      · replace h := zif_t hc h
        refine ez_aload_n (i := 0) (v := .ref a0) dX2_loads_44 rfl rfl rfl ?_
        refine gM_52 dX2_loads_45 rfl ?_
        refine ez_iload_n (i := 1) (x := y1) dX2_loads_48 rfl rfl ?_
        obtain ⟨hg8, h⟩ := zgd_some h
        refine lM_15 dX2_loads_49 hg8 ?_
        refine ez_bipush (v := 8) dX2_loads_50 (by decide) ?_
        refine ez_aload_n (i := 0) (v := .ref a0) dX2_loads_52 rfl rfl rfl ?_
        refine gM_238 dX2_loads_53 rfl ?_
        refine ez_imul dX2_loads_56 ?_
        refine ez_iadd dX2_loads_57 ?_
        refine ez_iload_n (i := 3) (x := y3) dX2_loads_58 rfl rfl ?_
        refine ez_iadd dX2_loads_59 ?_
        refine ez_istore (i := 4) dX2_loads_60 (show 4 < 6 by decide) ?_
        refine zlet_use (fun a9 => zEF G (d + 2) K YX2_loads 62 [some (.ref a0), some (.int y1), some (.int y2), some (.int y3), some (.int a9), none] [] (zm a0 g0 M) Q) h (fun a9 h => ?_)
        refine ez_iload (i := 4) (x := a9) dX2_loads_62 rfl ?_
        refine ez_iconst (v := 0) dX2_loads_64 (by decide) ?_
        refine ez_aload_n (i := 0) (v := .ref a0) dX2_loads_65 rfl rfl rfl ?_
        refine gM_13 dX2_loads_66 rfl ?_
        refine ez_aload_n (i := 0) (v := .ref a0) dX2_loads_69 rfl rfl rfl ?_
        refine gM_49 dX2_loads_70 rfl ?_
        refine ez_iload_n (i := 1) (x := y1) dX2_loads_73 rfl rfl ?_
        obtain ⟨hg10, h⟩ := zgd_some h
        refine lM_14 dX2_loads_74 hg10 ?_
        obtain ⟨hg11, h⟩ := zgd_some h
        refine lM_2 dX2_loads_75 hg11 ?_
        refine ez_iconst (v := 1) dX2_loads_76 (by decide) ?_
        refine ez_isub dX2_loads_77 ?_
        obtain ⟨r12, hq13, h⟩ := zbj_some h
        refine ez_callS (Y' := YX2_in) (vs := [.int a9, .int (0 : Int32), .int ((M.A 2 (M.A 14 y1.toNatClampNeg).toNatClampNeg) - (1 : Int32))]) (rest := []) dX2_loads_78 rfl zkX2_in q1098 q1099 q54 znX2_in (Nat.le_of_ble_eq_true rfl) (Nat.le_of_ble_eq_true rfl) rfl (wX2_in (d := d + 1) hq13 (zBack_v ?_))
        show zEF G (d + 2) K YX2_loads 81 [some (.ref a0), some (.int y1), some (.int y2), some (.int y3), some (.int a9), none] [.int r12] (zm a0 g0 M) Q
        refine ez_istore (i := 5) dX2_loads_81 (show 5 < 6 by decide) ?_
        show zEF G (d + 2) K YX2_loads 83 [some (.ref a0), some (.int y1), some (.int y2), some (.int y3), some (.int a9), some (.int r12)] [] (zm a0 g0 M) Q
        refine ez_aload_n (i := 0) (v := .ref a0) dX2_loads_83 rfl rfl rfl ?_
        refine ez_iload (i := 5) (x := r12) dX2_loads_84 rfl ?_
        refine zjoin_use (fun (j : MS → Int32 → Int32 → Int32 → Int32 → Int32 → Int32 → Option (Int32 × MS)) => ∀ (M14 : MS) (v15 : Int32) (v16 : Int32) (v17 : Int32) (v18 : Int32) (v19 : Int32) (v20 : Int32), j M14 v15 v16 v17 v18 v19 v20 = some p → zEF G (d + 2) K YX2_loads 103 [some (.ref a0), some (.int v15), some (.int v16), some (.int v17), some (.int v18), some (.int v19)] [.int v20, .ref a0] (zm a0 g0 M14) Q) h (fun M14 v15 v16 v17 v18 v19 v20 h => ?_) (fun j34 hj34 h => ?_)
        · refine pM_210 dX2_loads_103 rfl ?_
          refine zlet_use (fun M21 => zEF G (d + 2) K YX2_loads 106 [some (.ref a0), some (.int v15), some (.int v16), some (.int v17), some (.int v18), some (.int v19)] [] (zm a0 g0 M21) Q) h (fun M21 h => ?_)
          refine ez_aload_n (i := 0) (v := .ref a0) dX2_loads_106 rfl rfl rfl ?_
          refine gM_82 dX2_loads_107 rfl ?_
          refine ez_bipush (v := 8) dX2_loads_110 (by decide) ?_
          refine ez_iload_n (i := 1) (x := v15) dX2_loads_112 rfl rfl ?_
          refine ez_imul dX2_loads_113 ?_
          refine ez_iload_n (i := 3) (x := v17) dX2_loads_114 rfl rfl ?_
          refine ez_iadd dX2_loads_115 ?_
          refine ez_iload (i := 5) (x := v19) dX2_loads_116 rfl ?_
          refine zjoin_use (fun (j : MS → Int32 → Int32 → Int32 → UInt32 → Int32 → Option (Int32 × MS)) => ∀ (M22 : MS) (v23 : Int32) (v24 : Int32) (v25 : Int32) (v26 : UInt32) (v27 : Int32), j M22 v23 v24 v25 v26 v27 = some p → zEF G (d + 2) K YX2_loads 137 [some (.ref a0), some (.int v23), some (.int v24), some (.int v25), none, none] [.float v26, .int v27, .ref (a0 + 24)] (zm a0 g0 M22) Q) h (fun M22 v23 v24 v25 v26 v27 h => ?_) (fun j30 hj30 h => ?_)
          · obtain ⟨hg28, h⟩ := zgd_some h
            refine sM_25 dX2_loads_137 hg28 ?_
            refine zlet_use (fun M29 => zEF G (d + 2) K YX2_loads 138 [some (.ref a0), some (.int v23), some (.int v24), some (.int v25), none, none] [] (zm a0 g0 M29) Q) h (fun M29 h => ?_)
            refine ez_iinc (x := v25) (v := (v25 + (1 : Int32))) dX2_loads_138 rfl rfl (show 3 < 6 by decide) ?_
            show zEF G (d + 2) K YX2_loads 141 [some (.ref a0), some (.int v23), some (.int v24), some (.int (v25 + (1 : Int32))), none, none] [] (zm a0 g0 M29) Q
            refine ez_goto (tgt := 31) dX2_loads_141 (by decide) ?_
            exact ih M29 v23 v24 (v25 + (1 : Int32)) _ _ h hk144 kq
          · refine ez_if_eq (tgt := 136) dX2_loads_118 (by decide) (fun hc => ?_) (fun hc => ?_)
            · replace h := zif_t hc h
              refine ez_fconst0 dX2_loads_136 ?_
              refine ez_clr 4 ?_
              refine ez_clr 5 ?_
              exact hj30 M21 v15 v16 v17 FP.fconst0 (((8 : Int32) * v15) + v17) h
            · replace h := zif_f hc h
              refine ez_aload_n (i := 0) (v := .ref a0) dX2_loads_121 rfl rfl rfl ?_
              refine ez_aload_n (i := 0) (v := .ref a0) dX2_loads_122 rfl rfl rfl ?_
              refine gM_49 dX2_loads_123 rfl ?_
              refine ez_iload_n (i := 1) (x := v15) dX2_loads_126 rfl rfl ?_
              obtain ⟨hg31, h⟩ := zgd_some h
              refine lM_14 dX2_loads_127 hg31 ?_
              refine ez_iload (i := 4) (x := v18) dX2_loads_128 rfl ?_
              obtain ⟨r32, M33, hq33, h⟩ := zbd_some h
              refine ez_callV (C := RX2) (Tt := TX2) (N := 53) (Y' := YX2_sampleAt) (vs := [.int (M21.A 14 v15.toNatClampNeg), .int v18]) (rest := [.int (((8 : Int32) * v15) + v17), .ref (a0 + 24)]) dX2_loads_130 rfl zkX2_sampleAt q1120 q1122 rfl slX2_sampleAt (zm0 _ _ _) znX2_sampleAt (Nat.le_of_ble_eq_true rfl) (Nat.le_of_ble_eq_true rfl) rfl (wX2_sampleAt (d := d + 0) hq33 (zBack_v ?_))
              show zEF G (d + 2) K YX2_loads 133 [some (.ref a0), some (.int v15), some (.int v16), some (.int v17), some (.int v18), some (.int v19)] [.float r32, .int (((8 : Int32) * v15) + v17), .ref (a0 + 24)] (zm a0 g0 M33) Q
              refine ez_goto (tgt := 137) dX2_loads_133 (by decide) ?_
              refine ez_clr 4 ?_
              refine ez_clr 5 ?_
              exact hj30 M33 v15 v16 v17 r32 (((8 : Int32) * v15) + v17) h
        · refine zjoin_use (fun (j : MS → Int32 → Int32 → Int32 → Int32 → Int32 → Option (Int32 × MS)) => ∀ (M35 : MS) (v36 : Int32) (v37 : Int32) (v38 : Int32) (v39 : Int32) (v40 : Int32), j M35 v36 v37 v38 v39 v40 = some p → zEF G (d + 2) K YX2_loads 102 [some (.ref a0), some (.int v36), some (.int v37), some (.int v38), some (.int v39), some (.int v40)] [.ref a0] (zm a0 g0 M35) Q) h (fun M35 v36 v37 v38 v39 v40 h => ?_) (fun j41 hj41 h => ?_)
          · refine ez_iconst (v := 0) dX2_loads_102 (by decide) ?_
            exact hj34 M35 v36 v37 v38 v39 v40 (0 : Int32) h
          · refine ez_if_ne (tgt := 102) dX2_loads_86 (by decide) (fun hc => ?_) (fun hc => ?_)
            · replace h := zif_f hc h
              exact hj41 M y1 y2 y3 a9 r12 h
            · replace h := zif_t hc h
              refine ez_aload_n (i := 0) (v := .ref a0) dX2_loads_89 rfl rfl rfl ?_
              refine gM_55 dX2_loads_90 rfl ?_
              refine ez_iload_n (i := 1) (x := y1) dX2_loads_93 rfl rfl ?_
              obtain ⟨hg42, h⟩ := zgd_some h
              refine lM_16 dX2_loads_94 hg42 ?_
              refine ez_if_eq (tgt := 102) dX2_loads_95 (by decide) (fun hc => ?_) (fun hc => ?_)
              · replace h := zif_t hc h
                exact hj41 M y1 y2 y3 a9 r12 h
              · replace h := zif_f hc h
                refine ez_iconst (v := 2) dX2_loads_98 (by decide) ?_
                refine ez_goto (tgt := 103) dX2_loads_99 (by decide) ?_
                exact hj34 M y1 y2 y3 a9 r12 (2 : Int32) h
theorem wX2_loads {G : zG} {d : Nat} {K : List Nat} {Q : zO → zS → Prop} {a0 : Nat} {g0 : zS} {M : MS} {b0 : Int32} {b1 : Int32} {p : Int32 × MS} (h : fX2_loads M b0 b1 = some p) (kq : Q (.inl (some (.int p.1))) (zm a0 g0 p.2)) : zEM G (d + 2) K YX2_loads [.ref a0, .int b0, .int b1] (zm a0 g0 M) Q := by
  show zEF G (d + 2) K YX2_loads 0 [some (.ref a0), some (.int b0), some (.int b1), none, none, none] [] (zm a0 g0 M) Q
  unfold fX2_loads at h
  refine ez_aload_n (i := 0) (v := .ref a0) dX2_loads_0 rfl rfl rfl ?_
  refine ez_dup dX2_loads_1 rfl ?_
  refine gM_254 dX2_loads_2 rfl ?_
  refine ez_iconst (v := 1) dX2_loads_5 (by decide) ?_
  refine ez_iadd dX2_loads_6 ?_
  refine pM_254 dX2_loads_7 rfl ?_
  refine zlet_use (fun M1 => zEF G (d + 2) K YX2_loads 10 [some (.ref a0), some (.int b0), some (.int b1), none, none, none] [] (zm a0 g0 M1) Q) h (fun M1 h => ?_)
  refine ez_aload_n (i := 0) (v := .ref a0) dX2_loads_10 rfl rfl rfl ?_
  refine ez_aload_n (i := 0) (v := .ref a0) dX2_loads_11 rfl rfl rfl ?_
  refine gM_49 dX2_loads_12 rfl ?_
  refine ez_iload_n (i := 1) (x := b0) dX2_loads_15 rfl rfl ?_
  obtain ⟨hg2, h⟩ := zgd_some h
  refine lM_14 dX2_loads_16 hg2 ?_
  refine ez_iconst (v := -1) dX2_loads_17 (by decide) ?_
  refine zjoin_use (fun (j : MS → Int32 → Int32 → Int32 → Option (Int32 × MS)) => ∀ (M3 : MS) (v4 : Int32) (v5 : Int32) (v6 : Int32), j M3 v4 v5 v6 = some p → zEF G (d + 2) K YX2_loads 26 [some (.ref a0), some (.int v4), some (.int v5), none, none, none] [.int v6, .ref a0] (zm a0 g0 M3) Q) h (fun M3 v4 v5 v6 h => ?_) (fun j50 hj50 h => ?_)
  · refine pM_210 dX2_loads_26 rfl ?_
    refine zlet_use (fun M7 => zEF G (d + 2) K YX2_loads 29 [some (.ref a0), some (.int v4), some (.int v5), none, none, none] [] (zm a0 g0 M7) Q) h (fun M7 h => ?_)
    refine ez_iconst (v := 0) dX2_loads_29 (by decide) ?_
    refine ez_istore_n (i := 3) dX2_loads_30 rfl (show 3 < 6 by decide) ?_
    show zEF G (d + 2) K YX2_loads 31 [some (.ref a0), some (.int v4), some (.int v5), some (.int (0 : Int32)), none, none] [] (zm a0 g0 M7) Q
    refine fX2_loads_L31_ok (d := d) (K := K) 1000 M7 v4 v5 (0 : Int32) _ _ h (fun M43 x44 x45 h => ?_) kq
    refine ez_aload_n (i := 0) (v := .ref a0) dX2_loads_144 rfl rfl rfl ?_
    refine gM_210 dX2_loads_145 rfl ?_
    refine ez_if_eq (tgt := 159) dX2_loads_148 (by decide) (fun hc => ?_) (fun hc => ?_)
    · replace h := zif_t hc h
      refine ez_aload_n (i := 0) (v := .ref a0) dX2_loads_159 rfl rfl rfl ?_
      refine ez_iload_n (i := 1) (x := x44) dX2_loads_160 rfl rfl ?_
      refine ez_iconst (v := 0) dX2_loads_161 (by decide) ?_
      refine ez_iload_n (i := 2) (x := x45) dX2_loads_162 rfl rfl ?_
      obtain ⟨_, M47, hq47, h⟩ := zbd_some h
      refine ez_callV (C := RX2) (Tt := TX2) (N := 53) (Y' := YX2_behind) (vs := [.int x44, .int (0 : Int32), .int x45]) (rest := []) dX2_loads_163 rfl zkX2_behind q1240 q1242 rfl slX2_behind (zm0 _ _ _) znX2_behind (Nat.le_of_ble_eq_true rfl) (Nat.le_of_ble_eq_true rfl) rfl (wX2_behind (d := d + 0) hq47 (zBack_n ?_))
      show zEF G (d + 2) K YX2_loads 166 [some (.ref a0), some (.int x44), some (.int x45), none, none, none] [] (zm a0 g0 M47) Q
      refine ez_iconst (v := 1) dX2_loads_166 (by decide) ?_
      obtain rfl := Option.some.inj h
      exact ez_iret dX2_loads_167 rfl rfl kq
    · replace h := zif_f hc h
      refine ez_aload_n (i := 0) (v := .ref a0) dX2_loads_151 rfl rfl rfl ?_
      refine ez_iload_n (i := 1) (x := x44) dX2_loads_152 rfl rfl ?_
      refine ez_iconst (v := -1) dX2_loads_153 (by decide) ?_
      refine ez_iload_n (i := 2) (x := x45) dX2_loads_154 rfl rfl ?_
      obtain ⟨r48, M49, hq49, h⟩ := zbd_some h
      refine ez_callV (C := RX2) (Tt := TX2) (N := 53) (Y' := YX2_fails) (vs := [.int x44, .int (-1 : Int32), .int x45]) (rest := []) dX2_loads_155 rfl zkX2_fails q1236 q1238 rfl slX2_fails (zm0 _ _ _) znX2_fails (Nat.le_of_ble_eq_true rfl) (Nat.le_of_ble_eq_true rfl) rfl (wX2_fails (d := d + 1) hq49 (zBack_v ?_))
      show zEF G (d + 2) K YX2_loads 158 [some (.ref a0), some (.int x44), some (.int x45), none, none, none] [.int r48] (zm a0 g0 M49) Q
      obtain rfl := Option.some.inj h
      exact ez_iret dX2_loads_158 rfl rfl kq
  · refine ez_icmp_ne (tgt := 25) dX2_loads_18 (by decide) (fun hc => ?_) (fun hc => ?_)
    · replace h := zif_f hc h
      refine ez_iconst (v := 0) dX2_loads_25 (by decide) ?_
      exact hj50 M1 b0 b1 (0 : Int32) h
    · replace h := zif_t hc h
      refine ez_iconst (v := 1) dX2_loads_21 (by decide) ?_
      refine ez_goto (tgt := 26) dX2_loads_22 (by decide) ?_
      exact hj50 M1 b0 b1 (1 : Int32) h
def YX2_hasTrack : zM := (yX2_hasTrack, cX2_hasTrack, 3, (Option.some Jvm.ClassFile.FieldType.boolean), [], false)
theorem zkX2_hasTrack : zMok YX2_hasTrack := ⟨rfl, q1263, by decide +kernel, by decide +kernel⟩
theorem znX2_hasTrack : (parseMethodDescriptor YX2_hasTrack.nm.desc).map (fun d => d.parameters.length) = some 0 := by decide +kernel
theorem slX2_hasTrack : Cond.selects RX2 yX2_hasTrack yX2_hasTrack ∈ lw_all := lw_w 44 rfl rfl
noncomputable def fX2_hasTrack_L4 : Nat → MS → Int32 → Int32 → Option (Int32 × MS)
  | 0, _, _, _ => none
  | n + 1, M, y1, y2 => if (M.I 26) ≤ y2 then zgd (zbl y1) (some (y1, M)) else zjoin (fun (M1 : MS) (v2 : Int32) (v3 : Int32) => fX2_hasTrack_L4 n M1 v3 (v2 + (1 : Int32))) (fun j4 => zjoin (fun (M5 : MS) (v6 : Int32) => j4 M5 v6 (1 : Int32)) (fun j7 => if y1 = 0 then zgd (vp_in y2 4) (if (M.A 27 y2.toNatClampNeg) = (-1 : Int32) then j4 M y2 (0 : Int32) else j7 M y2) else j7 M y2))
noncomputable def fX2_hasTrack (M : MS) : Option (Int32 × MS) := fX2_hasTrack_L4 1000 M (0 : Int32) (0 : Int32) 
theorem fX2_hasTrack_L4_ok {G : zG} {d : Nat} {K : List Nat} {Q : zO → zS → Prop} {a0 : Nat} {g0 : zS} : ∀ (n : Nat) (M : MS) (y1 : Int32) (y2 : Int32) (p : Int32 × MS) (h : fX2_hasTrack_L4 n M y1 y2 = some p) (kq : Q (.inl (some (.int p.1))) (zm a0 g0 p.2)), zEF G (d + 0) K YX2_hasTrack 4 [some (.ref a0), some (.int y1), some (.int y2)] [] (zm a0 g0 M) Q := by
  intro n
  induction n with
  | zero =>
    intro M y1 y2 p h kq
    rw [fX2_hasTrack_L4] at h
    cases h
  | succ n ih =>
    intro M y1 y2 p h kq
    rw [fX2_hasTrack_L4] at h
    refine ez_iload_n (i := 2) (x := y2) dX2_hasTrack_4 rfl rfl ?_
    refine ez_aload_n (i := 0) (v := .ref a0) dX2_hasTrack_5 rfl rfl rfl ?_
    refine gM_85 dX2_hasTrack_6 rfl ?_
    refine ez_icmp_ge (tgt := 38) dX2_hasTrack_9 (by decide) (fun hc => ?_) (fun hc => ?_)
    · replace h := zif_t hc h
      refine ez_iload_n (i := 1) (x := y1) dX2_hasTrack_38 rfl rfl ?_
      obtain ⟨hb, h⟩ := zgd_some h
      obtain rfl := Option.some.inj h
      exact ez_iret dX2_hasTrack_39 rfl hb.1 kq
    · replace h := zif_f hc h
      refine ez_iload_n (i := 1) (x := y1) dX2_hasTrack_12 rfl rfl ?_
      refine zjoin_use (fun (j : MS → Int32 → Int32 → Option (Int32 × MS)) => ∀ (M1 : MS) (v2 : Int32) (v3 : Int32), j M1 v2 v3 = some p → zEF G (d + 0) K YX2_hasTrack 31 [some (.ref a0), none, some (.int v2)] [.int v3] (zm a0 g0 M1) Q) h (fun M1 v2 v3 h => ?_) (fun j4 hj4 h => ?_)
      · refine ez_istore_n (i := 1) dX2_hasTrack_31 rfl (show 1 < 3 by decide) ?_
        show zEF G (d + 0) K YX2_hasTrack 32 [some (.ref a0), some (.int v3), some (.int v2)] [] (zm a0 g0 M1) Q
        refine ez_iinc (x := v2) (v := (v2 + (1 : Int32))) dX2_hasTrack_32 rfl rfl (show 2 < 3 by decide) ?_
        show zEF G (d + 0) K YX2_hasTrack 35 [some (.ref a0), some (.int v3), some (.int (v2 + (1 : Int32)))] [] (zm a0 g0 M1) Q
        refine ez_goto (tgt := 4) dX2_hasTrack_35 (by decide) ?_
        exact ih M1 v3 (v2 + (1 : Int32)) _ h kq
      · refine zjoin_use (fun (j : MS → Int32 → Option (Int32 × MS)) => ∀ (M5 : MS) (v6 : Int32), j M5 v6 = some p → zEF G (d + 0) K YX2_hasTrack 26 [some (.ref a0), none, some (.int v6)] [] (zm a0 g0 M5) Q) h (fun M5 v6 h => ?_) (fun j7 hj7 h => ?_)
        · refine ez_iconst (v := 1) dX2_hasTrack_26 (by decide) ?_
          refine ez_goto (tgt := 31) dX2_hasTrack_27 (by decide) ?_
          exact hj4 M5 v6 (1 : Int32) h
        · refine ez_if_ne (tgt := 26) dX2_hasTrack_13 (by decide) (fun hc => ?_) (fun hc => ?_)
          · replace h := zif_f hc h
            refine ez_clr 1 ?_
            exact hj7 M y2 h
          · replace h := zif_t hc h
            refine ez_aload_n (i := 0) (v := .ref a0) dX2_hasTrack_16 rfl rfl rfl ?_
            refine gM_89 dX2_hasTrack_17 rfl ?_
            refine ez_iload_n (i := 2) (x := y2) dX2_hasTrack_20 rfl rfl ?_
            obtain ⟨hg8, h⟩ := zgd_some h
            refine lM_27 dX2_hasTrack_21 hg8 ?_
            refine ez_iconst (v := -1) dX2_hasTrack_22 (by decide) ?_
            refine ez_icmp_eq (tgt := 30) dX2_hasTrack_23 (by decide) (fun hc => ?_) (fun hc => ?_)
            · replace h := zif_t hc h
              refine ez_iconst (v := 0) dX2_hasTrack_30 (by decide) ?_
              refine ez_clr 1 ?_
              exact hj4 M y2 (0 : Int32) h
            · replace h := zif_f hc h
              refine ez_clr 1 ?_
              exact hj7 M y2 h
theorem wX2_hasTrack {G : zG} {d : Nat} {K : List Nat} {Q : zO → zS → Prop} {a0 : Nat} {g0 : zS} {M : MS} {p : Int32 × MS} (h : fX2_hasTrack M = some p) (kq : Q (.inl (some (.int p.1))) (zm a0 g0 p.2)) : zEM G (d + 0) K YX2_hasTrack [.ref a0] (zm a0 g0 M) Q := by
  show zEF G (d + 0) K YX2_hasTrack 0 [some (.ref a0), none, none] [] (zm a0 g0 M) Q
  unfold fX2_hasTrack at h
  refine ez_iconst (v := 0) dX2_hasTrack_0 (by decide) ?_
  refine ez_istore_n (i := 1) dX2_hasTrack_1 rfl (show 1 < 3 by decide) ?_
  show zEF G (d + 0) K YX2_hasTrack 2 [some (.ref a0), some (.int (0 : Int32)), none] [] (zm a0 g0 M) Q
  refine ez_iconst (v := 0) dX2_hasTrack_2 (by decide) ?_
  refine ez_istore_n (i := 2) dX2_hasTrack_3 rfl (show 2 < 3 by decide) ?_
  show zEF G (d + 0) K YX2_hasTrack 4 [some (.ref a0), some (.int (0 : Int32)), some (.int (0 : Int32))] [] (zm a0 g0 M) Q
  refine fX2_hasTrack_L4_ok (d := d) (K := K) 1000 M (0 : Int32) (0 : Int32) _ h  kq
def YX2_note : zM := (yX2_note, cX2_note, 3, (Option.none : Option Jvm.ClassFile.FieldType), [], false)
theorem zkX2_note : zMok YX2_note := ⟨rfl, q1271, by decide +kernel, by decide +kernel⟩
theorem znX2_note : (parseMethodDescriptor YX2_note.nm.desc).map (fun d => d.parameters.length) = some 2 := by decide +kernel
theorem slX2_note : Cond.selects RX2 yX2_note yX2_note ∈ lw_all := lw_w 46 rfl rfl
noncomputable def fX2_note (M : MS) (b0 : Int32) (b1 : Int32) : Option (Unit × MS) := zjoin (fun (M1 : MS) => zlet (mI M1 33 ((M1.I 33) + (1 : Int32))) (fun M2 => some ((), M2))) (fun j3 => if (100 : Int32) ≤ (M.I 33) then j3 M else zgd (vp_in (M.I 33) 100) (zlet (mA M 34 (M.I 33).toNatClampNeg b0) (fun M5 => zgd (vp_in (M5.I 33) 100) (zlet (mA M5 35 (M5.I 33).toNatClampNeg (M5.I 31)) (fun M7 => zgd (vp_in (((2 : Int32) * b0) + b1) 16) (zgd (vp_in (M7.I 33) 100) (zlet (mA M7 36 (M7.I 33).toNatClampNeg (M7.A 23 (((2 : Int32) * b0) + b1).toNatClampNeg)) (fun M10 => zgd (vp_in (((2 : Int32) * b0) + b1) 16) (zgd (vp_in (M10.I 33) 100) (zlet (mA M10 37 (M10.I 33).toNatClampNeg (M10.A 24 (((2 : Int32) * b0) + b1).toNatClampNeg)) (fun M13 => zgd (vp_in (M13.I 33) 100) (zlet (mA M13 38 (M13.I 33).toNatClampNeg (b1 + (1 : Int32))) (fun M15 => j3 M15)))))))))))))
theorem wX2_note {G : zG} {d : Nat} {K : List Nat} {Q : zO → zS → Prop} {a0 : Nat} {g0 : zS} {M : MS} {b0 : Int32} {b1 : Int32} {p : Unit × MS} (h : fX2_note M b0 b1 = some p) (kq : Q (.inl none) (zm a0 g0 p.2)) : zEM G (d + 0) K YX2_note [.ref a0, .int b0, .int b1] (zm a0 g0 M) Q := by
  show zEF G (d + 0) K YX2_note 0 [some (.ref a0), some (.int b0), some (.int b1)] [] (zm a0 g0 M) Q
  unfold fX2_note at h
  refine ez_aload_n (i := 0) (v := .ref a0) dX2_note_0 rfl rfl rfl ?_
  refine gM_298 dX2_note_1 rfl ?_
  refine ez_bipush (v := 100) dX2_note_4 (by decide) ?_
  refine zjoin_use (fun (j : MS → Option (Unit × MS)) => ∀ (M1 : MS), j M1 = some p → zEF G (d + 0) K YX2_note 82 [some (.ref a0), none, none] [] (zm a0 g0 M1) Q) h (fun M1 h => ?_) (fun j3 hj3 h => ?_)
  · refine ez_aload_n (i := 0) (v := .ref a0) dX2_note_82 rfl rfl rfl ?_
    refine ez_dup dX2_note_83 rfl ?_
    refine gM_298 dX2_note_84 rfl ?_
    refine ez_iconst (v := 1) dX2_note_87 (by decide) ?_
    refine ez_iadd dX2_note_88 ?_
    refine pM_298 dX2_note_89 rfl ?_
    refine zlet_use (fun M2 => zEF G (d + 0) K YX2_note 92 [some (.ref a0), none, none] [] (zm a0 g0 M2) Q) h (fun M2 h => ?_)
    obtain rfl := Option.some.inj h
    exact ez_vret dX2_note_92 rfl kq
  · refine ez_icmp_ge (tgt := 82) dX2_note_6 (by decide) (fun hc => ?_) (fun hc => ?_)
    · replace h := zif_t hc h
      refine ez_clr 1 ?_
      refine ez_clr 2 ?_
      exact hj3 M h
    · replace h := zif_f hc h
      refine ez_aload_n (i := 0) (v := .ref a0) dX2_note_9 rfl rfl rfl ?_
      refine gM_95 dX2_note_10 rfl ?_
      refine ez_aload_n (i := 0) (v := .ref a0) dX2_note_13 rfl rfl rfl ?_
      refine gM_298 dX2_note_14 rfl ?_
      refine ez_iload_n (i := 1) (x := b0) dX2_note_17 rfl rfl ?_
      obtain ⟨hg4, h⟩ := zgd_some h
      refine sM_34 dX2_note_18 hg4 ?_
      refine zlet_use (fun M5 => zEF G (d + 0) K YX2_note 19 [some (.ref a0), some (.int b0), some (.int b1)] [] (zm a0 g0 M5) Q) h (fun M5 h => ?_)
      refine ez_aload_n (i := 0) (v := .ref a0) dX2_note_19 rfl rfl rfl ?_
      refine gM_98 dX2_note_20 rfl ?_
      refine ez_aload_n (i := 0) (v := .ref a0) dX2_note_23 rfl rfl rfl ?_
      refine gM_298 dX2_note_24 rfl ?_
      refine ez_aload_n (i := 0) (v := .ref a0) dX2_note_27 rfl rfl rfl ?_
      refine gM_238 dX2_note_28 rfl ?_
      obtain ⟨hg6, h⟩ := zgd_some h
      refine sM_35 dX2_note_31 hg6 ?_
      refine zlet_use (fun M7 => zEF G (d + 0) K YX2_note 32 [some (.ref a0), some (.int b0), some (.int b1)] [] (zm a0 g0 M7) Q) h (fun M7 h => ?_)
      refine ez_aload_n (i := 0) (v := .ref a0) dX2_note_32 rfl rfl rfl ?_
      refine gM_101 dX2_note_33 rfl ?_
      refine ez_aload_n (i := 0) (v := .ref a0) dX2_note_36 rfl rfl rfl ?_
      refine gM_298 dX2_note_37 rfl ?_
      refine ez_aload_n (i := 0) (v := .ref a0) dX2_note_40 rfl rfl rfl ?_
      refine gM_76 dX2_note_41 rfl ?_
      refine ez_iconst (v := 2) dX2_note_44 (by decide) ?_
      refine ez_iload_n (i := 1) (x := b0) dX2_note_45 rfl rfl ?_
      refine ez_imul dX2_note_46 ?_
      refine ez_iload_n (i := 2) (x := b1) dX2_note_47 rfl rfl ?_
      refine ez_iadd dX2_note_48 ?_
      obtain ⟨hg8, h⟩ := zgd_some h
      refine lM_23 dX2_note_49 hg8 ?_
      obtain ⟨hg9, h⟩ := zgd_some h
      refine sM_36 dX2_note_50 hg9 ?_
      refine zlet_use (fun M10 => zEF G (d + 0) K YX2_note 51 [some (.ref a0), some (.int b0), some (.int b1)] [] (zm a0 g0 M10) Q) h (fun M10 h => ?_)
      refine ez_aload_n (i := 0) (v := .ref a0) dX2_note_51 rfl rfl rfl ?_
      refine gM_104 dX2_note_52 rfl ?_
      refine ez_aload_n (i := 0) (v := .ref a0) dX2_note_55 rfl rfl rfl ?_
      refine gM_298 dX2_note_56 rfl ?_
      refine ez_aload_n (i := 0) (v := .ref a0) dX2_note_59 rfl rfl rfl ?_
      refine gM_79 dX2_note_60 rfl ?_
      refine ez_iconst (v := 2) dX2_note_63 (by decide) ?_
      refine ez_iload_n (i := 1) (x := b0) dX2_note_64 rfl rfl ?_
      refine ez_imul dX2_note_65 ?_
      refine ez_iload_n (i := 2) (x := b1) dX2_note_66 rfl rfl ?_
      refine ez_iadd dX2_note_67 ?_
      obtain ⟨hg11, h⟩ := zgd_some h
      refine lM_24 dX2_note_68 hg11 ?_
      obtain ⟨hg12, h⟩ := zgd_some h
      refine sM_37 dX2_note_69 hg12 ?_
      refine zlet_use (fun M13 => zEF G (d + 0) K YX2_note 70 [some (.ref a0), some (.int b0), some (.int b1)] [] (zm a0 g0 M13) Q) h (fun M13 h => ?_)
      refine ez_aload_n (i := 0) (v := .ref a0) dX2_note_70 rfl rfl rfl ?_
      refine gM_107 dX2_note_71 rfl ?_
      refine ez_aload_n (i := 0) (v := .ref a0) dX2_note_74 rfl rfl rfl ?_
      refine gM_298 dX2_note_75 rfl ?_
      refine ez_iload_n (i := 2) (x := b1) dX2_note_78 rfl rfl ?_
      refine ez_iconst (v := 1) dX2_note_79 (by decide) ?_
      refine ez_iadd dX2_note_80 ?_
      obtain ⟨hg14, h⟩ := zgd_some h
      refine sM_38 dX2_note_81 hg14 ?_
      refine zlet_use (fun M15 => zEF G (d + 0) K YX2_note 82 [some (.ref a0), some (.int b0), some (.int b1)] [] (zm a0 g0 M15) Q) h (fun M15 h => ?_)
      refine ez_clr 1 ?_
      refine ez_clr 2 ?_
      exact hj3 M15 h
def YX2_mixes : zM := (yX2_mixes, cX2_mixes, 4, (Option.some Jvm.ClassFile.FieldType.int), [], false)
theorem zkX2_mixes : zMok YX2_mixes := ⟨rfl, q1267, by decide +kernel, by decide +kernel⟩
theorem znX2_mixes : (parseMethodDescriptor YX2_mixes.nm.desc).map (fun d => d.parameters.length) = some 0 := by decide +kernel
theorem slX2_mixes : Cond.selects RX2 yX2_mixes yX2_mixes ∈ lw_all := lw_w 45 rfl rfl
noncomputable def fX2_mixes_L20 : Nat → MS → Int32 → Int32 → (MS → Int32 → Option (Int32 × MS)) → Option (Int32 × MS)
  | 0, _, _, _, _ => none
  | n + 1, M, y1, y2, k72 => if (8 : Int32) ≤ y2 then k72 M y1 else zgd (vp_in y2 8) (zjoin (fun (M3 : MS) (v4 : Int32) (v5 : Int32) (v6 : UInt32) (v7 : Int32) => zgd (vp_in v7 8) (zlet (mF M3 51 v7.toNatClampNeg v6) (fun M9 => fX2_mixes_L20 n M9 v4 (v5 + (1 : Int32)) k72))) (fun j10 => if (M.A 13 y2.toNatClampNeg) = 0 then j10 M y1 y2 FP.fconst0 y2 else zgd (vp_in (((8 : Int32) * y2) + y1) 64) (zgd (vp_in y2 8) (zgd (vf_n32 (FP.fmul (M.F 25 (((8 : Int32) * y2) + y1).toNatClampNeg) (M.F 17 y2.toNatClampNeg))) (zbj (fX2_clipped (FP.fmul (M.F 25 (((8 : Int32) * y2) + y1).toNatClampNeg) (M.F 17 y2.toNatClampNeg))) (fun r14 => j10 M y1 y2 r14 y2))))))
noncomputable def fX2_mixes_L82 : Nat → MS → Int32 → Int32 → Int32 → (MS → Int32 → Int32 → Option (Int32 × MS)) → Option (Int32 × MS)
  | 0, _, _, _, _, _ => none
  | n + 1, M, y1, y2, y3, k121 => if (8 : Int32) ≤ y3 then k121 M y1 y2 else zgd (vp_in y3 8) (zgd (vp_in (y3 + y2) 8) (zgd (vf_n32 (FP.fadd (M.F 51 y3.toNatClampNeg) (M.F 51 (y3 + y2).toNatClampNeg))) (zbj (fX2_clipped (FP.fadd (M.F 51 y3.toNatClampNeg) (M.F 51 (y3 + y2).toNatClampNeg))) (fun r21 => zgd (vp_in y3 8) (zlet (mF M 51 y3.toNatClampNeg r21) (fun M24 => zlet (y3 + ((2 : Int32) * y2)) (fun a25 => fX2_mixes_L82 n M24 y1 y2 a25 k121)))))))
noncomputable def fX2_mixes_L74 : Nat → MS → Int32 → Int32 → (MS → Int32 → Option (Int32 × MS)) → Option (Int32 × MS)
  | 0, _, _, _, _ => none
  | n + 1, M, y1, y2, k128 => if (8 : Int32) ≤ y2 then k128 M y1 else fX2_mixes_L82 1000 M y1 y2 (0 : Int32) (fun (M26 : MS) (x27 : Int32) (x28 : Int32) => fX2_mixes_L74 n M26 x27 (x28 * (2 : Int32)) k128)
noncomputable def fX2_mixes_L12 : Nat → MS → Int32 → (MS → Option (Int32 × MS)) → Option (Int32 × MS)
  | 0, _, _, _ => none
  | n + 1, M, y1, k154 => if (8 : Int32) ≤ y1 then k154 M else fX2_mixes_L20 1000 M y1 (0 : Int32) (fun (M16 : MS) (x17 : Int32) => fX2_mixes_L74 1000 M16 x17 (1 : Int32) (fun (M29 : MS) (x30 : Int32) => zgd (vp_in (0 : Int32) 8) (zgd (vp_in (((8 : Int32) * (M29.I 31)) + x30) 512) (zlet (mF M29 32 (((8 : Int32) * (M29.I 31)) + x30).toNatClampNeg (M29.F 51 (0 : Int32).toNatClampNeg)) (fun M33 => fX2_mixes_L12 n M33 (x30 + (1 : Int32)) k154)))))
noncomputable def fX2_mixes_L164 : Nat → MS → Int32 → Int32 → (MS → Int32 → Option (Int32 × MS)) → Option (Int32 × MS)
  | 0, _, _, _, _ => none
  | n + 1, M, y1, y2, k186 => zgd (vp_in y1 8) (if (M.A 22 y1.toNatClampNeg) ≤ y2 then k186 M y1 else zbd (fX2_note M y1 y2) (fun _ M37 => fX2_mixes_L164 n M37 y1 (y2 + (1 : Int32)) k186))
noncomputable def fX2_mixes_L156 : Nat → MS → Int32 → (MS → Option (Int32 × MS)) → Option (Int32 × MS)
  | 0, _, _, _ => none
  | n + 1, M, y1, k192 => if (8 : Int32) ≤ y1 then k192 M else fX2_mixes_L164 1000 M y1 (0 : Int32) (fun (M38 : MS) (x39 : Int32) => fX2_mixes_L156 n M38 (x39 + (1 : Int32)) k192)
noncomputable def fX2_mixes_L204 : Nat → MS → Int32 → (MS → Option (Int32 × MS)) → Option (Int32 × MS)
  | 0, _, _, _ => none
  | n + 1, M, y1, k258 => if (M.I 39) ≤ y1 then k258 M else zgd (vp_in y1 30) (zgd (vp_in y1 30) (zgd (vp_in y1 30) (zgd (vp_in y1 30) (zgd (vp_in y1 30) (zbd (fX2_does M (M.A 40 y1.toNatClampNeg) (M.A 41 y1.toNatClampNeg) (M.A 42 y1.toNatClampNeg) (M.A 43 y1.toNatClampNeg) (M.A 44 y1.toNatClampNeg)) (fun r47 M48 => zlet (mI M48 49 r47) (fun M49 => fX2_mixes_L204 n M49 (y1 + (1 : Int32)) k258)))))))
noncomputable def fX2_mixes (M : MS) : Option (Int32 × MS) := zlet (mI M 46 ((M.I 46) + (1 : Int32))) (fun M1 => fX2_mixes_L12 1000 M1 (0 : Int32) (fun (M34 : MS) => fX2_mixes_L156 1000 M34 (0 : Int32) (fun (M40 : MS) => zlet (mI M40 31 ((M40.I 31) + (1 : Int32))) (fun M41 => fX2_mixes_L204 1000 M41 (0 : Int32) (fun (M50 : MS) => zlet (mI M50 39 (0 : Int32)) (fun M51 => zlet (mI M51 30 ((M51.I 30) - (1 : Int32))) (fun M52 => if (M52.I 30) = 0 then zlet (mI M52 28 (0 : Int32)) (fun M53 => some ((4 : Int32), M53)) else if (M52.I 29) = 0 then zbd (fX2_beginBlock M52) (fun _ M55 => some ((3 : Int32), M55)) else zlet (mI M52 28 (0 : Int32)) (fun M56 => some ((4 : Int32), M56)))))))))
theorem fX2_mixes_L20_ok {G : zG} {d : Nat} {K : List Nat} {Q : zO → zS → Prop} {a0 : Nat} {g0 : zS} : ∀ (n : Nat) (M : MS) (y1 : Int32) (y2 : Int32) (k72 : MS → Int32 → Option (Int32 × MS)) (p : Int32 × MS) (h : fX2_mixes_L20 n M y1 y2 k72 = some p) (hk72 : ∀ (M : MS) (x1 : Int32), k72 M x1 = some p → zEF G (d + 2) K YX2_mixes 72 [some (.ref a0), some (.int x1), none, none] [] (zm a0 g0 M) Q) (kq : Q (.inl (some (.int p.1))) (zm a0 g0 p.2)), zEF G (d + 2) K YX2_mixes 20 [some (.ref a0), some (.int y1), some (.int y2), none] [] (zm a0 g0 M) Q := by
  intro n
  induction n with
  | zero =>
    intro M y1 y2 k72 p h hk72 kq
    rw [fX2_mixes_L20] at h
    cases h
  | succ n ih =>
    intro M y1 y2 k72 p h hk72 kq
    rw [fX2_mixes_L20] at h
    refine ez_iload_n (i := 2) (x := y2) dX2_mixes_20 rfl rfl ?_
    refine ez_bipush (v := 8) dX2_mixes_21 (by decide) ?_
    refine ez_icmp_ge (tgt := 72) dX2_mixes_23 (by decide) (fun hc => ?_) (fun hc => ?_)
    · replace h := zif_t hc h
      refine ez_clr 2 ?_
      exact hk72 M y1 h
    · replace h := zif_f hc h
      refine ez_aload_n (i := 0) (v := .ref a0) dX2_mixes_26 rfl rfl rfl ?_
      refine gM_131 dX2_mixes_27 rfl ?_
      refine ez_iload_n (i := 2) (x := y2) dX2_mixes_30 rfl rfl ?_
      refine ez_aload_n (i := 0) (v := .ref a0) dX2_mixes_31 rfl rfl rfl ?_
      refine gM_45 dX2_mixes_32 rfl ?_
      refine ez_iload_n (i := 2) (x := y2) dX2_mixes_35 rfl rfl ?_
      obtain ⟨hg2, h⟩ := zgd_some h
      refine lM_13 dX2_mixes_36 hg2 ?_
      refine zjoin_use (fun (j : MS → Int32 → Int32 → UInt32 → Int32 → Option (Int32 × MS)) => ∀ (M3 : MS) (v4 : Int32) (v5 : Int32) (v6 : UInt32) (v7 : Int32), j M3 v4 v5 v6 v7 = some p → zEF G (d + 2) K YX2_mixes 65 [some (.ref a0), some (.int v4), some (.int v5), none] [.float v6, .int v7, .ref (a0 + 39)] (zm a0 g0 M3) Q) h (fun M3 v4 v5 v6 v7 h => ?_) (fun j10 hj10 h => ?_)
      · obtain ⟨hg8, h⟩ := zgd_some h
        refine sM_51 dX2_mixes_65 hg8 ?_
        refine zlet_use (fun M9 => zEF G (d + 2) K YX2_mixes 66 [some (.ref a0), some (.int v4), some (.int v5), none] [] (zm a0 g0 M9) Q) h (fun M9 h => ?_)
        refine ez_iinc (x := v5) (v := (v5 + (1 : Int32))) dX2_mixes_66 rfl rfl (show 2 < 4 by decide) ?_
        show zEF G (d + 2) K YX2_mixes 69 [some (.ref a0), some (.int v4), some (.int (v5 + (1 : Int32))), none] [] (zm a0 g0 M9) Q
        refine ez_goto (tgt := 20) dX2_mixes_69 (by decide) ?_
        exact ih M9 v4 (v5 + (1 : Int32)) _ _ h hk72 kq
      · refine ez_if_eq (tgt := 64) dX2_mixes_37 (by decide) (fun hc => ?_) (fun hc => ?_)
        · replace h := zif_t hc h
          refine ez_fconst0 dX2_mixes_64 ?_
          exact hj10 M y1 y2 FP.fconst0 y2 h
        · replace h := zif_f hc h
          refine ez_aload_n (i := 0) (v := .ref a0) dX2_mixes_40 rfl rfl rfl ?_
          refine gM_82 dX2_mixes_41 rfl ?_
          refine ez_bipush (v := 8) dX2_mixes_44 (by decide) ?_
          refine ez_iload_n (i := 2) (x := y2) dX2_mixes_46 rfl rfl ?_
          refine ez_imul dX2_mixes_47 ?_
          refine ez_iload_n (i := 1) (x := y1) dX2_mixes_48 rfl rfl ?_
          refine ez_iadd dX2_mixes_49 ?_
          obtain ⟨hg11, h⟩ := zgd_some h
          refine lM_25 dX2_mixes_50 hg11 ?_
          refine ez_aload_n (i := 0) (v := .ref a0) dX2_mixes_51 rfl rfl rfl ?_
          refine gM_58 dX2_mixes_52 rfl ?_
          refine ez_iload_n (i := 2) (x := y2) dX2_mixes_55 rfl rfl ?_
          obtain ⟨hg12, h⟩ := zgd_some h
          refine lM_17 dX2_mixes_56 hg12 ?_
          obtain ⟨hg13, h⟩ := zgd_some h
          refine ez_fmul dX2_mixes_57 hg13 ?_
          obtain ⟨r14, hq15, h⟩ := zbj_some h
          refine ez_callS (Y' := YX2_clipped) (vs := [.float (FP.fmul (M.F 25 (((8 : Int32) * y2) + y1).toNatClampNeg) (M.F 17 y2.toNatClampNeg))]) (rest := [.int y2, .ref (a0 + 39)]) dX2_mixes_58 rfl zkX2_clipped q1125 q1126 q54 znX2_clipped (Nat.le_of_ble_eq_true rfl) (Nat.le_of_ble_eq_true rfl) rfl (wX2_clipped (d := d + 1) hq15 (zBack_v ?_))
          show zEF G (d + 2) K YX2_mixes 61 [some (.ref a0), some (.int y1), some (.int y2), none] [.float r14, .int y2, .ref (a0 + 39)] (zm a0 g0 M) Q
          refine ez_goto (tgt := 65) dX2_mixes_61 (by decide) ?_
          exact hj10 M y1 y2 r14 y2 h
theorem fX2_mixes_L82_ok {G : zG} {d : Nat} {K : List Nat} {Q : zO → zS → Prop} {a0 : Nat} {g0 : zS} : ∀ (n : Nat) (M : MS) (y1 : Int32) (y2 : Int32) (y3 : Int32) (k121 : MS → Int32 → Int32 → Option (Int32 × MS)) (p : Int32 × MS) (h : fX2_mixes_L82 n M y1 y2 y3 k121 = some p) (hk121 : ∀ (M : MS) (x1 : Int32) (x2 : Int32), k121 M x1 x2 = some p → zEF G (d + 2) K YX2_mixes 121 [some (.ref a0), some (.int x1), some (.int x2), none] [] (zm a0 g0 M) Q) (kq : Q (.inl (some (.int p.1))) (zm a0 g0 p.2)), zEF G (d + 2) K YX2_mixes 82 [some (.ref a0), some (.int y1), some (.int y2), some (.int y3)] [] (zm a0 g0 M) Q := by
  intro n
  induction n with
  | zero =>
    intro M y1 y2 y3 k121 p h hk121 kq
    rw [fX2_mixes_L82] at h
    cases h
  | succ n ih =>
    intro M y1 y2 y3 k121 p h hk121 kq
    rw [fX2_mixes_L82] at h
    refine ez_iload_n (i := 3) (x := y3) dX2_mixes_82 rfl rfl ?_
    refine ez_bipush (v := 8) dX2_mixes_83 (by decide) ?_
    refine ez_icmp_ge (tgt := 121) dX2_mixes_85 (by decide) (fun hc => ?_) (fun hc => ?_)
    · replace h := zif_t hc h
      refine ez_clr 3 ?_
      exact hk121 M y1 y2 h
    · replace h := zif_f hc h
      refine ez_aload_n (i := 0) (v := .ref a0) dX2_mixes_88 rfl rfl rfl ?_
      refine gM_131 dX2_mixes_89 rfl ?_
      refine ez_iload_n (i := 3) (x := y3) dX2_mixes_92 rfl rfl ?_
      refine ez_aload_n (i := 0) (v := .ref a0) dX2_mixes_93 rfl rfl rfl ?_
      refine gM_131 dX2_mixes_94 rfl ?_
      refine ez_iload_n (i := 3) (x := y3) dX2_mixes_97 rfl rfl ?_
      obtain ⟨hg18, h⟩ := zgd_some h
      refine lM_51 dX2_mixes_98 hg18 ?_
      refine ez_aload_n (i := 0) (v := .ref a0) dX2_mixes_99 rfl rfl rfl ?_
      refine gM_131 dX2_mixes_100 rfl ?_
      refine ez_iload_n (i := 3) (x := y3) dX2_mixes_103 rfl rfl ?_
      refine ez_iload_n (i := 2) (x := y2) dX2_mixes_104 rfl rfl ?_
      refine ez_iadd dX2_mixes_105 ?_
      obtain ⟨hg19, h⟩ := zgd_some h
      refine lM_51 dX2_mixes_106 hg19 ?_
      obtain ⟨hg20, h⟩ := zgd_some h
      refine ez_fadd dX2_mixes_107 hg20 ?_
      obtain ⟨r21, hq22, h⟩ := zbj_some h
      refine ez_callS (Y' := YX2_clipped) (vs := [.float (FP.fadd (M.F 51 y3.toNatClampNeg) (M.F 51 (y3 + y2).toNatClampNeg))]) (rest := [.int y3, .ref (a0 + 39)]) dX2_mixes_108 rfl zkX2_clipped q1125 q1126 q54 znX2_clipped (Nat.le_of_ble_eq_true rfl) (Nat.le_of_ble_eq_true rfl) rfl (wX2_clipped (d := d + 1) hq22 (zBack_v ?_))
      show zEF G (d + 2) K YX2_mixes 111 [some (.ref a0), some (.int y1), some (.int y2), some (.int y3)] [.float r21, .int y3, .ref (a0 + 39)] (zm a0 g0 M) Q
      obtain ⟨hg23, h⟩ := zgd_some h
      refine sM_51 dX2_mixes_111 hg23 ?_
      refine zlet_use (fun M24 => zEF G (d + 2) K YX2_mixes 112 [some (.ref a0), some (.int y1), some (.int y2), some (.int y3)] [] (zm a0 g0 M24) Q) h (fun M24 h => ?_)
      refine ez_iload_n (i := 3) (x := y3) dX2_mixes_112 rfl rfl ?_
      refine ez_iconst (v := 2) dX2_mixes_113 (by decide) ?_
      refine ez_iload_n (i := 2) (x := y2) dX2_mixes_114 rfl rfl ?_
      refine ez_imul dX2_mixes_115 ?_
      refine ez_iadd dX2_mixes_116 ?_
      refine ez_istore_n (i := 3) dX2_mixes_117 rfl (show 3 < 4 by decide) ?_
      refine zlet_use (fun a25 => zEF G (d + 2) K YX2_mixes 118 [some (.ref a0), some (.int y1), some (.int y2), some (.int a25)] [] (zm a0 g0 M24) Q) h (fun a25 h => ?_)
      refine ez_goto (tgt := 82) dX2_mixes_118 (by decide) ?_
      exact ih M24 y1 y2 a25 _ _ h hk121 kq
theorem fX2_mixes_L74_ok {G : zG} {d : Nat} {K : List Nat} {Q : zO → zS → Prop} {a0 : Nat} {g0 : zS} : ∀ (n : Nat) (M : MS) (y1 : Int32) (y2 : Int32) (k128 : MS → Int32 → Option (Int32 × MS)) (p : Int32 × MS) (h : fX2_mixes_L74 n M y1 y2 k128 = some p) (hk128 : ∀ (M : MS) (x1 : Int32), k128 M x1 = some p → zEF G (d + 2) K YX2_mixes 128 [some (.ref a0), some (.int x1), none, none] [] (zm a0 g0 M) Q) (kq : Q (.inl (some (.int p.1))) (zm a0 g0 p.2)), zEF G (d + 2) K YX2_mixes 74 [some (.ref a0), some (.int y1), some (.int y2), none] [] (zm a0 g0 M) Q := by
  intro n
  induction n with
  | zero =>
    intro M y1 y2 k128 p h hk128 kq
    rw [fX2_mixes_L74] at h
    cases h
  | succ n ih =>
    intro M y1 y2 k128 p h hk128 kq
    rw [fX2_mixes_L74] at h
    refine ez_iload_n (i := 2) (x := y2) dX2_mixes_74 rfl rfl ?_
    refine ez_bipush (v := 8) dX2_mixes_75 (by decide) ?_
    refine ez_icmp_ge (tgt := 128) dX2_mixes_77 (by decide) (fun hc => ?_) (fun hc => ?_)
    · replace h := zif_t hc h
      refine ez_clr 2 ?_
      exact hk128 M y1 h
    · replace h := zif_f hc h
      refine ez_iconst (v := 0) dX2_mixes_80 (by decide) ?_
      refine ez_istore_n (i := 3) dX2_mixes_81 rfl (show 3 < 4 by decide) ?_
      show zEF G (d + 2) K YX2_mixes 82 [some (.ref a0), some (.int y1), some (.int y2), some (.int (0 : Int32))] [] (zm a0 g0 M) Q
      refine fX2_mixes_L82_ok (d := d) (K := K) 1000 M y1 y2 (0 : Int32) _ _ h (fun M26 x27 x28 h => ?_) kq
      refine ez_iload_n (i := 2) (x := x28) dX2_mixes_121 rfl rfl ?_
      refine ez_iconst (v := 2) dX2_mixes_122 (by decide) ?_
      refine ez_imul dX2_mixes_123 ?_
      refine ez_istore_n (i := 2) dX2_mixes_124 rfl (show 2 < 4 by decide) ?_
      show zEF G (d + 2) K YX2_mixes 125 [some (.ref a0), some (.int x27), some (.int (x28 * (2 : Int32))), none] [] (zm a0 g0 M26) Q
      refine ez_goto (tgt := 74) dX2_mixes_125 (by decide) ?_
      exact ih M26 x27 (x28 * (2 : Int32)) _ _ h hk128 kq
theorem fX2_mixes_L12_ok {G : zG} {d : Nat} {K : List Nat} {Q : zO → zS → Prop} {a0 : Nat} {g0 : zS} : ∀ (n : Nat) (M : MS) (y1 : Int32) (k154 : MS → Option (Int32 × MS)) (p : Int32 × MS) (h : fX2_mixes_L12 n M y1 k154 = some p) (hk154 : ∀ (M : MS), k154 M = some p → zEF G (d + 2) K YX2_mixes 154 [some (.ref a0), none, none, none] [] (zm a0 g0 M) Q) (kq : Q (.inl (some (.int p.1))) (zm a0 g0 p.2)), zEF G (d + 2) K YX2_mixes 12 [some (.ref a0), some (.int y1), none, none] [] (zm a0 g0 M) Q := by
  intro n
  induction n with
  | zero =>
    intro M y1 k154 p h hk154 kq
    rw [fX2_mixes_L12] at h
    cases h
  | succ n ih =>
    intro M y1 k154 p h hk154 kq
    rw [fX2_mixes_L12] at h
    refine ez_iload_n (i := 1) (x := y1) dX2_mixes_12 rfl rfl ?_
    refine ez_bipush (v := 8) dX2_mixes_13 (by decide) ?_
    refine ez_icmp_ge (tgt := 154) dX2_mixes_15 (by decide) (fun hc => ?_) (fun hc => ?_)
    · replace h := zif_t hc h
      refine ez_clr 1 ?_
      exact hk154 M h
    · replace h := zif_f hc h
      refine ez_iconst (v := 0) dX2_mixes_18 (by decide) ?_
      refine ez_istore_n (i := 2) dX2_mixes_19 rfl (show 2 < 4 by decide) ?_
      show zEF G (d + 2) K YX2_mixes 20 [some (.ref a0), some (.int y1), some (.int (0 : Int32)), none] [] (zm a0 g0 M) Q
      refine fX2_mixes_L20_ok (d := d) (K := K) 1000 M y1 (0 : Int32) _ _ h (fun M16 x17 h => ?_) kq
      refine ez_iconst (v := 1) dX2_mixes_72 (by decide) ?_
      refine ez_istore_n (i := 2) dX2_mixes_73 rfl (show 2 < 4 by decide) ?_
      show zEF G (d + 2) K YX2_mixes 74 [some (.ref a0), some (.int x17), some (.int (1 : Int32)), none] [] (zm a0 g0 M16) Q
      refine fX2_mixes_L74_ok (d := d) (K := K) 1000 M16 x17 (1 : Int32) _ _ h (fun M29 x30 h => ?_) kq
      refine ez_aload_n (i := 0) (v := .ref a0) dX2_mixes_128 rfl rfl rfl ?_
      refine gM_92 dX2_mixes_129 rfl ?_
      refine ez_bipush (v := 8) dX2_mixes_132 (by decide) ?_
      refine ez_aload_n (i := 0) (v := .ref a0) dX2_mixes_134 rfl rfl rfl ?_
      refine gM_238 dX2_mixes_135 rfl ?_
      refine ez_imul dX2_mixes_138 ?_
      refine ez_iload_n (i := 1) (x := x30) dX2_mixes_139 rfl rfl ?_
      refine ez_iadd dX2_mixes_140 ?_
      refine ez_aload_n (i := 0) (v := .ref a0) dX2_mixes_141 rfl rfl rfl ?_
      refine gM_131 dX2_mixes_142 rfl ?_
      refine ez_iconst (v := 0) dX2_mixes_145 (by decide) ?_
      obtain ⟨hg31, h⟩ := zgd_some h
      refine lM_51 dX2_mixes_146 hg31 ?_
      obtain ⟨hg32, h⟩ := zgd_some h
      refine sM_32 dX2_mixes_147 hg32 ?_
      refine zlet_use (fun M33 => zEF G (d + 2) K YX2_mixes 148 [some (.ref a0), some (.int x30), none, none] [] (zm a0 g0 M33) Q) h (fun M33 h => ?_)
      refine ez_iinc (x := x30) (v := (x30 + (1 : Int32))) dX2_mixes_148 rfl rfl (show 1 < 4 by decide) ?_
      show zEF G (d + 2) K YX2_mixes 151 [some (.ref a0), some (.int (x30 + (1 : Int32))), none, none] [] (zm a0 g0 M33) Q
      refine ez_goto (tgt := 12) dX2_mixes_151 (by decide) ?_
      exact ih M33 (x30 + (1 : Int32)) _ _ h hk154 kq
theorem fX2_mixes_L164_ok {G : zG} {d : Nat} {K : List Nat} {Q : zO → zS → Prop} {a0 : Nat} {g0 : zS} : ∀ (n : Nat) (M : MS) (y1 : Int32) (y2 : Int32) (k186 : MS → Int32 → Option (Int32 × MS)) (p : Int32 × MS) (h : fX2_mixes_L164 n M y1 y2 k186 = some p) (hk186 : ∀ (M : MS) (x1 : Int32), k186 M x1 = some p → zEF G (d + 2) K YX2_mixes 186 [some (.ref a0), some (.int x1), none, none] [] (zm a0 g0 M) Q) (kq : Q (.inl (some (.int p.1))) (zm a0 g0 p.2)), zEF G (d + 2) K YX2_mixes 164 [some (.ref a0), some (.int y1), some (.int y2), none] [] (zm a0 g0 M) Q := by
  intro n
  induction n with
  | zero =>
    intro M y1 y2 k186 p h hk186 kq
    rw [fX2_mixes_L164] at h
    cases h
  | succ n ih =>
    intro M y1 y2 k186 p h hk186 kq
    rw [fX2_mixes_L164] at h
    refine ez_iload_n (i := 2) (x := y2) dX2_mixes_164 rfl rfl ?_
    refine ez_aload_n (i := 0) (v := .ref a0) dX2_mixes_165 rfl rfl rfl ?_
    refine gM_73 dX2_mixes_166 rfl ?_
    refine ez_iload_n (i := 1) (x := y1) dX2_mixes_169 rfl rfl ?_
    obtain ⟨hg35, h⟩ := zgd_some h
    refine lM_22 dX2_mixes_170 hg35 ?_
    refine ez_icmp_ge (tgt := 186) dX2_mixes_171 (by decide) (fun hc => ?_) (fun hc => ?_)
    · replace h := zif_t hc h
      refine ez_clr 2 ?_
      exact hk186 M y1 h
    · replace h := zif_f hc h
      refine ez_aload_n (i := 0) (v := .ref a0) dX2_mixes_174 rfl rfl rfl ?_
      refine ez_iload_n (i := 1) (x := y1) dX2_mixes_175 rfl rfl ?_
      refine ez_iload_n (i := 2) (x := y2) dX2_mixes_176 rfl rfl ?_
      obtain ⟨_, M37, hq37, h⟩ := zbd_some h
      refine ez_callV (C := RX2) (Tt := TX2) (N := 53) (Y' := YX2_note) (vs := [.int y1, .int y2]) (rest := []) dX2_mixes_177 rfl zkX2_note q1268 q1270 rfl slX2_note (zm0 _ _ _) znX2_note (Nat.le_of_ble_eq_true rfl) (Nat.le_of_ble_eq_true rfl) rfl (wX2_note (d := d + 1) hq37 (zBack_n ?_))
      show zEF G (d + 2) K YX2_mixes 180 [some (.ref a0), some (.int y1), some (.int y2), none] [] (zm a0 g0 M37) Q
      refine ez_iinc (x := y2) (v := (y2 + (1 : Int32))) dX2_mixes_180 rfl rfl (show 2 < 4 by decide) ?_
      show zEF G (d + 2) K YX2_mixes 183 [some (.ref a0), some (.int y1), some (.int (y2 + (1 : Int32))), none] [] (zm a0 g0 M37) Q
      refine ez_goto (tgt := 164) dX2_mixes_183 (by decide) ?_
      exact ih M37 y1 (y2 + (1 : Int32)) _ _ h hk186 kq
theorem fX2_mixes_L156_ok {G : zG} {d : Nat} {K : List Nat} {Q : zO → zS → Prop} {a0 : Nat} {g0 : zS} : ∀ (n : Nat) (M : MS) (y1 : Int32) (k192 : MS → Option (Int32 × MS)) (p : Int32 × MS) (h : fX2_mixes_L156 n M y1 k192 = some p) (hk192 : ∀ (M : MS), k192 M = some p → zEF G (d + 2) K YX2_mixes 192 [some (.ref a0), none, none, none] [] (zm a0 g0 M) Q) (kq : Q (.inl (some (.int p.1))) (zm a0 g0 p.2)), zEF G (d + 2) K YX2_mixes 156 [some (.ref a0), some (.int y1), none, none] [] (zm a0 g0 M) Q := by
  intro n
  induction n with
  | zero =>
    intro M y1 k192 p h hk192 kq
    rw [fX2_mixes_L156] at h
    cases h
  | succ n ih =>
    intro M y1 k192 p h hk192 kq
    rw [fX2_mixes_L156] at h
    refine ez_iload_n (i := 1) (x := y1) dX2_mixes_156 rfl rfl ?_
    refine ez_bipush (v := 8) dX2_mixes_157 (by decide) ?_
    refine ez_icmp_ge (tgt := 192) dX2_mixes_159 (by decide) (fun hc => ?_) (fun hc => ?_)
    · replace h := zif_t hc h
      refine ez_clr 1 ?_
      exact hk192 M h
    · replace h := zif_f hc h
      refine ez_iconst (v := 0) dX2_mixes_162 (by decide) ?_
      refine ez_istore_n (i := 2) dX2_mixes_163 rfl (show 2 < 4 by decide) ?_
      show zEF G (d + 2) K YX2_mixes 164 [some (.ref a0), some (.int y1), some (.int (0 : Int32)), none] [] (zm a0 g0 M) Q
      refine fX2_mixes_L164_ok (d := d) (K := K) 1000 M y1 (0 : Int32) _ _ h (fun M38 x39 h => ?_) kq
      refine ez_iinc (x := x39) (v := (x39 + (1 : Int32))) dX2_mixes_186 rfl rfl (show 1 < 4 by decide) ?_
      show zEF G (d + 2) K YX2_mixes 189 [some (.ref a0), some (.int (x39 + (1 : Int32))), none, none] [] (zm a0 g0 M38) Q
      refine ez_goto (tgt := 156) dX2_mixes_189 (by decide) ?_
      exact ih M38 (x39 + (1 : Int32)) _ _ h hk192 kq
theorem fX2_mixes_L204_ok {G : zG} {d : Nat} {K : List Nat} {Q : zO → zS → Prop} {a0 : Nat} {g0 : zS} : ∀ (n : Nat) (M : MS) (y1 : Int32) (k258 : MS → Option (Int32 × MS)) (p : Int32 × MS) (h : fX2_mixes_L204 n M y1 k258 = some p) (hk258 : ∀ (M : MS), k258 M = some p → zEF G (d + 2) K YX2_mixes 258 [some (.ref a0), none, none, none] [] (zm a0 g0 M) Q) (kq : Q (.inl (some (.int p.1))) (zm a0 g0 p.2)), zEF G (d + 2) K YX2_mixes 204 [some (.ref a0), some (.int y1), none, none] [] (zm a0 g0 M) Q := by
  intro n
  induction n with
  | zero =>
    intro M y1 k258 p h hk258 kq
    rw [fX2_mixes_L204] at h
    cases h
  | succ n ih =>
    intro M y1 k258 p h hk258 kq
    rw [fX2_mixes_L204] at h
    refine ez_iload_n (i := 1) (x := y1) dX2_mixes_204 rfl rfl ?_
    refine ez_aload_n (i := 0) (v := .ref a0) dX2_mixes_205 rfl rfl rfl ?_
    refine gM_226 dX2_mixes_206 rfl ?_
    refine ez_icmp_ge (tgt := 258) dX2_mixes_209 (by decide) (fun hc => ?_) (fun hc => ?_)
    · replace h := zif_t hc h
      refine ez_clr 1 ?_
      exact hk258 M h
    · replace h := zif_f hc h
      refine ez_aload_n (i := 0) (v := .ref a0) dX2_mixes_212 rfl rfl rfl ?_
      refine ez_aload_n (i := 0) (v := .ref a0) dX2_mixes_213 rfl rfl rfl ?_
      refine gM_110 dX2_mixes_214 rfl ?_
      refine ez_iload_n (i := 1) (x := y1) dX2_mixes_217 rfl rfl ?_
      obtain ⟨hg42, h⟩ := zgd_some h
      refine lM_40 dX2_mixes_218 hg42 ?_
      refine ez_aload_n (i := 0) (v := .ref a0) dX2_mixes_219 rfl rfl rfl ?_
      refine gM_113 dX2_mixes_220 rfl ?_
      refine ez_iload_n (i := 1) (x := y1) dX2_mixes_223 rfl rfl ?_
      obtain ⟨hg43, h⟩ := zgd_some h
      refine lM_41 dX2_mixes_224 hg43 ?_
      refine ez_aload_n (i := 0) (v := .ref a0) dX2_mixes_225 rfl rfl rfl ?_
      refine gM_116 dX2_mixes_226 rfl ?_
      refine ez_iload_n (i := 1) (x := y1) dX2_mixes_229 rfl rfl ?_
      obtain ⟨hg44, h⟩ := zgd_some h
      refine lM_42 dX2_mixes_230 hg44 ?_
      refine ez_aload_n (i := 0) (v := .ref a0) dX2_mixes_231 rfl rfl rfl ?_
      refine gM_119 dX2_mixes_232 rfl ?_
      refine ez_iload_n (i := 1) (x := y1) dX2_mixes_235 rfl rfl ?_
      obtain ⟨hg45, h⟩ := zgd_some h
      refine lM_43 dX2_mixes_236 hg45 ?_
      refine ez_aload_n (i := 0) (v := .ref a0) dX2_mixes_237 rfl rfl rfl ?_
      refine gM_122 dX2_mixes_238 rfl ?_
      refine ez_iload_n (i := 1) (x := y1) dX2_mixes_241 rfl rfl ?_
      obtain ⟨hg46, h⟩ := zgd_some h
      refine lM_44 dX2_mixes_242 hg46 ?_
      obtain ⟨r47, M48, hq48, h⟩ := zbd_some h
      refine ez_callV (C := RX2) (Tt := TX2) (N := 53) (Y' := YX2_does) (vs := [.int (M.A 40 y1.toNatClampNeg), .int (M.A 41 y1.toNatClampNeg), .int (M.A 42 y1.toNatClampNeg), .int (M.A 43 y1.toNatClampNeg), .int (M.A 44 y1.toNatClampNeg)]) (rest := []) dX2_mixes_243 rfl zkX2_does q1166 q1168 rfl slX2_does (zm0 _ _ _) znX2_does (Nat.le_of_ble_eq_true rfl) (Nat.le_of_ble_eq_true rfl) rfl (wX2_does (d := d + 0) hq48 (zBack_v ?_))
      show zEF G (d + 2) K YX2_mixes 246 [some (.ref a0), some (.int y1), none, none] [.int r47] (zm a0 g0 M48) Q
      refine ez_istore_n (i := 2) dX2_mixes_246 rfl (show 2 < 4 by decide) ?_
      show zEF G (d + 2) K YX2_mixes 247 [some (.ref a0), some (.int y1), some (.int r47), none] [] (zm a0 g0 M48) Q
      refine ez_aload_n (i := 0) (v := .ref a0) dX2_mixes_247 rfl rfl rfl ?_
      refine ez_iload_n (i := 2) (x := r47) dX2_mixes_248 rfl rfl ?_
      refine pM_210 dX2_mixes_249 rfl ?_
      refine zlet_use (fun M49 => zEF G (d + 2) K YX2_mixes 252 [some (.ref a0), some (.int y1), some (.int r47), none] [] (zm a0 g0 M49) Q) h (fun M49 h => ?_)
      refine ez_iinc (x := y1) (v := (y1 + (1 : Int32))) dX2_mixes_252 rfl rfl (show 1 < 4 by decide) ?_
      show zEF G (d + 2) K YX2_mixes 255 [some (.ref a0), some (.int (y1 + (1 : Int32))), some (.int r47), none] [] (zm a0 g0 M49) Q
      refine ez_goto (tgt := 204) dX2_mixes_255 (by decide) ?_
      refine ez_clr 2 ?_
      exact ih M49 (y1 + (1 : Int32)) _ _ h hk258 kq
theorem wX2_mixes {G : zG} {d : Nat} {K : List Nat} {Q : zO → zS → Prop} {a0 : Nat} {g0 : zS} {M : MS} {p : Int32 × MS} (h : fX2_mixes M = some p) (kq : Q (.inl (some (.int p.1))) (zm a0 g0 p.2)) : zEM G (d + 2) K YX2_mixes [.ref a0] (zm a0 g0 M) Q := by
  show zEF G (d + 2) K YX2_mixes 0 [some (.ref a0), none, none, none] [] (zm a0 g0 M) Q
  unfold fX2_mixes at h
  refine ez_aload_n (i := 0) (v := .ref a0) dX2_mixes_0 rfl rfl rfl ?_
  refine ez_dup dX2_mixes_1 rfl ?_
  refine gM_254 dX2_mixes_2 rfl ?_
  refine ez_iconst (v := 1) dX2_mixes_5 (by decide) ?_
  refine ez_iadd dX2_mixes_6 ?_
  refine pM_254 dX2_mixes_7 rfl ?_
  refine zlet_use (fun M1 => zEF G (d + 2) K YX2_mixes 10 [some (.ref a0), none, none, none] [] (zm a0 g0 M1) Q) h (fun M1 h => ?_)
  refine ez_iconst (v := 0) dX2_mixes_10 (by decide) ?_
  refine ez_istore_n (i := 1) dX2_mixes_11 rfl (show 1 < 4 by decide) ?_
  show zEF G (d + 2) K YX2_mixes 12 [some (.ref a0), some (.int (0 : Int32)), none, none] [] (zm a0 g0 M1) Q
  refine fX2_mixes_L12_ok (d := d) (K := K) 1000 M1 (0 : Int32) _ _ h (fun M34 h => ?_) kq
  refine ez_iconst (v := 0) dX2_mixes_154 (by decide) ?_
  refine ez_istore_n (i := 1) dX2_mixes_155 rfl (show 1 < 4 by decide) ?_
  show zEF G (d + 2) K YX2_mixes 156 [some (.ref a0), some (.int (0 : Int32)), none, none] [] (zm a0 g0 M34) Q
  refine fX2_mixes_L156_ok (d := d) (K := K) 1000 M34 (0 : Int32) _ _ h (fun M40 h => ?_) kq
  refine ez_aload_n (i := 0) (v := .ref a0) dX2_mixes_192 rfl rfl rfl ?_
  refine ez_dup dX2_mixes_193 rfl ?_
  refine gM_238 dX2_mixes_194 rfl ?_
  refine ez_iconst (v := 1) dX2_mixes_197 (by decide) ?_
  refine ez_iadd dX2_mixes_198 ?_
  refine pM_238 dX2_mixes_199 rfl ?_
  refine zlet_use (fun M41 => zEF G (d + 2) K YX2_mixes 202 [some (.ref a0), none, none, none] [] (zm a0 g0 M41) Q) h (fun M41 h => ?_)
  refine ez_iconst (v := 0) dX2_mixes_202 (by decide) ?_
  refine ez_istore_n (i := 1) dX2_mixes_203 rfl (show 1 < 4 by decide) ?_
  show zEF G (d + 2) K YX2_mixes 204 [some (.ref a0), some (.int (0 : Int32)), none, none] [] (zm a0 g0 M41) Q
  refine fX2_mixes_L204_ok (d := d) (K := K) 1000 M41 (0 : Int32) _ _ h (fun M50 h => ?_) kq
  refine ez_aload_n (i := 0) (v := .ref a0) dX2_mixes_258 rfl rfl rfl ?_
  refine ez_iconst (v := 0) dX2_mixes_259 (by decide) ?_
  refine pM_226 dX2_mixes_260 rfl ?_
  refine zlet_use (fun M51 => zEF G (d + 2) K YX2_mixes 263 [some (.ref a0), none, none, none] [] (zm a0 g0 M51) Q) h (fun M51 h => ?_)
  refine ez_aload_n (i := 0) (v := .ref a0) dX2_mixes_263 rfl rfl rfl ?_
  refine ez_dup dX2_mixes_264 rfl ?_
  refine gM_244 dX2_mixes_265 rfl ?_
  refine ez_iconst (v := 1) dX2_mixes_268 (by decide) ?_
  refine ez_isub dX2_mixes_269 ?_
  refine pM_244 dX2_mixes_270 rfl ?_
  refine zlet_use (fun M52 => zEF G (d + 2) K YX2_mixes 273 [some (.ref a0), none, none, none] [] (zm a0 g0 M52) Q) h (fun M52 h => ?_)
  refine ez_aload_n (i := 0) (v := .ref a0) dX2_mixes_273 rfl rfl rfl ?_
  refine gM_244 dX2_mixes_274 rfl ?_
  refine ez_if_eq (tgt := 287) dX2_mixes_277 (by decide) (fun hc => ?_) (fun hc => ?_)
  · replace h := zif_t hc h
    refine ez_aload_n (i := 0) (v := .ref a0) dX2_mixes_287 rfl rfl rfl ?_
    refine ez_iconst (v := 0) dX2_mixes_288 (by decide) ?_
    refine pM_159 dX2_mixes_289 rfl ⟨rfl, rfl⟩ ?_
    refine zlet_use (fun M53 => zEF G (d + 2) K YX2_mixes 292 [some (.ref a0), none, none, none] [] (zm a0 g0 M53) Q) h (fun M53 h => ?_)
    refine ez_iconst (v := 4) dX2_mixes_292 (by decide) ?_
    obtain rfl := Option.some.inj h
    exact ez_iret dX2_mixes_293 rfl rfl kq
  · replace h := zif_f hc h
    refine ez_aload_n (i := 0) (v := .ref a0) dX2_mixes_280 rfl rfl rfl ?_
    refine gM_241 dX2_mixes_281 rfl ?_
    refine ez_if_eq (tgt := 294) dX2_mixes_284 (by decide) (fun hc => ?_) (fun hc => ?_)
    · replace h := zif_t hc h
      refine ez_aload_n (i := 0) (v := .ref a0) dX2_mixes_294 rfl rfl rfl ?_
      obtain ⟨_, M55, hq55, h⟩ := zbd_some h
      refine ez_callV (C := RX2) (Tt := TX2) (N := 53) (Y' := YX2_beginBlock) (vs := []) (rest := []) dX2_mixes_295 rfl zkX2_beginBlock q1198 q1200 rfl slX2_beginBlock (zm0 _ _ _) znX2_beginBlock (Nat.le_of_ble_eq_true rfl) (Nat.le_of_ble_eq_true rfl) rfl (wX2_beginBlock (d := d + 1) hq55 (zBack_n ?_))
      show zEF G (d + 2) K YX2_mixes 298 [some (.ref a0), none, none, none] [] (zm a0 g0 M55) Q
      refine ez_iconst (v := 3) dX2_mixes_298 (by decide) ?_
      obtain rfl := Option.some.inj h
      exact ez_iret dX2_mixes_299 rfl rfl kq
    · replace h := zif_f hc h
      refine ez_aload_n (i := 0) (v := .ref a0) dX2_mixes_287 rfl rfl rfl ?_
      refine ez_iconst (v := 0) dX2_mixes_288 (by decide) ?_
      refine pM_159 dX2_mixes_289 rfl ⟨rfl, rfl⟩ ?_
      refine zlet_use (fun M56 => zEF G (d + 2) K YX2_mixes 292 [some (.ref a0), none, none, none] [] (zm a0 g0 M56) Q) h (fun M56 h => ?_)
      refine ez_iconst (v := 4) dX2_mixes_292 (by decide) ?_
      obtain rfl := Option.some.inj h
      exact ez_iret dX2_mixes_293 rfl rfl kq
def YX2_goes : zM := (yX2_goes, cX2_goes, 4, (Option.some Jvm.ClassFile.FieldType.int), [], false)
theorem zkX2_goes : zMok YX2_goes := ⟨rfl, q1213, by decide +kernel, by decide +kernel⟩
theorem znX2_goes : (parseMethodDescriptor YX2_goes.nm.desc).map (fun d => d.parameters.length) = some 1 := by decide +kernel
theorem slX2_goes : Cond.selects RX2 yX2_goes yX2_goes ∈ lw_all := lw_w 33 rfl rfl
noncomputable def fX2_goes (M : MS) (b0 : Int32) : Option (Int32 × MS) := zgd (vp_in b0 4) (zlet (M.A 27 b0.toNatClampNeg) (fun a2 => if a2 = (-1 : Int32) then zbd (fX2_firstOf M (1 : Int32)) (fun r3 M4 => if (8 : Int32) ≤ r3 then zbd (fX2_hasTrack M4) (fun r5 M6 => if r5 = 0 then zbd (fX2_firstOf M6 (4 : Int32)) (fun r7 M8 => if (8 : Int32) ≤ r7 then zbd (fX2_mixes M8) (fun r9 M10 => some (r9, M10)) else zgd (vp_in ((2 : Int32) * r7) 16) (zlet (M8.A 23 ((2 : Int32) * r7).toNatClampNeg) (fun a12 => if a12 = (-1 : Int32) then zbd (fX2_loads M8 r7 b0) (fun r15 M16 => some (r15, M16)) else zbd (fX2_passes M8 r7 a12 b0) (fun r13 M14 => some (r13, M14))))) else zbd (fX2_waits M6) (fun r17 M18 => some (r17, M18))) else zbd (fX2_loads M4 r3 b0) (fun r19 M20 => some (r19, M20))) else zgd (vp_in a2 8) (zgd (vp_in (((4 : Int32) * a2) + (M.A 21 a2.toNatClampNeg)) 32) (zbd (fX2_mayPass M a2 (M.A 19 (((4 : Int32) * a2) + (M.A 21 a2.toNatClampNeg)).toNatClampNeg)) (fun r23 M24 => if r23 = 0 then zbd (fX2_waits M24) (fun r25 M26 => some (r25, M26)) else zgd (vp_in a2 8) (zbd (fX2_passes M24 a2 (M24.A 21 a2.toNatClampNeg) b0) (fun r28 M29 => some (r28, M29))))))))
theorem wX2_goes {G : zG} {d : Nat} {K : List Nat} {Q : zO → zS → Prop} {a0 : Nat} {g0 : zS} {M : MS} {b0 : Int32} {p : Int32 × MS} (h : fX2_goes M b0 = some p) (kq : Q (.inl (some (.int p.1))) (zm a0 g0 p.2)) : zEM G (d + 4) K YX2_goes [.ref a0, .int b0] (zm a0 g0 M) Q := by
  show zEF G (d + 4) K YX2_goes 0 [some (.ref a0), some (.int b0), none, none] [] (zm a0 g0 M) Q
  unfold fX2_goes at h
  refine ez_aload_n (i := 0) (v := .ref a0) dX2_goes_0 rfl rfl rfl ?_
  refine gM_89 dX2_goes_1 rfl ?_
  refine ez_iload_n (i := 1) (x := b0) dX2_goes_4 rfl rfl ?_
  obtain ⟨hg1, h⟩ := zgd_some h
  refine lM_27 dX2_goes_5 hg1 ?_
  refine ez_istore_n (i := 2) dX2_goes_6 rfl (show 2 < 4 by decide) ?_
  refine zlet_use (fun a2 => zEF G (d + 4) K YX2_goes 7 [some (.ref a0), some (.int b0), some (.int a2), none] [] (zm a0 g0 M) Q) h (fun a2 h => ?_)
  refine ez_iload_n (i := 2) (x := a2) dX2_goes_7 rfl rfl ?_
  refine ez_iconst (v := -1) dX2_goes_8 (by decide) ?_
  refine ez_icmp_eq (tgt := 55) dX2_goes_9 (by decide) (fun hc => ?_) (fun hc => ?_)
  · replace h := zif_t hc h
    refine ez_aload_n (i := 0) (v := .ref a0) dX2_goes_55 rfl rfl rfl ?_
    refine ez_iconst (v := 1) dX2_goes_56 (by decide) ?_
    obtain ⟨r3, M4, hq4, h⟩ := zbd_some h
    refine ez_callV (C := RX2) (Tt := TX2) (N := 53) (Y' := YX2_firstOf) (vs := [.int (1 : Int32)]) (rest := []) dX2_goes_57 rfl zkX2_firstOf q1252 q1254 rfl slX2_firstOf (zm0 _ _ _) znX2_firstOf (Nat.le_of_ble_eq_true rfl) (Nat.le_of_ble_eq_true rfl) rfl (wX2_firstOf (d := d + 3) hq4 (zBack_v ?_))
    show zEF G (d + 4) K YX2_goes 60 [some (.ref a0), some (.int b0), some (.int a2), none] [.int r3] (zm a0 g0 M4) Q
    refine ez_istore_n (i := 2) dX2_goes_60 rfl (show 2 < 4 by decide) ?_
    show zEF G (d + 4) K YX2_goes 61 [some (.ref a0), some (.int b0), some (.int r3), none] [] (zm a0 g0 M4) Q
    refine ez_iload_n (i := 2) (x := r3) dX2_goes_61 rfl rfl ?_
    refine ez_bipush (v := 8) dX2_goes_62 (by decide) ?_
    refine ez_icmp_ge (tgt := 74) dX2_goes_64 (by decide) (fun hc => ?_) (fun hc => ?_)
    · replace h := zif_t hc h
      refine ez_aload_n (i := 0) (v := .ref a0) dX2_goes_74 rfl rfl rfl ?_
      obtain ⟨r5, M6, hq6, h⟩ := zbd_some h
      refine ez_callV (C := RX2) (Tt := TX2) (N := 53) (Y' := YX2_hasTrack) (vs := []) (rest := []) dX2_goes_75 rfl zkX2_hasTrack q1260 q1262 rfl slX2_hasTrack (zm0 _ _ _) znX2_hasTrack (Nat.le_of_ble_eq_true rfl) (Nat.le_of_ble_eq_true rfl) rfl (wX2_hasTrack (d := d + 3) hq6 (zBack_v ?_))
      show zEF G (d + 4) K YX2_goes 78 [some (.ref a0), some (.int b0), some (.int r3), none] [.int r5] (zm a0 g0 M6) Q
      refine ez_if_eq (tgt := 86) dX2_goes_78 (by decide) (fun hc => ?_) (fun hc => ?_)
      · replace h := zif_t hc h
        refine ez_aload_n (i := 0) (v := .ref a0) dX2_goes_86 rfl rfl rfl ?_
        refine ez_iconst (v := 4) dX2_goes_87 (by decide) ?_
        obtain ⟨r7, M8, hq8, h⟩ := zbd_some h
        refine ez_callV (C := RX2) (Tt := TX2) (N := 53) (Y' := YX2_firstOf) (vs := [.int (4 : Int32)]) (rest := []) dX2_goes_88 rfl zkX2_firstOf q1252 q1254 rfl slX2_firstOf (zm0 _ _ _) znX2_firstOf (Nat.le_of_ble_eq_true rfl) (Nat.le_of_ble_eq_true rfl) rfl (wX2_firstOf (d := d + 3) hq8 (zBack_v ?_))
        show zEF G (d + 4) K YX2_goes 91 [some (.ref a0), some (.int b0), some (.int r3), none] [.int r7] (zm a0 g0 M8) Q
        refine ez_istore_n (i := 2) dX2_goes_91 rfl (show 2 < 4 by decide) ?_
        show zEF G (d + 4) K YX2_goes 92 [some (.ref a0), some (.int b0), some (.int r7), none] [] (zm a0 g0 M8) Q
        refine ez_iload_n (i := 2) (x := r7) dX2_goes_92 rfl rfl ?_
        refine ez_bipush (v := 8) dX2_goes_93 (by decide) ?_
        refine ez_icmp_ge (tgt := 129) dX2_goes_95 (by decide) (fun hc => ?_) (fun hc => ?_)
        · replace h := zif_t hc h
          refine ez_aload_n (i := 0) (v := .ref a0) dX2_goes_129 rfl rfl rfl ?_
          obtain ⟨r9, M10, hq10, h⟩ := zbd_some h
          refine ez_callV (C := RX2) (Tt := TX2) (N := 53) (Y' := YX2_mixes) (vs := []) (rest := []) dX2_goes_130 rfl zkX2_mixes q1264 q1266 rfl slX2_mixes (zm0 _ _ _) znX2_mixes (Nat.le_of_ble_eq_true rfl) (Nat.le_of_ble_eq_true rfl) rfl (wX2_mixes (d := d + 1) hq10 (zBack_v ?_))
          show zEF G (d + 4) K YX2_goes 133 [some (.ref a0), some (.int b0), some (.int r7), none] [.int r9] (zm a0 g0 M10) Q
          obtain rfl := Option.some.inj h
          exact ez_iret dX2_goes_133 rfl rfl kq
        · replace h := zif_f hc h
          refine ez_aload_n (i := 0) (v := .ref a0) dX2_goes_98 rfl rfl rfl ?_
          refine gM_76 dX2_goes_99 rfl ?_
          refine ez_iconst (v := 2) dX2_goes_102 (by decide) ?_
          refine ez_iload_n (i := 2) (x := r7) dX2_goes_103 rfl rfl ?_
          refine ez_imul dX2_goes_104 ?_
          obtain ⟨hg11, h⟩ := zgd_some h
          refine lM_23 dX2_goes_105 hg11 ?_
          refine ez_istore_n (i := 3) dX2_goes_106 rfl (show 3 < 4 by decide) ?_
          refine zlet_use (fun a12 => zEF G (d + 4) K YX2_goes 107 [some (.ref a0), some (.int b0), some (.int r7), some (.int a12)] [] (zm a0 g0 M8) Q) h (fun a12 h => ?_)
          refine ez_iload_n (i := 3) (x := a12) dX2_goes_107 rfl rfl ?_
          refine ez_iconst (v := -1) dX2_goes_108 (by decide) ?_
          refine ez_icmp_ne (tgt := 121) dX2_goes_109 (by decide) (fun hc => ?_) (fun hc => ?_)
          · replace h := zif_f hc h
            refine ez_aload_n (i := 0) (v := .ref a0) dX2_goes_121 rfl rfl rfl ?_
            refine ez_iload_n (i := 2) (x := r7) dX2_goes_122 rfl rfl ?_
            refine ez_iload_n (i := 3) (x := a12) dX2_goes_123 rfl rfl ?_
            refine ez_iload_n (i := 1) (x := b0) dX2_goes_124 rfl rfl ?_
            obtain ⟨r13, M14, hq14, h⟩ := zbd_some h
            refine ez_callV (C := RX2) (Tt := TX2) (N := 53) (Y' := YX2_passes) (vs := [.int r7, .int a12, .int b0]) (rest := []) dX2_goes_125 rfl zkX2_passes q1218 q1220 rfl slX2_passes (zm0 _ _ _) znX2_passes (Nat.le_of_ble_eq_true rfl) (Nat.le_of_ble_eq_true rfl) rfl (wX2_passes (d := d + 0) hq14 (zBack_v ?_))
            show zEF G (d + 4) K YX2_goes 128 [some (.ref a0), some (.int b0), some (.int r7), some (.int a12)] [.int r13] (zm a0 g0 M14) Q
            obtain rfl := Option.some.inj h
            exact ez_iret dX2_goes_128 rfl rfl kq
          · replace h := zif_t hc h
            refine ez_aload_n (i := 0) (v := .ref a0) dX2_goes_112 rfl rfl rfl ?_
            refine ez_iload_n (i := 2) (x := r7) dX2_goes_113 rfl rfl ?_
            refine ez_iload_n (i := 1) (x := b0) dX2_goes_114 rfl rfl ?_
            obtain ⟨r15, M16, hq16, h⟩ := zbd_some h
            refine ez_callV (C := RX2) (Tt := TX2) (N := 53) (Y' := YX2_loads) (vs := [.int r7, .int b0]) (rest := []) dX2_goes_115 rfl zkX2_loads q1256 q1258 rfl slX2_loads (zm0 _ _ _) znX2_loads (Nat.le_of_ble_eq_true rfl) (Nat.le_of_ble_eq_true rfl) rfl (wX2_loads (d := d + 1) hq16 (zBack_v ?_))
            show zEF G (d + 4) K YX2_goes 118 [some (.ref a0), some (.int b0), some (.int r7), some (.int a12)] [.int r15] (zm a0 g0 M16) Q
            refine ez_goto (tgt := 128) dX2_goes_118 (by decide) ?_
            obtain rfl := Option.some.inj h
            exact ez_iret dX2_goes_128 rfl rfl kq
      · replace h := zif_f hc h
        refine ez_aload_n (i := 0) (v := .ref a0) dX2_goes_81 rfl rfl rfl ?_
        obtain ⟨r17, M18, hq18, h⟩ := zbd_some h
        refine ez_callV (C := RX2) (Tt := TX2) (N := 53) (Y' := YX2_waits) (vs := []) (rest := []) dX2_goes_82 rfl zkX2_waits q1248 q1250 rfl slX2_waits (zm0 _ _ _) znX2_waits (Nat.le_of_ble_eq_true rfl) (Nat.le_of_ble_eq_true rfl) rfl (wX2_waits (d := d + 3) hq18 (zBack_v ?_))
        show zEF G (d + 4) K YX2_goes 85 [some (.ref a0), some (.int b0), some (.int r3), none] [.int r17] (zm a0 g0 M18) Q
        obtain rfl := Option.some.inj h
        exact ez_iret dX2_goes_85 rfl rfl kq
    · replace h := zif_f hc h
      refine ez_aload_n (i := 0) (v := .ref a0) dX2_goes_67 rfl rfl rfl ?_
      refine ez_iload_n (i := 2) (x := r3) dX2_goes_68 rfl rfl ?_
      refine ez_iload_n (i := 1) (x := b0) dX2_goes_69 rfl rfl ?_
      obtain ⟨r19, M20, hq20, h⟩ := zbd_some h
      refine ez_callV (C := RX2) (Tt := TX2) (N := 53) (Y' := YX2_loads) (vs := [.int r3, .int b0]) (rest := []) dX2_goes_70 rfl zkX2_loads q1256 q1258 rfl slX2_loads (zm0 _ _ _) znX2_loads (Nat.le_of_ble_eq_true rfl) (Nat.le_of_ble_eq_true rfl) rfl (wX2_loads (d := d + 1) hq20 (zBack_v ?_))
      show zEF G (d + 4) K YX2_goes 73 [some (.ref a0), some (.int b0), some (.int r3), none] [.int r19] (zm a0 g0 M20) Q
      obtain rfl := Option.some.inj h
      exact ez_iret dX2_goes_73 rfl rfl kq
  · replace h := zif_f hc h
    refine ez_aload_n (i := 0) (v := .ref a0) dX2_goes_12 rfl rfl rfl ?_
    refine ez_iload_n (i := 2) (x := a2) dX2_goes_13 rfl rfl ?_
    refine ez_aload_n (i := 0) (v := .ref a0) dX2_goes_14 rfl rfl rfl ?_
    refine gM_64 dX2_goes_15 rfl ?_
    refine ez_iconst (v := 4) dX2_goes_18 (by decide) ?_
    refine ez_iload_n (i := 2) (x := a2) dX2_goes_19 rfl rfl ?_
    refine ez_imul dX2_goes_20 ?_
    refine ez_aload_n (i := 0) (v := .ref a0) dX2_goes_21 rfl rfl rfl ?_
    refine gM_70 dX2_goes_22 rfl ?_
    refine ez_iload_n (i := 2) (x := a2) dX2_goes_25 rfl rfl ?_
    obtain ⟨hg21, h⟩ := zgd_some h
    refine lM_21 dX2_goes_26 hg21 ?_
    refine ez_iadd dX2_goes_27 ?_
    obtain ⟨hg22, h⟩ := zgd_some h
    refine lM_19 dX2_goes_28 hg22 ?_
    obtain ⟨r23, M24, hq24, h⟩ := zbd_some h
    refine ez_callV (C := RX2) (Tt := TX2) (N := 53) (Y' := YX2_mayPass) (vs := [.int a2, .int (M.A 19 (((4 : Int32) * a2) + (M.A 21 a2.toNatClampNeg)).toNatClampNeg)]) (rest := []) dX2_goes_29 rfl zkX2_mayPass q1214 q1216 rfl slX2_mayPass (zm0 _ _ _) znX2_mayPass (Nat.le_of_ble_eq_true rfl) (Nat.le_of_ble_eq_true rfl) rfl (wX2_mayPass (d := d + 3) hq24 (zBack_v ?_))
    show zEF G (d + 4) K YX2_goes 32 [some (.ref a0), some (.int b0), some (.int a2), none] [.int r23] (zm a0 g0 M24) Q
    refine ez_if_eq (tgt := 50) dX2_goes_32 (by decide) (fun hc => ?_) (fun hc => ?_)
    · replace h := zif_t hc h
      refine ez_aload_n (i := 0) (v := .ref a0) dX2_goes_50 rfl rfl rfl ?_
      obtain ⟨r25, M26, hq26, h⟩ := zbd_some h
      refine ez_callV (C := RX2) (Tt := TX2) (N := 53) (Y' := YX2_waits) (vs := []) (rest := []) dX2_goes_51 rfl zkX2_waits q1248 q1250 rfl slX2_waits (zm0 _ _ _) znX2_waits (Nat.le_of_ble_eq_true rfl) (Nat.le_of_ble_eq_true rfl) rfl (wX2_waits (d := d + 3) hq26 (zBack_v ?_))
      show zEF G (d + 4) K YX2_goes 54 [some (.ref a0), some (.int b0), some (.int a2), none] [.int r25] (zm a0 g0 M26) Q
      obtain rfl := Option.some.inj h
      exact ez_iret dX2_goes_54 rfl rfl kq
    · replace h := zif_f hc h
      refine ez_aload_n (i := 0) (v := .ref a0) dX2_goes_35 rfl rfl rfl ?_
      refine ez_iload_n (i := 2) (x := a2) dX2_goes_36 rfl rfl ?_
      refine ez_aload_n (i := 0) (v := .ref a0) dX2_goes_37 rfl rfl rfl ?_
      refine gM_70 dX2_goes_38 rfl ?_
      refine ez_iload_n (i := 2) (x := a2) dX2_goes_41 rfl rfl ?_
      obtain ⟨hg27, h⟩ := zgd_some h
      refine lM_21 dX2_goes_42 hg27 ?_
      refine ez_iload_n (i := 1) (x := b0) dX2_goes_43 rfl rfl ?_
      obtain ⟨r28, M29, hq29, h⟩ := zbd_some h
      refine ez_callV (C := RX2) (Tt := TX2) (N := 53) (Y' := YX2_passes) (vs := [.int a2, .int (M24.A 21 a2.toNatClampNeg), .int b0]) (rest := []) dX2_goes_44 rfl zkX2_passes q1218 q1220 rfl slX2_passes (zm0 _ _ _) znX2_passes (Nat.le_of_ble_eq_true rfl) (Nat.le_of_ble_eq_true rfl) rfl (wX2_passes (d := d + 0) hq29 (zBack_v ?_))
      show zEF G (d + 4) K YX2_goes 47 [some (.ref a0), some (.int b0), some (.int a2), none] [.int r28] (zm a0 g0 M29) Q
      refine ez_goto (tgt := 54) dX2_goes_47 (by decide) ?_
      obtain rfl := Option.some.inj h
      exact ez_iret dX2_goes_54 rfl rfl kq
def YX2_turn : zM := (yX2_turn, cX2_turn, 2, (Option.some Jvm.ClassFile.FieldType.int), [], false)
theorem zkX2_turn : zMok YX2_turn := ⟨rfl, q1205, by decide +kernel, by decide +kernel⟩
theorem znX2_turn : (parseMethodDescriptor YX2_turn.nm.desc).map (fun d => d.parameters.length) = some 1 := by decide +kernel
noncomputable def fX2_turn (M : MS) (b0 : Int32) : Option (Int32 × MS) := zbd (fX2_isWorker M b0) (fun r1 M2 => if r1 = 0 then some ((-101 : Int32), M2) else if (M2.I 28) = 0 then some ((-103 : Int32), M2) else zbd (fX2_goes M2 b0) (fun r3 M4 => some (r3, M4)))
theorem wX2_turn {G : zG} {d : Nat} {K : List Nat} {Q : zO → zS → Prop} {a0 : Nat} {g0 : zS} {M : MS} {b0 : Int32} {p : Int32 × MS} (h : fX2_turn M b0 = some p) (kq : Q (.inl (some (.int p.1))) (zm a0 g0 p.2)) : zEM G (d + 5) K YX2_turn [.ref a0, .int b0] (zm a0 g0 M) Q := by
  show zEF G (d + 5) K YX2_turn 0 [some (.ref a0), some (.int b0)] [] (zm a0 g0 M) Q
  unfold fX2_turn at h
  refine ez_aload_n (i := 0) (v := .ref a0) dX2_turn_0 rfl rfl rfl ?_
  refine ez_iload_n (i := 1) (x := b0) dX2_turn_1 rfl rfl ?_
  obtain ⟨r1, M2, hq2, h⟩ := zbd_some h
  refine ez_callV (C := RX2) (Tt := TX2) (N := 53) (Y' := YX2_isWorker) (vs := [.int b0]) (rest := []) dX2_turn_2 rfl zkX2_isWorker q1206 q1208 rfl slX2_isWorker (zm0 _ _ _) znX2_isWorker (Nat.le_of_ble_eq_true rfl) (Nat.le_of_ble_eq_true rfl) rfl (wX2_isWorker (d := d + 3) hq2 (zBack_v ?_))
  show zEF G (d + 5) K YX2_turn 5 [some (.ref a0), some (.int b0)] [.int r1] (zm a0 g0 M2) Q
  refine ez_if_ne (tgt := 11) dX2_turn_5 (by decide) (fun hc => ?_) (fun hc => ?_)
  · replace h := zif_f hc h
    refine ez_aload_n (i := 0) (v := .ref a0) dX2_turn_11 rfl rfl rfl ?_
    refine gM_159 dX2_turn_12 rfl ?_
    refine ez_if_eq (tgt := 26) dX2_turn_15 (by decide) (fun hc => ?_) (fun hc => ?_)
    · replace h := zif_t hc h
      refine ez_bipush (v := -103) dX2_turn_26 (by decide) ?_
      obtain rfl := Option.some.inj h
      exact ez_iret dX2_turn_28 rfl rfl kq
    · replace h := zif_f hc h
      refine ez_aload_n (i := 0) (v := .ref a0) dX2_turn_18 rfl rfl rfl ?_
      refine ez_iload_n (i := 1) (x := b0) dX2_turn_19 rfl rfl ?_
      obtain ⟨r3, M4, hq4, h⟩ := zbd_some h
      refine ez_callV (C := RX2) (Tt := TX2) (N := 53) (Y' := YX2_goes) (vs := [.int b0]) (rest := []) dX2_turn_20 rfl zkX2_goes q1210 q1212 rfl slX2_goes (zm0 _ _ _) znX2_goes (Nat.le_of_ble_eq_true rfl) (Nat.le_of_ble_eq_true rfl) rfl (wX2_goes (d := d + 0) hq4 (zBack_v ?_))
      show zEF G (d + 5) K YX2_turn 23 [some (.ref a0), some (.int b0)] [.int r3] (zm a0 g0 M4) Q
      refine ez_goto (tgt := 28) dX2_turn_23 (by decide) ?_
      obtain rfl := Option.some.inj h
      exact ez_iret dX2_turn_28 rfl rfl kq
  · replace h := zif_t hc h
    refine ez_bipush (v := -101) dX2_turn_8 (by decide) ?_
    obtain rfl := Option.some.inj h
    exact ez_iret dX2_turn_10 rfl rfl kq
def YX2_rounds : zM := (yX2_rounds, cX2_rounds, 5, (Option.some Jvm.ClassFile.FieldType.int), [], false)
theorem zkX2_rounds : zMok YX2_rounds := ⟨rfl, q1275, by decide +kernel, by decide +kernel⟩
theorem znX2_rounds : (parseMethodDescriptor YX2_rounds.nm.desc).map (fun d => d.parameters.length) = some 2 := by decide +kernel
noncomputable def fX2_rounds_L40 : Nat → MS → Int32 → Int32 → Int32 → Option (Int32 × MS)
  | 0, _, _, _, _ => none
  | n + 1, M, y2, y3, y4 => if y2 ≤ y3 then some (y3, M) else if (M.I 28) = 0 then some (y3, M) else zbd (fX2_goes M y4) (fun r5 M6 => zlet (mI M6 49 r5) (fun M7 => zjoin (fun (M8 : MS) (v9 : Int32) (v10 : Int32) (v11 : Int32) => fX2_rounds_L40 n M8 v9 v10 v11) (fun j12 => if (y4 + (1 : Int32)) = (M7.I 26) then j12 M7 y2 (y3 + (1 : Int32)) (0 : Int32) else j12 M7 y2 (y3 + (1 : Int32)) (y4 + (1 : Int32)))))
noncomputable def fX2_rounds (M : MS) (b0 : Int32) (b1 : Int32) : Option (Int32 × MS) := zbd (fX2_isWorker M b0) (fun r1 M2 => if r1 = 0 then some ((-101 : Int32), M2) else zbj (fX2_in b1 (0 : Int32) (200 : Int32)) (fun r3 => if r3 = 0 then some ((-102 : Int32), M2) else if (M2.I 28) = 0 then some ((-103 : Int32), M2) else fX2_rounds_L40 1000 M2 b1 (0 : Int32) b0 ))
theorem fX2_rounds_L40_ok {G : zG} {d : Nat} {K : List Nat} {Q : zO → zS → Prop} {a0 : Nat} {g0 : zS} : ∀ (n : Nat) (M : MS) (y2 : Int32) (y3 : Int32) (y4 : Int32) (p : Int32 × MS) (h : fX2_rounds_L40 n M y2 y3 y4 = some p) (kq : Q (.inl (some (.int p.1))) (zm a0 g0 p.2)), zEF G (d + 5) K YX2_rounds 40 [some (.ref a0), none, some (.int y2), some (.int y3), some (.int y4)] [] (zm a0 g0 M) Q := by
  intro n
  induction n with
  | zero =>
    intro M y2 y3 y4 p h kq
    rw [fX2_rounds_L40] at h
    cases h
  | succ n ih =>
    intro M y2 y3 y4 p h kq
    rw [fX2_rounds_L40] at h
    refine ez_iload_n (i := 3) (x := y3) dX2_rounds_40 rfl rfl ?_
    refine ez_iload_n (i := 2) (x := y2) dX2_rounds_41 rfl rfl ?_
    refine ez_icmp_ge (tgt := 89) dX2_rounds_42 (by decide) (fun hc => ?_) (fun hc => ?_)
    · replace h := zif_t hc h
      refine ez_iload_n (i := 3) (x := y3) dX2_rounds_89 rfl rfl ?_
      obtain rfl := Option.some.inj h
      exact ez_iret dX2_rounds_90 rfl rfl kq
    · replace h := zif_f hc h
      refine ez_aload_n (i := 0) (v := .ref a0) dX2_rounds_45 rfl rfl rfl ?_
      refine gM_159 dX2_rounds_46 rfl ?_
      refine ez_if_eq (tgt := 89) dX2_rounds_49 (by decide) (fun hc => ?_) (fun hc => ?_)
      · replace h := zif_t hc h
        refine ez_iload_n (i := 3) (x := y3) dX2_rounds_89 rfl rfl ?_
        obtain rfl := Option.some.inj h
        exact ez_iret dX2_rounds_90 rfl rfl kq
      · replace h := zif_f hc h
        refine ez_aload_n (i := 0) (v := .ref a0) dX2_rounds_52 rfl rfl rfl ?_
        refine ez_aload_n (i := 0) (v := .ref a0) dX2_rounds_53 rfl rfl rfl ?_
        refine ez_iload (i := 4) (x := y4) dX2_rounds_54 rfl ?_
        obtain ⟨r5, M6, hq6, h⟩ := zbd_some h
        refine ez_callV (C := RX2) (Tt := TX2) (N := 53) (Y' := YX2_goes) (vs := [.int y4]) (rest := [.ref a0]) dX2_rounds_56 rfl zkX2_goes q1210 q1212 rfl slX2_goes (zm0 _ _ _) znX2_goes (Nat.le_of_ble_eq_true rfl) (Nat.le_of_ble_eq_true rfl) rfl (wX2_goes (d := d + 0) hq6 (zBack_v ?_))
        show zEF G (d + 5) K YX2_rounds 59 [some (.ref a0), none, some (.int y2), some (.int y3), some (.int y4)] [.int r5, .ref a0] (zm a0 g0 M6) Q
        refine pM_210 dX2_rounds_59 rfl ?_
        refine zlet_use (fun M7 => zEF G (d + 5) K YX2_rounds 62 [some (.ref a0), none, some (.int y2), some (.int y3), some (.int y4)] [] (zm a0 g0 M7) Q) h (fun M7 h => ?_)
        refine ez_iinc (x := y3) (v := (y3 + (1 : Int32))) dX2_rounds_62 rfl rfl (show 3 < 5 by decide) ?_
        show zEF G (d + 5) K YX2_rounds 65 [some (.ref a0), none, some (.int y2), some (.int (y3 + (1 : Int32))), some (.int y4)] [] (zm a0 g0 M7) Q
        refine ez_iload (i := 4) (x := y4) dX2_rounds_65 rfl ?_
        refine ez_iconst (v := 1) dX2_rounds_67 (by decide) ?_
        refine ez_iadd dX2_rounds_68 ?_
        refine ez_aload_n (i := 0) (v := .ref a0) dX2_rounds_69 rfl rfl rfl ?_
        refine gM_85 dX2_rounds_70 rfl ?_
        refine zjoin_use (fun (j : MS → Int32 → Int32 → Int32 → Option (Int32 × MS)) => ∀ (M8 : MS) (v9 : Int32) (v10 : Int32) (v11 : Int32), j M8 v9 v10 v11 = some p → zEF G (d + 5) K YX2_rounds 84 [some (.ref a0), none, some (.int v9), some (.int v10), none] [.int v11] (zm a0 g0 M8) Q) h (fun M8 v9 v10 v11 h => ?_) (fun j12 hj12 h => ?_)
        · refine ez_istore (i := 4) dX2_rounds_84 (show 4 < 5 by decide) ?_
          show zEF G (d + 5) K YX2_rounds 86 [some (.ref a0), none, some (.int v9), some (.int v10), some (.int v11)] [] (zm a0 g0 M8) Q
          refine ez_goto (tgt := 40) dX2_rounds_86 (by decide) ?_
          exact ih M8 v9 v10 v11 _ h kq
        · refine ez_icmp_ne (tgt := 80) dX2_rounds_73 (by decide) (fun hc => ?_) (fun hc => ?_)
          · replace h := zif_f hc h
            refine ez_iload (i := 4) (x := y4) dX2_rounds_80 rfl ?_
            refine ez_iconst (v := 1) dX2_rounds_82 (by decide) ?_
            refine ez_iadd dX2_rounds_83 ?_
            refine ez_clr 4 ?_
            exact hj12 M7 y2 (y3 + (1 : Int32)) (y4 + (1 : Int32)) h
          · replace h := zif_t hc h
            refine ez_iconst (v := 0) dX2_rounds_76 (by decide) ?_
            refine ez_goto (tgt := 84) dX2_rounds_77 (by decide) ?_
            refine ez_clr 4 ?_
            exact hj12 M7 y2 (y3 + (1 : Int32)) (0 : Int32) h
theorem wX2_rounds {G : zG} {d : Nat} {K : List Nat} {Q : zO → zS → Prop} {a0 : Nat} {g0 : zS} {M : MS} {b0 : Int32} {b1 : Int32} {p : Int32 × MS} (h : fX2_rounds M b0 b1 = some p) (kq : Q (.inl (some (.int p.1))) (zm a0 g0 p.2)) : zEM G (d + 5) K YX2_rounds [.ref a0, .int b0, .int b1] (zm a0 g0 M) Q := by
  show zEF G (d + 5) K YX2_rounds 0 [some (.ref a0), some (.int b0), some (.int b1), none, none] [] (zm a0 g0 M) Q
  unfold fX2_rounds at h
  refine ez_aload_n (i := 0) (v := .ref a0) dX2_rounds_0 rfl rfl rfl ?_
  refine ez_iload_n (i := 1) (x := b0) dX2_rounds_1 rfl rfl ?_
  obtain ⟨r1, M2, hq2, h⟩ := zbd_some h
  refine ez_callV (C := RX2) (Tt := TX2) (N := 53) (Y' := YX2_isWorker) (vs := [.int b0]) (rest := []) dX2_rounds_2 rfl zkX2_isWorker q1206 q1208 rfl slX2_isWorker (zm0 _ _ _) znX2_isWorker (Nat.le_of_ble_eq_true rfl) (Nat.le_of_ble_eq_true rfl) rfl (wX2_isWorker (d := d + 3) hq2 (zBack_v ?_))
  show zEF G (d + 5) K YX2_rounds 5 [some (.ref a0), some (.int b0), some (.int b1), none, none] [.int r1] (zm a0 g0 M2) Q
  refine ez_if_ne (tgt := 11) dX2_rounds_5 (by decide) (fun hc => ?_) (fun hc => ?_)
  · replace h := zif_f hc h
    refine ez_iload_n (i := 2) (x := b1) dX2_rounds_11 rfl rfl ?_
    refine ez_iconst (v := 0) dX2_rounds_12 (by decide) ?_
    refine ez_sipush (v := 200) dX2_rounds_13 (by decide) ?_
    obtain ⟨r3, hq4, h⟩ := zbj_some h
    refine ez_callS (Y' := YX2_in) (vs := [.int b1, .int (0 : Int32), .int (200 : Int32)]) (rest := []) dX2_rounds_16 rfl zkX2_in q1098 q1099 q54 znX2_in (Nat.le_of_ble_eq_true rfl) (Nat.le_of_ble_eq_true rfl) rfl (wX2_in (d := d + 4) hq4 (zBack_v ?_))
    show zEF G (d + 5) K YX2_rounds 19 [some (.ref a0), some (.int b0), some (.int b1), none, none] [.int r3] (zm a0 g0 M2) Q
    refine ez_if_ne (tgt := 25) dX2_rounds_19 (by decide) (fun hc => ?_) (fun hc => ?_)
    · replace h := zif_f hc h
      refine ez_aload_n (i := 0) (v := .ref a0) dX2_rounds_25 rfl rfl rfl ?_
      refine gM_159 dX2_rounds_26 rfl ?_
      refine ez_if_ne (tgt := 35) dX2_rounds_29 (by decide) (fun hc => ?_) (fun hc => ?_)
      · replace h := zif_f hc h
        refine ez_iconst (v := 0) dX2_rounds_35 (by decide) ?_
        refine ez_istore_n (i := 3) dX2_rounds_36 rfl (show 3 < 5 by decide) ?_
        show zEF G (d + 5) K YX2_rounds 37 [some (.ref a0), some (.int b0), some (.int b1), some (.int (0 : Int32)), none] [] (zm a0 g0 M2) Q
        refine ez_iload_n (i := 1) (x := b0) dX2_rounds_37 rfl rfl ?_
        refine ez_istore (i := 4) dX2_rounds_38 (show 4 < 5 by decide) ?_
        show zEF G (d + 5) K YX2_rounds 40 [some (.ref a0), some (.int b0), some (.int b1), some (.int (0 : Int32)), some (.int b0)] [] (zm a0 g0 M2) Q
        refine ez_clr 1 ?_
        refine fX2_rounds_L40_ok (d := d) (K := K) 1000 M2 b1 (0 : Int32) b0 _ h  kq
      · replace h := zif_t hc h
        refine ez_bipush (v := -103) dX2_rounds_32 (by decide) ?_
        obtain rfl := Option.some.inj h
        exact ez_iret dX2_rounds_34 rfl rfl kq
    · replace h := zif_t hc h
      refine ez_bipush (v := -102) dX2_rounds_22 (by decide) ?_
      obtain rfl := Option.some.inj h
      exact ez_iret dX2_rounds_24 rfl rfl kq
  · replace h := zif_t hc h
    refine ez_bipush (v := -101) dX2_rounds_8 (by decide) ?_
    obtain rfl := Option.some.inj h
    exact ez_iret dX2_rounds_10 rfl rfl kq

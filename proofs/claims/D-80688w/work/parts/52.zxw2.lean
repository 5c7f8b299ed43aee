/-! ScoreThreads' classes: methods, walked, 2 -/
set_option maxRecDepth 100000

def YX0_ofEcho : zM := (yX0_ofEcho, cX0_ofEcho, 3, (Option.some Jvm.ClassFile.FieldType.int), [], false)
theorem zkX0_ofEcho : zMok YX0_ofEcho := ⟨rfl, q640, by decide +kernel, by decide +kernel⟩
theorem znX0_ofEcho : (parseMethodDescriptor YX0_ofEcho.nm.desc).map (fun d => d.parameters.length) = some 2 := by decide +kernel
noncomputable def fX0_ofEcho (g : zS) (b0 : Nat) (b1 : Int32) : Option ((Int32 ⊕ String) × zS) := zbj (zob g [4, 5, 6, 7, 8, 9, 10, 11] b0) (fun ob1 => if ob1.1 = 8 ∨ ob1.1 = 9 then if b1 = (3 : Int32) then zbj (zgI g [8, 9] b0 5) (fun i23 => some (.inl i23, g)) else if b1 = (4 : Int32) then zbj (zgR g [8, 9] b0 4) (fun o17 => zcs o17 (zgd (1 ≤ g.rc ∧ 8 ≤ g.rs) (some (.inr zNPE, (zng g)))) (fun a19 => zbj (zaln g a19) (fun n20 => some (.inl (Int32.ofNat n20), g)))) else zbj (zgR g [8, 9] b0 4) (fun o4 => zcs o4 (zgd (1 ≤ g.rc ∧ 8 ≤ g.rs) (some (.inr zNPE, (zng g)))) (fun a6 => zbj (zaln g a6) (fun n8 => zgd (n8 < 2 ^ 31) (if zout (b1 - (5 : Int32)) n8 then zgd (3 ≤ g.rc ∧ 300 ≤ g.rs) (some (.inr zAIO, (zxg g))) else zbj (zaF g 1 a6 (b1 - (5 : Int32))) (fun e11 => zbj (fJ8_floatToIntBits e11) (fun r14 => some (.inl r14, g))))))) else zgd (3 ≤ g.rc ∧ 300 ≤ g.rs) (some (.inr zCCE, (zxg g))))
theorem wX0_ofEcho {G : zG} {d : Nat} {K : List Nat} {Q : zO → zS → Prop} {g : zS} {b0 : Nat} {b1 : Int32} {p : (Int32 ⊕ String) × zS} (h : fX0_ofEcho g b0 b1 = some p) (kq : Q (zoI p.1 p.2) p.2) : zEM G (d + 8) K YX0_ofEcho [.ref b0, .int b1] g Q := by
  show zEF G (d + 8) K YX0_ofEcho 0 [some (.ref b0), some (.int b1), none] [] g Q
  unfold fX0_ofEcho at h
  refine ez_aload_n (i := 0) (v := .ref b0) dX0_ofEcho_0 rfl rfl rfl ?_
  obtain ⟨ob1, hx2, h⟩ := zbj_some h
  by_cases hc : ob1.1 = 8 ∨ ob1.1 = 9
  · replace h := zif_t hc h
    refine cX_echo dX0_ofEcho_1 rfl hx2 hc ?_
    refine ez_astore_n (i := 2) dX0_ofEcho_4 rfl (show 2 < 3 by decide) rfl ?_
    show zEF G (d + 8) K YX0_ofEcho 5 [some (.ref b0), some (.int b1), some (.ref b0)] [] g Q
    refine ez_iload_n (i := 1) (x := b1) dX0_ofEcho_5 rfl rfl ?_
    refine ez_iconst (v := 3) dX0_ofEcho_6 (by decide) ?_
    refine ez_icmp_ne (tgt := 17) dX0_ofEcho_7 (by decide) (fun hc => ?_) (fun hc => ?_)
    · replace h := zif_f hc h
      refine ez_iload_n (i := 1) (x := b1) dX0_ofEcho_17 rfl rfl ?_
      refine ez_iconst (v := 4) dX0_ofEcho_18 (by decide) ?_
      refine ez_icmp_ne (tgt := 30) dX0_ofEcho_19 (by decide) (fun hc => ?_) (fun hc => ?_)
      · replace h := zif_f hc h
        refine ez_aload_n (i := 2) (v := .ref b0) dX0_ofEcho_30 rfl rfl rfl ?_
        obtain ⟨o4, hx5, h⟩ := zbj_some h
        refine gX0_154 dX0_ofEcho_31 rfl hx5 ?_
        refine ez_iload_n (i := 1) (x := b1) dX0_ofEcho_34 rfl rfl ?_
        refine ez_iconst (v := 5) dX0_ofEcho_35 (by decide) ?_
        refine ez_isub dX0_ofEcho_36 ?_
        rcases o4 with _ | a6
        · replace h := zcs_n h
          obtain ⟨hr7, h⟩ := zgd_some h
          refine ex_falN dX0_ofEcho_37 (Nat.le_of_ble_eq_true rfl) hr7.1 hr7.2 ?_
          obtain rfl := Option.some.inj h
          exact zTH_out (fun x hx => by cases hx) kq
        · replace h := zcs_s h
          obtain ⟨n8, hx9, h⟩ := zbj_some h
          obtain ⟨hg10, h⟩ := zgd_some h
          by_cases hc : zout (b1 - (5 : Int32)) n8
          · replace h := zif_t hc h
            obtain ⟨tT, xT, hE, hT, hN⟩ := zaln_some hx9
            obtain ⟨hr13, h⟩ := zgd_some h
            refine ex_falO (i := (b1 - (5 : Int32))) dX0_ofEcho_37 hE hT (by rw [hN]; exact hg10) (by rw [hN]; exact hc) (Nat.le_of_ble_eq_true rfl) hr13.1 hr13.2 ?_
            obtain rfl := Option.some.inj h
            exact zTH_out (fun x hx => by cases hx) kq
          · replace h := zif_f hc h
            obtain ⟨e11, hx12, h⟩ := zbj_some h
            refine lX_fa dX0_ofEcho_37 hx12 ?_
            obtain ⟨r14, hq16, h⟩ := zbj_some h
            refine ez_callS (Y' := YJ8_floatToIntBits) (vs := [.float e11]) (rest := []) dX0_ofEcho_38 rfl zkJ8_floatToIntBits q416 q417 q65 znJ8_floatToIntBits (Nat.le_of_ble_eq_true rfl) (Nat.le_of_ble_eq_true rfl) rfl (wJ8_floatToIntBits (d := d + 6) hq16 (zBack_v ?_))
            show zEF G (d + 8) K YX0_ofEcho 41 [some (.ref b0), some (.int b1), some (.ref b0)] [.int r14] g Q
            obtain rfl := Option.some.inj h
            exact ez_iret dX0_ofEcho_41 rfl rfl kq
      · replace h := zif_t hc h
        refine ez_aload_n (i := 2) (v := .ref b0) dX0_ofEcho_22 rfl rfl rfl ?_
        obtain ⟨o17, hx18, h⟩ := zbj_some h
        refine gX0_154 dX0_ofEcho_23 rfl hx18 ?_
        rcases o17 with _ | a19
        · replace h := zcs_n h
          obtain ⟨hr22, h⟩ := zgd_some h
          refine ex_alenN dX0_ofEcho_26 (Nat.le_of_ble_eq_true rfl) hr22.1 hr22.2 ?_
          obtain rfl := Option.some.inj h
          exact zTH_out (fun x hx => by cases hx) kq
        · replace h := zcs_s h
          obtain ⟨n20, hx21, h⟩ := zbj_some h
          obtain ⟨tT, xT, hE, hT, hN⟩ := zaln_some hx21
          refine ez_alen (v := Int32.ofNat n20) dX0_ofEcho_26 hE hT (by rw [hN]) ?_
          refine ez_goto (tgt := 41) dX0_ofEcho_27 (by decide) ?_
          obtain rfl := Option.some.inj h
          exact ez_iret dX0_ofEcho_41 rfl rfl kq
    · replace h := zif_t hc h
      refine ez_aload_n (i := 2) (v := .ref b0) dX0_ofEcho_10 rfl rfl rfl ?_
      obtain ⟨i23, hx24, h⟩ := zbj_some h
      refine gX0_151 dX0_ofEcho_11 rfl hx24 ?_
      refine ez_goto (tgt := 41) dX0_ofEcho_14 (by decide) ?_
      obtain rfl := Option.some.inj h
      exact ez_iret dX0_ofEcho_41 rfl rfl kq
  · replace h := zif_f hc h
    obtain ⟨hr3, h⟩ := zgd_some h
    refine eX_echo dX0_ofEcho_1 rfl hx2 hc (Nat.le_of_ble_eq_true rfl) hr3.1 hr3.2 ?_
    obtain rfl := Option.some.inj h
    exact zTH_out (fun x hx => by cases hx) kq
noncomputable def v_tail (g : zS) (a : Nat) : Option (Int32 × zS) := zbj (zob g [4, 5, 6, 7, 8, 9, 10, 11] a) fun o => if o.1 = 4 then fX4_tail g a else if o.1 = 5 then fX6_tail g a else if o.1 = 6 then fX7_tail g a else if o.1 = 7 then fX4_tail g a else if o.1 = 8 then fX9_tail g a else if o.1 = 9 then fX10_tail g a else if o.1 = 10 then fX4_tail g a else if o.1 = 11 then fX4_tail g a else none
theorem vw_tail_ScoreThreads {G : zG} {d : Nat} {K : List Nat} {Y : zM} {pc : Nat} {lo : List (Option Value)} {rest : List Value} {g : zS} {Q : zO → zS → Prop} {a : Nat} {ob : Nat × List Value} {p : Int32 × zS} (hd : decode Y.code pc = .ok (.invokevirtual 163, 3)) (ho : RX0 = Y.nm.cls) (hob : zob g [4, 5, 6, 7, 8, 9, 10, 11] a = some ob) (hrm : (rest.map fun v => v.category).sum + 1 ≤ 25) (h : v_tail g a = some p) (kq : zBack G (d + 2 + 1) K Y pc lo rest Q (.inl (some (.int p.1))) p.2) : zEF G (d + 2 + 1) K Y pc lo (.ref a :: rest) g Q := by
  unfold v_tail at h
  rw [hob] at h
  replace h : (if ob.1 = 4 then fX4_tail g a else if ob.1 = 5 then fX6_tail g a else if ob.1 = 6 then fX7_tail g a else if ob.1 = 7 then fX4_tail g a else if ob.1 = 8 then fX9_tail g a else if ob.1 = 9 then fX10_tail g a else if ob.1 = 10 then fX4_tail g a else if ob.1 = 11 then fX4_tail g a else none) = some p := h
  obtain ⟨hv, h2⟩ := zob_some hob
  obtain ⟨ci, fs⟩ := ob
  simp only [List.mem_cons, List.not_mem_nil, or_false] at h2
  rcases h2 with rfl | rfl | rfl | rfl | rfl | rfl | rfl | rfl
  · exact ez_callU (x := ⟨"ScoreThreads$Plug", "tail", "()I"⟩) (owner := "ScoreThreads$Plug") (Y' := YX4_tail) (C := RX5) (Tt := TX5) (N := 4) (a := a) (vs := []) (rest := rest) hd ho zkX4_tail q601 q603 (by decide) (Or.inl q619) q602 rfl q620 hv znX4_tail (Nat.le_of_ble_eq_true rfl) (by show _ + 1 ≤ _; omega) rfl (wX4_tail (d := d + 2) h kq)
  · exact ez_callU (x := ⟨"ScoreThreads$Plug", "tail", "()I"⟩) (owner := "ScoreThreads$Plug") (Y' := YX6_tail) (C := RX6) (Tt := TX6) (N := 4) (a := a) (vs := []) (rest := rest) hd ho zkX6_tail q601 q603 (by decide) (Or.inl q619) q615 rfl q624 hv znX6_tail (Nat.le_of_ble_eq_true rfl) (by show _ + 1 ≤ _; omega) rfl (wX6_tail (d := d + 1) h kq)
  · exact ez_callU (x := ⟨"ScoreThreads$Plug", "tail", "()I"⟩) (owner := "ScoreThreads$Plug") (Y' := YX7_tail) (C := RX7) (Tt := TX7) (N := 4) (a := a) (vs := []) (rest := rest) hd ho zkX7_tail q601 q603 (by decide) (Or.inl q619) q612 rfl q611 hv znX7_tail (Nat.le_of_ble_eq_true rfl) (by show _ + 1 ≤ _; omega) rfl (wX7_tail (d := d + 0) h kq)
  · exact ez_callU (x := ⟨"ScoreThreads$Plug", "tail", "()I"⟩) (owner := "ScoreThreads$Plug") (Y' := YX4_tail) (C := RX8) (Tt := TX8) (N := 4) (a := a) (vs := []) (rest := rest) hd ho zkX4_tail q601 q603 (by decide) (Or.inl q619) q602 rfl q622 hv znX4_tail (Nat.le_of_ble_eq_true rfl) (by show _ + 1 ≤ _; omega) rfl (wX4_tail (d := d + 2) h kq)
  · exact ez_callU (x := ⟨"ScoreThreads$Plug", "tail", "()I"⟩) (owner := "ScoreThreads$Plug") (Y' := YX9_tail) (C := RX9) (Tt := TX9) (N := 6) (a := a) (vs := []) (rest := rest) hd ho zkX9_tail q601 q603 (by decide) (Or.inl q619) q608 rfl q610 hv znX9_tail (Nat.le_of_ble_eq_true rfl) (by show _ + 1 ≤ _; omega) rfl (wX9_tail (d := d + 2) h kq)
  · exact ez_callU (x := ⟨"ScoreThreads$Plug", "tail", "()I"⟩) (owner := "ScoreThreads$Plug") (Y' := YX10_tail) (C := RX10) (Tt := TX10) (N := 6) (a := a) (vs := []) (rest := rest) hd ho zkX10_tail q601 q603 (by decide) (Or.inl q619) q605 rfl q604 hv znX10_tail (Nat.le_of_ble_eq_true rfl) (by show _ + 1 ≤ _; omega) rfl (wX10_tail (d := d + 1) h kq)
  · exact ez_callU (x := ⟨"ScoreThreads$Plug", "tail", "()I"⟩) (owner := "ScoreThreads$Plug") (Y' := YX4_tail) (C := RX11) (Tt := TX11) (N := 4) (a := a) (vs := []) (rest := rest) hd ho zkX4_tail q601 q603 (by decide) (Or.inl q619) q602 rfl q621 hv znX4_tail (Nat.le_of_ble_eq_true rfl) (by show _ + 1 ≤ _; omega) rfl (wX4_tail (d := d + 2) h kq)
  · exact ez_callU (x := ⟨"ScoreThreads$Plug", "tail", "()I"⟩) (owner := "ScoreThreads$Plug") (Y' := YX4_tail) (C := RX12) (Tt := TX12) (N := 5) (a := a) (vs := []) (rest := rest) hd ho zkX4_tail q601 q603 (by decide) (Or.inl q619) q602 rfl q623 hv znX4_tail (Nat.le_of_ble_eq_true rfl) (by show _ + 1 ≤ _; omega) rfl (wX4_tail (d := d + 2) h kq)
noncomputable def v_uses (g : zS) (a : Nat) : Option (Int32 × zS) := zbj (zob g [4, 5, 6, 7, 8, 9, 10, 11] a) fun o => if o.1 = 4 then fX4_uses g a else if o.1 = 5 then fX4_uses g a else if o.1 = 6 then fX4_uses g a else if o.1 = 7 then fX4_uses g a else if o.1 = 8 then fX4_uses g a else if o.1 = 9 then fX4_uses g a else if o.1 = 10 then fX4_uses g a else if o.1 = 11 then fX4_uses g a else none
theorem vw_uses_ScoreThreads {G : zG} {d : Nat} {Y : zM} {pc : Nat} {lo : List (Option Value)} {rest : List Value} {g : zS} {Q : zO → zS → Prop} {a : Nat} {ob : Nat × List Value} {p : Int32 × zS} (hd : decode Y.code pc = .ok (.invokevirtual 167, 3)) (ho : RX0 = Y.nm.cls) (hob : zob g [4, 5, 6, 7, 8, 9, 10, 11] a = some ob) (hrm : (rest.map fun v => v.category).sum + 1 ≤ 25) (h : v_uses g a = some p) (kq : zBack G (d + 0 + 1) [] Y pc lo rest Q (.inl (some (.int p.1))) p.2) : zEF G (d + 0 + 1) [] Y pc lo (.ref a :: rest) g Q := by
  unfold v_uses at h
  rw [hob] at h
  replace h : (if ob.1 = 4 then fX4_uses g a else if ob.1 = 5 then fX4_uses g a else if ob.1 = 6 then fX4_uses g a else if ob.1 = 7 then fX4_uses g a else if ob.1 = 8 then fX4_uses g a else if ob.1 = 9 then fX4_uses g a else if ob.1 = 10 then fX4_uses g a else if ob.1 = 11 then fX4_uses g a else none) = some p := h
  obtain ⟨hv, h2⟩ := zob_some hob
  obtain ⟨ci, fs⟩ := ob
  simp only [List.mem_cons, List.not_mem_nil, or_false] at h2
  rcases h2 with rfl | rfl | rfl | rfl | rfl | rfl | rfl | rfl
  · exact ez_callY (x := ⟨"ScoreThreads$Plug", "uses", "()I"⟩) (owner := "ScoreThreads$Plug") (Y' := YX4_uses) (C := RX5) (Tt := TX5) (N := 4) (a := a) (vs := []) (rest := rest) hd ho zkX4_uses q626 q628 (by decide) (Or.inr ⟨YX4_uses, rfl, fun _ => rfl, q627, q637⟩) q627 rfl q632 hv (by simp) znX4_uses (Nat.le_of_ble_eq_true rfl) (by show _ + 1 ≤ _; omega) rfl (wX4_uses (d := d + 0) h kq)
  · exact ez_callY (x := ⟨"ScoreThreads$Plug", "uses", "()I"⟩) (owner := "ScoreThreads$Plug") (Y' := YX4_uses) (C := RX6) (Tt := TX6) (N := 4) (a := a) (vs := []) (rest := rest) hd ho zkX4_uses q626 q628 (by decide) (Or.inr ⟨YX4_uses, rfl, fun _ => rfl, q627, q637⟩) q627 rfl q636 hv (by simp) znX4_uses (Nat.le_of_ble_eq_true rfl) (by show _ + 1 ≤ _; omega) rfl (wX4_uses (d := d + 0) h kq)
  · exact ez_callY (x := ⟨"ScoreThreads$Plug", "uses", "()I"⟩) (owner := "ScoreThreads$Plug") (Y' := YX4_uses) (C := RX7) (Tt := TX7) (N := 4) (a := a) (vs := []) (rest := rest) hd ho zkX4_uses q626 q628 (by decide) (Or.inr ⟨YX4_uses, rfl, fun _ => rfl, q627, q637⟩) q627 rfl q631 hv (by simp) znX4_uses (Nat.le_of_ble_eq_true rfl) (by show _ + 1 ≤ _; omega) rfl (wX4_uses (d := d + 0) h kq)
  · exact ez_callY (x := ⟨"ScoreThreads$Plug", "uses", "()I"⟩) (owner := "ScoreThreads$Plug") (Y' := YX4_uses) (C := RX8) (Tt := TX8) (N := 4) (a := a) (vs := []) (rest := rest) hd ho zkX4_uses q626 q628 (by decide) (Or.inr ⟨YX4_uses, rfl, fun _ => rfl, q627, q637⟩) q627 rfl q634 hv (by simp) znX4_uses (Nat.le_of_ble_eq_true rfl) (by show _ + 1 ≤ _; omega) rfl (wX4_uses (d := d + 0) h kq)
  · exact ez_callY (x := ⟨"ScoreThreads$Plug", "uses", "()I"⟩) (owner := "ScoreThreads$Plug") (Y' := YX4_uses) (C := RX9) (Tt := TX9) (N := 6) (a := a) (vs := []) (rest := rest) hd ho zkX4_uses q626 q628 (by decide) (Or.inr ⟨YX4_uses, rfl, fun _ => rfl, q627, q637⟩) q627 rfl q630 hv (by simp) znX4_uses (Nat.le_of_ble_eq_true rfl) (by show _ + 1 ≤ _; omega) rfl (wX4_uses (d := d + 0) h kq)
  · exact ez_callY (x := ⟨"ScoreThreads$Plug", "uses", "()I"⟩) (owner := "ScoreThreads$Plug") (Y' := YX4_uses) (C := RX10) (Tt := TX10) (N := 6) (a := a) (vs := []) (rest := rest) hd ho zkX4_uses q626 q628 (by decide) (Or.inr ⟨YX4_uses, rfl, fun _ => rfl, q627, q637⟩) q627 rfl q629 hv (by simp) znX4_uses (Nat.le_of_ble_eq_true rfl) (by show _ + 1 ≤ _; omega) rfl (wX4_uses (d := d + 0) h kq)
  · exact ez_callY (x := ⟨"ScoreThreads$Plug", "uses", "()I"⟩) (owner := "ScoreThreads$Plug") (Y' := YX4_uses) (C := RX11) (Tt := TX11) (N := 4) (a := a) (vs := []) (rest := rest) hd ho zkX4_uses q626 q628 (by decide) (Or.inr ⟨YX4_uses, rfl, fun _ => rfl, q627, q637⟩) q627 rfl q633 hv (by simp) znX4_uses (Nat.le_of_ble_eq_true rfl) (by show _ + 1 ≤ _; omega) rfl (wX4_uses (d := d + 0) h kq)
  · exact ez_callY (x := ⟨"ScoreThreads$Plug", "uses", "()I"⟩) (owner := "ScoreThreads$Plug") (Y' := YX4_uses) (C := RX12) (Tt := TX12) (N := 5) (a := a) (vs := []) (rest := rest) hd ho zkX4_uses q626 q628 (by decide) (Or.inr ⟨YX4_uses, rfl, fun _ => rfl, q627, q637⟩) q627 rfl q635 hv (by simp) znX4_uses (Nat.le_of_ble_eq_true rfl) (by show _ + 1 ≤ _; omega) rfl (wX4_uses (d := d + 0) h kq)
def YX0_plugged : zM := (yX0_plugged, cX0_plugged, 4, (Option.some Jvm.ClassFile.FieldType.int), [(72, 82, 83, 119), (72, 82, 90, 174), (72, 82, 97, 121)], false)
theorem zkX0_plugged : zMok YX0_plugged := ⟨rfl, q571, by decide +kernel, by decide +kernel⟩
theorem znX0_plugged : (parseMethodDescriptor YX0_plugged.nm.desc).map (fun d => d.parameters.length) = some 2 := by decide +kernel
noncomputable def fX0_plugged (g : zS) (a0 : Nat) (b0 : Int32) (b1 : Int32) : Option (Int32 × zS) := zbj (zob g [0] a0) (fun ob1 => zbd (fX0_isPlug g a0 b0) (fun r3 g4 => if r3 = 0 then some ((-101 : Int32), g4) else zbj (fX0_isIn b1 (0 : Int32) (20 : Int32)) (fun r6 => if r6 = 0 then some ((-102 : Int32), g4) else if (3 : Int32) ≤ b1 then zbj (zgN g4 [0] a0 2) (fun a9 => zbj (zaN g4 8 a9 b0) (fun a11 => zbd (fX0_ofEcho g4 a11 b1) (fun r13 g14 => zsm r13 (fun v16 => some (v16, g14)) (fun X17 => if X17 = zAIO then zbj (zob g14 [0] a0) (fun ob18 => zbd (fX0_met g14 a0 (2 : Int32)) (fun r20 g21 => some (r20, g21))) else if X17 = zCCE then zbj (zob g14 [0] a0) (fun ob24 => zbd (fX0_met g14 a0 (3 : Int32)) (fun r26 g27 => some (r26, g27))) else if X17 = zNPE then zbj (zob g14 [0] a0) (fun ob30 => zbd (fX0_met g14 a0 (1 : Int32)) (fun r32 g33 => some (r32, g33))) else none)))) else if b1 = 0 then zbj (zgN g4 [0] a0 2) (fun a54 => zbj (zaN g4 8 a54 b0) (fun a56 => zbj (zgI g4 [4, 5, 6, 7, 8, 9, 10, 11] a56 0) (fun i58 => some (i58, g4)))) else if b1 = (1 : Int32) then zbj (zgN g4 [0] a0 2) (fun a45 => zbj (zaN g4 8 a45 b0) (fun a47 => zbj (zob g4 [4, 5, 6, 7, 8, 9, 10, 11] a47) (fun ob49 => zbd (v_tail g4 a47) (fun r51 g52 => some (r51, g52))))) else zbj (zgN g4 [0] a0 2) (fun a36 => zbj (zaN g4 8 a36 b0) (fun a38 => zbj (zob g4 [4, 5, 6, 7, 8, 9, 10, 11] a38) (fun ob40 => zbd (v_uses g4 a38) (fun r42 g43 => some (r42, g43))))))))
theorem wX0_plugged {G : zG} {d : Nat} {Q : zO → zS → Prop} {g : zS} {a0 : Nat} {b0 : Int32} {b1 : Int32} {p : Int32 × zS} (h : fX0_plugged g a0 b0 b1 = some p) (kq : Q (.inl (some (.int p.1))) p.2) : zEM G (d + 9) [] YX0_plugged [.ref a0, .int b0, .int b1] g Q := by
  show zEF G (d + 9) [] YX0_plugged 0 [some (.ref a0), some (.int b0), some (.int b1), none] [] g Q
  unfold fX0_plugged at h
  refine ez_aload_n (i := 0) (v := .ref a0) dX0_plugged_0 rfl rfl rfl ?_
  refine ez_iload_n (i := 1) (x := b0) dX0_plugged_1 rfl rfl ?_
  obtain ⟨ob1, hx2, h⟩ := zbj_some h
  obtain ⟨r3, g4, hq5, h⟩ := zbd_some h
  refine ez_callV (C := RX0) (Tt := TX0) (N := 20) (Y' := YX0_isPlug) (a := a0) (vs := [.int b0]) (rest := []) dX0_plugged_2 rfl zkX0_isPlug q597 q599 rfl slX0_isPlug (zob1 hx2) znX0_isPlug (Nat.le_of_ble_eq_true rfl) (Nat.le_of_ble_eq_true rfl) rfl (wX0_isPlug (d := d + 7) hq5 (zBack_v ?_))
  show zEF G (d + 9) [] YX0_plugged 5 [some (.ref a0), some (.int b0), some (.int b1), none] [.int r3] g4 Q
  refine ez_if_ne (tgt := 11) dX0_plugged_5 (by decide) (fun hc => ?_) (fun hc => ?_)
  · replace h := zif_f hc h
    refine ez_iload_n (i := 2) (x := b1) dX0_plugged_11 rfl rfl ?_
    refine ez_iconst (v := 0) dX0_plugged_12 (by decide) ?_
    refine ez_bipush (v := 20) dX0_plugged_13 (by decide) ?_
    obtain ⟨r6, hq8, h⟩ := zbj_some h
    refine ez_callS (Y' := YX0_isIn) (vs := [.int b1, .int (0 : Int32), .int (20 : Int32)]) (rest := []) dX0_plugged_15 rfl zkX0_isIn q306 q307 q52 znX0_isIn (Nat.le_of_ble_eq_true rfl) (Nat.le_of_ble_eq_true rfl) rfl (wX0_isIn (d := d + 8) hq8 (zBack_v ?_))
    show zEF G (d + 9) [] YX0_plugged 18 [some (.ref a0), some (.int b0), some (.int b1), none] [.int r6] g4 Q
    refine ez_if_ne (tgt := 24) dX0_plugged_18 (by decide) (fun hc => ?_) (fun hc => ?_)
    · replace h := zif_f hc h
      refine ez_iload_n (i := 2) (x := b1) dX0_plugged_24 rfl rfl ?_
      refine ez_iconst (v := 3) dX0_plugged_25 (by decide) ?_
      refine ez_icmp_ge (tgt := 72) dX0_plugged_26 (by decide) (fun hc => ?_) (fun hc => ?_)
      · replace h := zif_t hc h
        refine ez_aload_n (i := 0) (v := .ref a0) dX0_plugged_72 rfl rfl rfl ?_
        obtain ⟨a9, hx10, h⟩ := zbj_some h
        refine gX0_49 dX0_plugged_73 rfl (zgN_some hx10) ?_
        show zEF G (d + 9) [] YX0_plugged 76 [some (.ref a0), some (.int b0), some (.int b1), none] [.ref a9] g4 Q
        refine ez_iload_n (i := 1) (x := b0) dX0_plugged_76 rfl rfl ?_
        obtain ⟨a11, hx12, h⟩ := zbj_some h
        refine lX_aa8 dX0_plugged_77 (zaN_some hx12) ?_
        show zEF G (d + 9) [] YX0_plugged 78 [some (.ref a0), some (.int b0), some (.int b1), none] [.ref a11] g4 Q
        refine ez_iload_n (i := 2) (x := b1) dX0_plugged_78 rfl rfl ?_
        obtain ⟨r13, g14, hq15, h⟩ := zbd_some h
        refine ez_callS (Y' := YX0_ofEcho) (vs := [.ref a11, .int b1]) (rest := []) dX0_plugged_79 rfl zkX0_ofEcho q638 q639 q52 znX0_ofEcho (Nat.le_of_ble_eq_true rfl) (Nat.le_of_ble_eq_true rfl) rfl (wX0_ofEcho (d := d + 0) hq15 ?_)
        rcases r13 with v16 | X17
        · replace h := zsm_l h
          refine zBack_v ?_
          show zEF G (d + 9) [] YX0_plugged 82 [some (.ref a0), some (.int b0), some (.int b1), none] [.int v16] g14 Q
          obtain rfl := Option.some.inj h
          exact ez_iret dX0_plugged_82 rfl rfl kq
        · replace h := zsm_r h
          refine zBack_t ?_
          by_cases he23 : X17 = zAIO
          · replace h := zif_t he23 h
            rw [he23]
            refine zTH_catch (h := 97) (Or.inr ⟨by decide, by decide, "java/lang/ClassCastException", q337, Or.inl ⟨nc_36, Or.inr ⟨by decide, by decide, "java/lang/NullPointerException", q572, Or.inl ⟨nc_46, Or.inr ⟨by decide, by decide, "java/lang/ArrayIndexOutOfBoundsException", q351, Or.inr ⟨q366, rfl⟩⟩⟩⟩⟩⟩) ?_
            refine ez_astore_n (i := 3) dX0_plugged_97 rfl (show 3 < 4 by decide) rfl ?_
            show zEF G (d + 9) [] YX0_plugged 98 [some (.ref a0), some (.int b0), some (.int b1), some (.ref (g14.sz - 1))] [] g14 Q
            refine ez_aload_n (i := 0) (v := .ref a0) dX0_plugged_98 rfl rfl rfl ?_
            refine ez_iconst (v := 2) dX0_plugged_99 (by decide) ?_
            obtain ⟨ob18, hx19, h⟩ := zbj_some h
            obtain ⟨r20, g21, hq22, h⟩ := zbd_some h
            refine ez_callV (C := RX0) (Tt := TX0) (N := 20) (Y' := YX0_met) (a := a0) (vs := [.int (2 : Int32)]) (rest := []) dX0_plugged_100 rfl zkX0_met q329 q331 rfl slX0_met (zob1 hx19) znX0_met (Nat.le_of_ble_eq_true rfl) (Nat.le_of_ble_eq_true rfl) rfl (wX0_met (d := d + 8) hq22 (zBack_v ?_))
            show zEF G (d + 9) [] YX0_plugged 103 [some (.ref a0), some (.int b0), some (.int b1), some (.ref (g14.sz - 1))] [.int r20] g21 Q
            obtain rfl := Option.some.inj h
            exact ez_iret dX0_plugged_103 rfl rfl kq
          · replace h := zif_f he23 h
            by_cases he29 : X17 = zCCE
            · replace h := zif_t he29 h
              rw [he29]
              refine zTH_catch (h := 83) (Or.inr ⟨by decide, by decide, "java/lang/ClassCastException", q337, Or.inr ⟨q349, rfl⟩⟩) ?_
              refine ez_astore_n (i := 3) dX0_plugged_83 rfl (show 3 < 4 by decide) rfl ?_
              show zEF G (d + 9) [] YX0_plugged 84 [some (.ref a0), some (.int b0), some (.int b1), some (.ref (g14.sz - 1))] [] g14 Q
              refine ez_aload_n (i := 0) (v := .ref a0) dX0_plugged_84 rfl rfl rfl ?_
              refine ez_iconst (v := 3) dX0_plugged_85 (by decide) ?_
              obtain ⟨ob24, hx25, h⟩ := zbj_some h
              obtain ⟨r26, g27, hq28, h⟩ := zbd_some h
              refine ez_callV (C := RX0) (Tt := TX0) (N := 20) (Y' := YX0_met) (a := a0) (vs := [.int (3 : Int32)]) (rest := []) dX0_plugged_86 rfl zkX0_met q329 q331 rfl slX0_met (zob1 hx25) znX0_met (Nat.le_of_ble_eq_true rfl) (Nat.le_of_ble_eq_true rfl) rfl (wX0_met (d := d + 8) hq28 (zBack_v ?_))
              show zEF G (d + 9) [] YX0_plugged 89 [some (.ref a0), some (.int b0), some (.int b1), some (.ref (g14.sz - 1))] [.int r26] g27 Q
              obtain rfl := Option.some.inj h
              exact ez_iret dX0_plugged_89 rfl rfl kq
            · replace h := zif_f he29 h
              by_cases he35 : X17 = zNPE
              · replace h := zif_t he35 h
                rw [he35]
                refine zTH_catch (h := 90) (Or.inr ⟨by decide, by decide, "java/lang/ClassCastException", q337, Or.inl ⟨nc_40, Or.inr ⟨by decide, by decide, "java/lang/NullPointerException", q572, Or.inr ⟨q594, rfl⟩⟩⟩⟩) ?_
                refine ez_astore_n (i := 3) dX0_plugged_90 rfl (show 3 < 4 by decide) rfl ?_
                show zEF G (d + 9) [] YX0_plugged 91 [some (.ref a0), some (.int b0), some (.int b1), some (.ref (g14.sz - 1))] [] g14 Q
                refine ez_aload_n (i := 0) (v := .ref a0) dX0_plugged_91 rfl rfl rfl ?_
                refine ez_iconst (v := 1) dX0_plugged_92 (by decide) ?_
                obtain ⟨ob30, hx31, h⟩ := zbj_some h
                obtain ⟨r32, g33, hq34, h⟩ := zbd_some h
                refine ez_callV (C := RX0) (Tt := TX0) (N := 20) (Y' := YX0_met) (a := a0) (vs := [.int (1 : Int32)]) (rest := []) dX0_plugged_93 rfl zkX0_met q329 q331 rfl slX0_met (zob1 hx31) znX0_met (Nat.le_of_ble_eq_true rfl) (Nat.le_of_ble_eq_true rfl) rfl (wX0_met (d := d + 8) hq34 (zBack_v ?_))
                show zEF G (d + 9) [] YX0_plugged 96 [some (.ref a0), some (.int b0), some (.int b1), some (.ref (g14.sz - 1))] [.int r32] g33 Q
                obtain rfl := Option.some.inj h
                exact ez_iret dX0_plugged_96 rfl rfl kq
              · replace h := zif_f he35 h
                cases h
      · replace h := zif_f hc h
        refine ez_iload_n (i := 2) (x := b1) dX0_plugged_29 rfl rfl ?_
        refine ez_if_ne (tgt := 45) dX0_plugged_30 (by decide) (fun hc => ?_) (fun hc => ?_)
        · replace h := zif_f hc h
          refine ez_iload_n (i := 2) (x := b1) dX0_plugged_45 rfl rfl ?_
          refine ez_iconst (v := 1) dX0_plugged_46 (by decide) ?_
          refine ez_icmp_ne (tgt := 62) dX0_plugged_47 (by decide) (fun hc => ?_) (fun hc => ?_)
          · replace h := zif_f hc h
            refine ez_aload_n (i := 0) (v := .ref a0) dX0_plugged_62 rfl rfl rfl ?_
            obtain ⟨a36, hx37, h⟩ := zbj_some h
            refine gX0_49 dX0_plugged_63 rfl (zgN_some hx37) ?_
            show zEF G (d + 9) [] YX0_plugged 66 [some (.ref a0), some (.int b0), some (.int b1), none] [.ref a36] g4 Q
            refine ez_iload_n (i := 1) (x := b0) dX0_plugged_66 rfl rfl ?_
            obtain ⟨a38, hx39, h⟩ := zbj_some h
            refine lX_aa8 dX0_plugged_67 (zaN_some hx39) ?_
            show zEF G (d + 9) [] YX0_plugged 68 [some (.ref a0), some (.int b0), some (.int b1), none] [.ref a38] g4 Q
            obtain ⟨ob40, hx41, h⟩ := zbj_some h
            obtain ⟨r42, g43, hq44, h⟩ := zbd_some h
            refine vw_uses_ScoreThreads (a := a38) (d := d + 8) (rest := []) dX0_plugged_68 rfl hx41 (Nat.le_of_ble_eq_true rfl) hq44 (zBack_v ?_)
            show zEF G (d + 9) [] YX0_plugged 71 [some (.ref a0), some (.int b0), some (.int b1), none] [.int r42] g43 Q
            obtain rfl := Option.some.inj h
            exact ez_iret dX0_plugged_71 rfl rfl kq
          · replace h := zif_t hc h
            refine ez_aload_n (i := 0) (v := .ref a0) dX0_plugged_50 rfl rfl rfl ?_
            obtain ⟨a45, hx46, h⟩ := zbj_some h
            refine gX0_49 dX0_plugged_51 rfl (zgN_some hx46) ?_
            show zEF G (d + 9) [] YX0_plugged 54 [some (.ref a0), some (.int b0), some (.int b1), none] [.ref a45] g4 Q
            refine ez_iload_n (i := 1) (x := b0) dX0_plugged_54 rfl rfl ?_
            obtain ⟨a47, hx48, h⟩ := zbj_some h
            refine lX_aa8 dX0_plugged_55 (zaN_some hx48) ?_
            show zEF G (d + 9) [] YX0_plugged 56 [some (.ref a0), some (.int b0), some (.int b1), none] [.ref a47] g4 Q
            obtain ⟨ob49, hx50, h⟩ := zbj_some h
            obtain ⟨r51, g52, hq53, h⟩ := zbd_some h
            refine vw_tail_ScoreThreads (a := a47) (d := d + 6) (rest := []) dX0_plugged_56 rfl hx50 (Nat.le_of_ble_eq_true rfl) hq53 (zBack_v ?_)
            show zEF G (d + 9) [] YX0_plugged 59 [some (.ref a0), some (.int b0), some (.int b1), none] [.int r51] g52 Q
            refine ez_goto (tgt := 71) dX0_plugged_59 (by decide) ?_
            obtain rfl := Option.some.inj h
            exact ez_iret dX0_plugged_71 rfl rfl kq
        · replace h := zif_t hc h
          refine ez_aload_n (i := 0) (v := .ref a0) dX0_plugged_33 rfl rfl rfl ?_
          obtain ⟨a54, hx55, h⟩ := zbj_some h
          refine gX0_49 dX0_plugged_34 rfl (zgN_some hx55) ?_
          show zEF G (d + 9) [] YX0_plugged 37 [some (.ref a0), some (.int b0), some (.int b1), none] [.ref a54] g4 Q
          refine ez_iload_n (i := 1) (x := b0) dX0_plugged_37 rfl rfl ?_
          obtain ⟨a56, hx57, h⟩ := zbj_some h
          refine lX_aa8 dX0_plugged_38 (zaN_some hx57) ?_
          show zEF G (d + 9) [] YX0_plugged 39 [some (.ref a0), some (.int b0), some (.int b1), none] [.ref a56] g4 Q
          obtain ⟨i58, hx59, h⟩ := zbj_some h
          refine gX0_160 dX0_plugged_39 rfl hx59 ?_
          refine ez_goto (tgt := 71) dX0_plugged_42 (by decide) ?_
          obtain rfl := Option.some.inj h
          exact ez_iret dX0_plugged_71 rfl rfl kq
    · replace h := zif_t hc h
      refine ez_bipush (v := -102) dX0_plugged_21 (by decide) ?_
      obtain rfl := Option.some.inj h
      exact ez_iret dX0_plugged_23 rfl rfl kq
  · replace h := zif_t hc h
    refine ez_bipush (v := -101) dX0_plugged_8 (by decide) ?_
    obtain rfl := Option.some.inj h
    exact ez_iret dX0_plugged_10 rfl rfl kq
def YX0_change : zM := (yX0_change, cX0_change, 7, (Option.none : Option Jvm.ClassFile.FieldType), [], false)
theorem zkX0_change : zMok YX0_change := ⟨rfl, q673, by decide +kernel, by decide +kernel⟩
theorem znX0_change : (parseMethodDescriptor YX0_change.nm.desc).map (fun d => d.parameters.length) = some 5 := by decide +kernel
theorem slX0_change : Cond.selects RX0 yX0_change yX0_change ∈ lw_all := lw_w 9 rfl rfl
noncomputable def fX0_change (g : zS) (a0 : Nat) (b0 : Int32) (b1 : Int32) (b2 : Int32) (b3 : Int32) (b4 : Int32) : Option ((Unit ⊕ String) × zS) := if b0 = (0 : Int32) then zbj (zgN g [0] a0 4) (fun a1 => zbj (zaN g 9 a1 b1) (fun a3 => zbj (zpV g [1] a3 1 (.int b2)) (fun g5 => zbj (zgN g5 [0] a0 4) (fun a7 => zbj (zaN g5 9 a7 b1) (fun a9 => zbj (zpV g5 [1] a9 2 (.int b3)) (fun g11 => zbj (zgN g11 [0] a0 4) (fun a13 => zbj (zaN g11 9 a13 b1) (fun a15 => zgd (zbl b4) (zbj (zpV g11 [1] a15 3 (.int b4)) (fun g18 => some (.inl (), g18))))))))))) else if b0 = (1 : Int32) then zbj (zgN g [0] a0 4) (fun a20 => zbj (zaN g 9 a20 b1) (fun a22 => zgd (zbl b4) (zbj (zpV g [1] a22 5 (.int b4)) (fun g25 => zbj (zgN g25 [0] a0 4) (fun a27 => zbj (zaN g25 9 a27 b1) (fun a29 => if b4 = 0 then zgd (¬ (4 : Int32) < 0 ∧ 1 ≤ g25.rc ∧ (4 : Int32).toNatClampNeg ≤ g25.rs ∧ (4 : Int32).toNatClampNeg * 4 ≤ 536870912) (zlet (znew g25 (.inl (8, (4 : Int32).toNatClampNeg, .inr (.inr (.inr (.inr fun _ => none))))) (4 : Int32).toNatClampNeg) (fun g32 => zbj (zpV g32 [1] a29 6 (va_rf (some g25.sz))) (fun g33 => some (.inl (), g33)))) else zgd (¬ (4 : Int32) < 0 ∧ 1 ≤ g25.rc ∧ (4 : Int32).toNatClampNeg ≤ g25.rs ∧ (4 : Int32).toNatClampNeg * 4 ≤ 536870912) (zlet (znew g25 (.inl (10, (4 : Int32).toNatClampNeg, .inr (.inr (.inr (.inr fun _ => none))))) (4 : Int32).toNatClampNeg) (fun g36 => zbj (zpV g36 [1] a29 6 (va_rf (some g25.sz))) (fun g37 => some (.inl (), g37)))))))))) else if b0 = (2 : Int32) then zbj (zgN g [0] a0 4) (fun a39 => zbj (zaN g 9 a39 b1) (fun a41 => zbj (zgN g [1] a41 6) (fun a43 => if b3 = (-1 : Int32) then zbj (zstC g a43 b2 none) (fun r54 => zsm r54 (fun g56 => some (.inl (), g56)) (fun X58 => zgd (3 ≤ g.rc ∧ 300 ≤ g.rs) (some (.inr X58, zxg g)))) else zbj (zgN g [0] a0 2) (fun a45 => zbj (zaN g 8 a45 b3) (fun a47 => zbj (zstC g a43 b2 (some a47)) (fun r49 => zsm r49 (fun g51 => some (.inl (), g51)) (fun X53 => zgd (3 ≤ g.rc ∧ 300 ≤ g.rs) (some (.inr X53, zxg g))))))))) else if b0 = (3 : Int32) then zbj (zgN g [0] a0 4) (fun a59 => zbj (zaN g 9 a59 b1) (fun a61 => zgd (vn_sni2f b2 = false) (zbj (zpV g [1] a61 4 (.float (b2.toUInt32))) (fun g64 => some (.inl (), g64))))) else if b0 = (4 : Int32) then zbj (zgN g [0] a0 4) (fun a66 => zbj (zaN g 9 a66 b1) (fun a68 => zgd (zbl b4) (zbj (zpV g [1] a68 0 (.int b4)) (fun g71 => some (.inl (), g71))))) else zbj (zgN g [0] a0 2) (fun a73 => zbj (zaN g 8 a73 b1) (fun a75 => zbj (zob g [4, 5, 6, 7, 8, 9, 10, 11] a75) (fun ob77 => if ob77.1 = 8 ∨ ob77.1 = 9 then if b2 = (-1 : Int32) then zbj (zpV g [8, 9] a75 4 (va_rf none)) (fun g87 => zbj (zpV g87 [8, 9] a75 5 (.int (0 : Int32))) (fun g89 => some (.inl (), g89))) else if b2 < 0 then zgd (3 ≤ g.rc ∧ 300 ≤ g.rs) (some (.inr zNAS, (zxg g))) else zgd (1 ≤ g.rc ∧ b2.toNatClampNeg ≤ g.rs ∧ b2.toNatClampNeg * 8 ≤ 536870912) (zlet (znew g (.inl (1, za0 1 b2.toNatClampNeg)) b2.toNatClampNeg) (fun g82 => zbj (zpV g82 [8, 9] a75 4 (va_rf (some g.sz))) (fun g83 => zbj (zpV g83 [8, 9] a75 5 (.int (0 : Int32))) (fun g85 => some (.inl (), g85))))) else zgd (3 ≤ g.rc ∧ 300 ≤ g.rs) (some (.inr zCCE, (zxg g))))))
theorem wX0_change {G : zG} {d : Nat} {K : List Nat} {Q : zO → zS → Prop} {g : zS} {a0 : Nat} {b0 : Int32} {b1 : Int32} {b2 : Int32} {b3 : Int32} {b4 : Int32} {p : (Unit ⊕ String) × zS} (h : fX0_change g a0 b0 b1 b2 b3 b4 = some p) (kq : Q (zoV p.1 p.2) p.2) : zEM G (d + 8) K YX0_change [.ref a0, .int b0, .int b1, .int b2, .int b3, .int b4] g Q := by
  show zEF G (d + 8) K YX0_change 0 [some (.ref a0), some (.int b0), some (.int b1), some (.int b2), some (.int b3), some (.int b4), none] [] g Q
  unfold fX0_change at h
  refine ez_iload_n (i := 1) (x := b0) dX0_change_0 rfl rfl ?_
  by_cases hs0 : b0 = (0 : Int32)
  · replace h := zif_t hs0 h
    refine ez_tableIn (tgt := 36) (off := 35) dX0_change_1 (by rw [hs0]; decide) (by rw [hs0]; decide) (by rw [hs0]; rfl) (by decide) ?_
    refine ez_aload_n (i := 0) (v := .ref a0) dX0_change_36 rfl rfl rfl ?_
    obtain ⟨a1, hx2, h⟩ := zbj_some h
    refine gX0_55 dX0_change_37 rfl (zgN_some hx2) ?_
    show zEF G (d + 8) K YX0_change 40 [some (.ref a0), some (.int b0), some (.int b1), some (.int b2), some (.int b3), some (.int b4), none] [.ref a1] g Q
    refine ez_iload_n (i := 2) (x := b1) dX0_change_40 rfl rfl ?_
    obtain ⟨a3, hx4, h⟩ := zbj_some h
    refine lX_aa9 dX0_change_41 (zaN_some hx4) ?_
    show zEF G (d + 8) K YX0_change 42 [some (.ref a0), some (.int b0), some (.int b1), some (.int b2), some (.int b3), some (.int b4), none] [.ref a3] g Q
    refine ez_iload_n (i := 3) (x := b2) dX0_change_42 rfl rfl ?_
    obtain ⟨g5, hx6, h⟩ := zbj_some h
    refine pX0_192 (x := b2) dX0_change_43 rfl hx6 ?_
    refine ez_aload_n (i := 0) (v := .ref a0) dX0_change_46 rfl rfl rfl ?_
    obtain ⟨a7, hx8, h⟩ := zbj_some h
    refine gX0_55 dX0_change_47 rfl (zgN_some hx8) ?_
    show zEF G (d + 8) K YX0_change 50 [some (.ref a0), some (.int b0), some (.int b1), some (.int b2), some (.int b3), some (.int b4), none] [.ref a7] g5 Q
    refine ez_iload_n (i := 2) (x := b1) dX0_change_50 rfl rfl ?_
    obtain ⟨a9, hx10, h⟩ := zbj_some h
    refine lX_aa9 dX0_change_51 (zaN_some hx10) ?_
    show zEF G (d + 8) K YX0_change 52 [some (.ref a0), some (.int b0), some (.int b1), some (.int b2), some (.int b3), some (.int b4), none] [.ref a9] g5 Q
    refine ez_iload (i := 4) (x := b3) dX0_change_52 rfl ?_
    obtain ⟨g11, hx12, h⟩ := zbj_some h
    refine pX0_195 (x := b3) dX0_change_54 rfl hx12 ?_
    refine ez_aload_n (i := 0) (v := .ref a0) dX0_change_57 rfl rfl rfl ?_
    obtain ⟨a13, hx14, h⟩ := zbj_some h
    refine gX0_55 dX0_change_58 rfl (zgN_some hx14) ?_
    show zEF G (d + 8) K YX0_change 61 [some (.ref a0), some (.int b0), some (.int b1), some (.int b2), some (.int b3), some (.int b4), none] [.ref a13] g11 Q
    refine ez_iload_n (i := 2) (x := b1) dX0_change_61 rfl rfl ?_
    obtain ⟨a15, hx16, h⟩ := zbj_some h
    refine lX_aa9 dX0_change_62 (zaN_some hx16) ?_
    show zEF G (d + 8) K YX0_change 63 [some (.ref a0), some (.int b0), some (.int b1), some (.int b2), some (.int b3), some (.int b4), none] [.ref a15] g11 Q
    refine ez_iload (i := 5) (x := b4) dX0_change_63 rfl ?_
    obtain ⟨hg17, h⟩ := zgd_some h
    obtain ⟨g18, hx19, h⟩ := zbj_some h
    refine pX0_198 (x := b4) dX0_change_65 rfl hg17 hx19 ?_
    refine ez_goto (tgt := 205) dX0_change_68 (by decide) ?_
    obtain rfl := Option.some.inj h
    exact ez_vret dX0_change_205 rfl kq
  · replace h := zif_f hs0 h
    by_cases hs1 : b0 = (1 : Int32)
    · replace h := zif_t hs1 h
      refine ez_tableIn (tgt := 71) (off := 70) dX0_change_1 (by rw [hs1]; decide) (by rw [hs1]; decide) (by rw [hs1]; rfl) (by decide) ?_
      refine ez_aload_n (i := 0) (v := .ref a0) dX0_change_71 rfl rfl rfl ?_
      obtain ⟨a20, hx21, h⟩ := zbj_some h
      refine gX0_55 dX0_change_72 rfl (zgN_some hx21) ?_
      show zEF G (d + 8) K YX0_change 75 [some (.ref a0), some (.int b0), some (.int b1), some (.int b2), some (.int b3), some (.int b4), none] [.ref a20] g Q
      refine ez_iload_n (i := 2) (x := b1) dX0_change_75 rfl rfl ?_
      obtain ⟨a22, hx23, h⟩ := zbj_some h
      refine lX_aa9 dX0_change_76 (zaN_some hx23) ?_
      show zEF G (d + 8) K YX0_change 77 [some (.ref a0), some (.int b0), some (.int b1), some (.int b2), some (.int b3), some (.int b4), none] [.ref a22] g Q
      refine ez_iload (i := 5) (x := b4) dX0_change_77 rfl ?_
      obtain ⟨hg24, h⟩ := zgd_some h
      obtain ⟨g25, hx26, h⟩ := zbj_some h
      refine pX0_201 (x := b4) dX0_change_79 rfl hg24 hx26 ?_
      refine ez_aload_n (i := 0) (v := .ref a0) dX0_change_82 rfl rfl rfl ?_
      obtain ⟨a27, hx28, h⟩ := zbj_some h
      refine gX0_55 dX0_change_83 rfl (zgN_some hx28) ?_
      show zEF G (d + 8) K YX0_change 86 [some (.ref a0), some (.int b0), some (.int b1), some (.int b2), some (.int b3), some (.int b4), none] [.ref a27] g25 Q
      refine ez_iload_n (i := 2) (x := b1) dX0_change_86 rfl rfl ?_
      obtain ⟨a29, hx30, h⟩ := zbj_some h
      refine lX_aa9 dX0_change_87 (zaN_some hx30) ?_
      show zEF G (d + 8) K YX0_change 88 [some (.ref a0), some (.int b0), some (.int b1), some (.int b2), some (.int b3), some (.int b4), none] [.ref a29] g25 Q
      refine ez_iload (i := 5) (x := b4) dX0_change_88 rfl ?_
      refine ez_if_eq (tgt := 100) dX0_change_90 (by decide) (fun hc => ?_) (fun hc => ?_)
      · replace h := zif_t hc h
        refine ez_iconst (v := 4) dX0_change_100 (by decide) ?_
        obtain ⟨hg31, h⟩ := zgd_some h
        refine ez_anew 8 (by decide) (by decide) dX0_change_101 rfl rfl q91 q92 hg31.1 rfl hg31.2.2.2 hg31.2.1 hg31.2.2.1 ?_
        refine zlet_use (fun g32 => zEF G (d + 8) K YX0_change 104 [some (.ref a0), some (.int b0), some (.int b1), some (.int b2), some (.int b3), some (.int b4), none] [.ref g25.sz, .ref a29] g32 Q) h (fun g32 h => ?_)
        obtain ⟨g33, hx34, h⟩ := zbj_some h
        refine pX0_204 (x := (some g25.sz)) dX0_change_104 rfl hx34 ?_
        refine ez_goto (tgt := 205) dX0_change_107 (by decide) ?_
        obtain rfl := Option.some.inj h
        exact ez_vret dX0_change_205 rfl kq
      · replace h := zif_f hc h
        refine ez_iconst (v := 4) dX0_change_93 (by decide) ?_
        obtain ⟨hg35, h⟩ := zgd_some h
        refine ez_anew 10 (by decide) (by decide) dX0_change_94 rfl rfl q443 q674 hg35.1 rfl hg35.2.2.2 hg35.2.1 hg35.2.2.1 ?_
        refine zlet_use (fun g36 => zEF G (d + 8) K YX0_change 97 [some (.ref a0), some (.int b0), some (.int b1), some (.int b2), some (.int b3), some (.int b4), none] [.ref g25.sz, .ref a29] g36 Q) h (fun g36 h => ?_)
        refine ez_goto (tgt := 104) dX0_change_97 (by decide) ?_
        obtain ⟨g37, hx38, h⟩ := zbj_some h
        refine pX0_204 (x := (some g25.sz)) dX0_change_104 rfl hx38 ?_
        refine ez_goto (tgt := 205) dX0_change_107 (by decide) ?_
        obtain rfl := Option.some.inj h
        exact ez_vret dX0_change_205 rfl kq
    · replace h := zif_f hs1 h
      by_cases hs2 : b0 = (2 : Int32)
      · replace h := zif_t hs2 h
        refine ez_tableIn (tgt := 110) (off := 109) dX0_change_1 (by rw [hs2]; decide) (by rw [hs2]; decide) (by rw [hs2]; rfl) (by decide) ?_
        refine ez_aload_n (i := 0) (v := .ref a0) dX0_change_110 rfl rfl rfl ?_
        obtain ⟨a39, hx40, h⟩ := zbj_some h
        refine gX0_55 dX0_change_111 rfl (zgN_some hx40) ?_
        show zEF G (d + 8) K YX0_change 114 [some (.ref a0), some (.int b0), some (.int b1), some (.int b2), some (.int b3), some (.int b4), none] [.ref a39] g Q
        refine ez_iload_n (i := 2) (x := b1) dX0_change_114 rfl rfl ?_
        obtain ⟨a41, hx42, h⟩ := zbj_some h
        refine lX_aa9 dX0_change_115 (zaN_some hx42) ?_
        show zEF G (d + 8) K YX0_change 116 [some (.ref a0), some (.int b0), some (.int b1), some (.int b2), some (.int b3), some (.int b4), none] [.ref a41] g Q
        obtain ⟨a43, hx44, h⟩ := zbj_some h
        refine gX0_204 dX0_change_116 rfl (zgN_some hx44) ?_
        show zEF G (d + 8) K YX0_change 119 [some (.ref a0), some (.int b0), some (.int b1), some (.int b2), some (.int b3), some (.int b4), none] [.ref a43] g Q
        refine ez_iload_n (i := 3) (x := b2) dX0_change_119 rfl rfl ?_
        refine ez_iload (i := 4) (x := b3) dX0_change_120 rfl ?_
        refine ez_iconst (v := -1) dX0_change_122 (by decide) ?_
        refine ez_icmp_ne (tgt := 130) dX0_change_123 (by decide) (fun hc => ?_) (fun hc => ?_)
        · replace h := zif_f hc h
          refine ez_aload_n (i := 0) (v := .ref a0) dX0_change_130 rfl rfl rfl ?_
          obtain ⟨a45, hx46, h⟩ := zbj_some h
          refine gX0_49 dX0_change_131 rfl (zgN_some hx46) ?_
          show zEF G (d + 8) K YX0_change 134 [some (.ref a0), some (.int b0), some (.int b1), some (.int b2), some (.int b3), some (.int b4), none] [.ref a45, .int b2, .ref a43] g Q
          refine ez_iload (i := 4) (x := b3) dX0_change_134 rfl ?_
          obtain ⟨a47, hx48, h⟩ := zbj_some h
          refine lX_aa8 dX0_change_136 (zaN_some hx48) ?_
          show zEF G (d + 8) K YX0_change 137 [some (.ref a0), some (.int b0), some (.int b1), some (.int b2), some (.int b3), some (.int b4), none] [.ref a47, .int b2, .ref a43] g Q
          obtain ⟨r49, hx50, h⟩ := zbj_some h
          rcases r49 with g51 | X53
          · replace h := zsm_l h
            refine sX_stC (i := b2) (x := (some a47)) dX0_change_137 hx50 ?_
            refine ez_goto (tgt := 205) dX0_change_138 (by decide) ?_
            obtain rfl := Option.some.inj h
            exact ez_vret dX0_change_205 rfl kq
          · replace h := zsm_r h
            obtain ⟨hr52, h⟩ := zgd_some h
            obtain rfl := Option.some.inj h
            exact eX_stC (i := b2) (x := (some a47)) dX0_change_137 hx50 (Nat.le_of_ble_eq_true rfl) hr52.1 hr52.2 (zTH_out (fun x hx => by cases hx) kq)
        · replace h := zif_t hc h
          refine ez_null dX0_change_126 ?_
          refine ez_goto (tgt := 137) dX0_change_127 (by decide) ?_
          obtain ⟨r54, hx55, h⟩ := zbj_some h
          rcases r54 with g56 | X58
          · replace h := zsm_l h
            refine sX_stC (i := b2) (x := none) dX0_change_137 hx55 ?_
            refine ez_goto (tgt := 205) dX0_change_138 (by decide) ?_
            obtain rfl := Option.some.inj h
            exact ez_vret dX0_change_205 rfl kq
          · replace h := zsm_r h
            obtain ⟨hr57, h⟩ := zgd_some h
            obtain rfl := Option.some.inj h
            exact eX_stC (i := b2) (x := none) dX0_change_137 hx55 (Nat.le_of_ble_eq_true rfl) hr57.1 hr57.2 (zTH_out (fun x hx => by cases hx) kq)
      · replace h := zif_f hs2 h
        by_cases hs3 : b0 = (3 : Int32)
        · replace h := zif_t hs3 h
          refine ez_tableIn (tgt := 141) (off := 140) dX0_change_1 (by rw [hs3]; decide) (by rw [hs3]; decide) (by rw [hs3]; rfl) (by decide) ?_
          refine ez_aload_n (i := 0) (v := .ref a0) dX0_change_141 rfl rfl rfl ?_
          obtain ⟨a59, hx60, h⟩ := zbj_some h
          refine gX0_55 dX0_change_142 rfl (zgN_some hx60) ?_
          show zEF G (d + 8) K YX0_change 145 [some (.ref a0), some (.int b0), some (.int b1), some (.int b2), some (.int b3), some (.int b4), none] [.ref a59] g Q
          refine ez_iload_n (i := 2) (x := b1) dX0_change_145 rfl rfl ?_
          obtain ⟨a61, hx62, h⟩ := zbj_some h
          refine lX_aa9 dX0_change_146 (zaN_some hx62) ?_
          show zEF G (d + 8) K YX0_change 147 [some (.ref a0), some (.int b0), some (.int b1), some (.int b2), some (.int b3), some (.int b4), none] [.ref a61] g Q
          refine ez_iload_n (i := 3) (x := b2) dX0_change_147 rfl rfl ?_
          obtain ⟨hg63, h⟩ := zgd_some h
          refine ez_raw2f dX0_change_148 rfl q434 q391 q390 q65 (Nat.le_of_ble_eq_true rfl) hg63 ?_
          obtain ⟨g64, hx65, h⟩ := zbj_some h
          refine pX0_207 (x := (b2.toUInt32)) dX0_change_151 rfl hx65 ?_
          refine ez_goto (tgt := 205) dX0_change_154 (by decide) ?_
          obtain rfl := Option.some.inj h
          exact ez_vret dX0_change_205 rfl kq
        · replace h := zif_f hs3 h
          by_cases hs4 : b0 = (4 : Int32)
          · replace h := zif_t hs4 h
            refine ez_tableIn (tgt := 157) (off := 156) dX0_change_1 (by rw [hs4]; decide) (by rw [hs4]; decide) (by rw [hs4]; rfl) (by decide) ?_
            refine ez_aload_n (i := 0) (v := .ref a0) dX0_change_157 rfl rfl rfl ?_
            obtain ⟨a66, hx67, h⟩ := zbj_some h
            refine gX0_55 dX0_change_158 rfl (zgN_some hx67) ?_
            show zEF G (d + 8) K YX0_change 161 [some (.ref a0), some (.int b0), some (.int b1), some (.int b2), some (.int b3), some (.int b4), none] [.ref a66] g Q
            refine ez_iload_n (i := 2) (x := b1) dX0_change_161 rfl rfl ?_
            obtain ⟨a68, hx69, h⟩ := zbj_some h
            refine lX_aa9 dX0_change_162 (zaN_some hx69) ?_
            show zEF G (d + 8) K YX0_change 163 [some (.ref a0), some (.int b0), some (.int b1), some (.int b2), some (.int b3), some (.int b4), none] [.ref a68] g Q
            refine ez_iload (i := 5) (x := b4) dX0_change_163 rfl ?_
            obtain ⟨hg70, h⟩ := zgd_some h
            obtain ⟨g71, hx72, h⟩ := zbj_some h
            refine pX0_211 (x := b4) dX0_change_165 rfl hg70 hx72 ?_
            refine ez_goto (tgt := 205) dX0_change_168 (by decide) ?_
            obtain rfl := Option.some.inj h
            exact ez_vret dX0_change_205 rfl kq
          · replace h := zif_f hs4 h
            have he0 : b0.toInt ≠ 0 := zsw_ne hs0
            have he1 : b0.toInt ≠ 1 := zsw_ne hs1
            have he2 : b0.toInt ≠ 2 := zsw_ne hs2
            have he3 : b0.toInt ≠ 3 := zsw_ne hs3
            have he4 : b0.toInt ≠ 4 := zsw_ne hs4
            refine ez_tableOut (tgt := 171) dX0_change_1 (by omega) (by decide) ?_
            refine ez_aload_n (i := 0) (v := .ref a0) dX0_change_171 rfl rfl rfl ?_
            obtain ⟨a73, hx74, h⟩ := zbj_some h
            refine gX0_49 dX0_change_172 rfl (zgN_some hx74) ?_
            show zEF G (d + 8) K YX0_change 175 [some (.ref a0), some (.int b0), some (.int b1), some (.int b2), some (.int b3), some (.int b4), none] [.ref a73] g Q
            refine ez_iload_n (i := 2) (x := b1) dX0_change_175 rfl rfl ?_
            obtain ⟨a75, hx76, h⟩ := zbj_some h
            refine lX_aa8 dX0_change_176 (zaN_some hx76) ?_
            show zEF G (d + 8) K YX0_change 177 [some (.ref a0), some (.int b0), some (.int b1), some (.int b2), some (.int b3), some (.int b4), none] [.ref a75] g Q
            obtain ⟨ob77, hx78, h⟩ := zbj_some h
            by_cases hc : ob77.1 = 8 ∨ ob77.1 = 9
            · replace h := zif_t hc h
              refine cX_echo dX0_change_177 rfl hx78 hc ?_
              refine ez_astore (i := 6) dX0_change_180 (show 6 < 7 by decide) rfl ?_
              show zEF G (d + 8) K YX0_change 182 [some (.ref a0), some (.int b0), some (.int b1), some (.int b2), some (.int b3), some (.int b4), some (.ref a75)] [] g Q
              refine ez_aload (i := 6) (v := .ref a75) dX0_change_182 rfl rfl ?_
              refine ez_iload_n (i := 3) (x := b2) dX0_change_184 rfl rfl ?_
              refine ez_iconst (v := -1) dX0_change_185 (by decide) ?_
              refine ez_icmp_ne (tgt := 193) dX0_change_186 (by decide) (fun hc => ?_) (fun hc => ?_)
              · replace h := zif_f hc h
                refine ez_iload_n (i := 3) (x := b2) dX0_change_193 rfl rfl ?_
                by_cases hc : b2 < 0
                · replace h := zif_t hc h
                  obtain ⟨hr80, h⟩ := zgd_some h
                  refine ex_newa (n := b2) dX0_change_194 hc (Nat.le_of_ble_eq_true rfl) hr80.1 hr80.2 ?_
                  obtain rfl := Option.some.inj h
                  exact zTH_out (fun x hx => by cases hx) kq
                · replace h := zif_f hc h
                  obtain ⟨hr81, h⟩ := zgd_some h
                  refine ez_newa 1 (by decide) dX0_change_194 rfl q153 hc rfl hr81.2.2 hr81.1 hr81.2.1 ?_
                  refine zlet_use (fun g82 => zEF G (d + 8) K YX0_change 196 [some (.ref a0), some (.int b0), some (.int b1), some (.int b2), some (.int b3), some (.int b4), some (.ref a75)] [.ref g.sz, .ref a75] g82 Q) h (fun g82 h => ?_)
                  obtain ⟨g83, hx84, h⟩ := zbj_some h
                  refine pX0_154 (x := (some g.sz)) dX0_change_196 rfl hx84 ?_
                  refine ez_aload (i := 6) (v := .ref a75) dX0_change_199 rfl rfl ?_
                  refine ez_iconst (v := 0) dX0_change_201 (by decide) ?_
                  obtain ⟨g85, hx86, h⟩ := zbj_some h
                  refine pX0_151 (x := (0 : Int32)) dX0_change_202 rfl hx86 ?_
                  obtain rfl := Option.some.inj h
                  exact ez_vret dX0_change_205 rfl kq
              · replace h := zif_t hc h
                refine ez_null dX0_change_189 ?_
                refine ez_goto (tgt := 196) dX0_change_190 (by decide) ?_
                obtain ⟨g87, hx88, h⟩ := zbj_some h
                refine pX0_154 (x := none) dX0_change_196 rfl hx88 ?_
                refine ez_aload (i := 6) (v := .ref a75) dX0_change_199 rfl rfl ?_
                refine ez_iconst (v := 0) dX0_change_201 (by decide) ?_
                obtain ⟨g89, hx90, h⟩ := zbj_some h
                refine pX0_151 (x := (0 : Int32)) dX0_change_202 rfl hx90 ?_
                obtain rfl := Option.some.inj h
                exact ez_vret dX0_change_205 rfl kq
            · replace h := zif_f hc h
              obtain ⟨hr79, h⟩ := zgd_some h
              refine eX_echo dX0_change_177 rfl hx78 hc (Nat.le_of_ble_eq_true rfl) hr79.1 hr79.2 ?_
              obtain rfl := Option.some.inj h
              exact zTH_out (fun x hx => by cases hx) kq
def YX0_does : zM := (yX0_does, cX0_does, 8, (Option.some Jvm.ClassFile.FieldType.int), [(3, 14, 17, 121), (3, 14, 25, 187), (3, 14, 33, 119), (3, 14, 41, 94)], false)
theorem zkX0_does : zMok YX0_does := ⟨rfl, q655, by decide +kernel, by decide +kernel⟩
theorem znX0_does : (parseMethodDescriptor YX0_does.nm.desc).map (fun d => d.parameters.length) = some 5 := by decide +kernel
theorem slX0_does : Cond.selects RX0 yX0_does yX0_does ∈ lw_all := lw_w 8 rfl rfl
noncomputable def fX0_does (g : zS) (a0 : Nat) (b0 : Int32) (b1 : Int32) (b2 : Int32) (b3 : Int32) (b4 : Int32) : Option (Int32 × zS) := zjoin (fun (g1 : zS) (v2 : Nat) (v3 : Int32) => if v3 = 0 then zbj (zgI g1 [0] v2 19) (fun i10 => zbj (zpV g1 [0] v2 19 (.int (i10 + (1 : Int32)))) (fun g12 => some (v3, g12))) else zbj (zgN g1 [0] v2 14) (fun a4 => zbj (zaI g1 0 a4 v3) (fun e6 => zbj (zsI g1 0 a4 v3 (e6 + (1 : Int32))) (fun g8 => some (v3, g8))))) (fun j14 => zbj (zob g [0] a0) (fun ob15 => zbd (fX0_change g a0 b0 b1 b2 b3 b4) (fun r17 g18 => zsm r17 (fun _ => j14 g18 a0 (0 : Int32)) (fun X21 => if X21 = zAIO then j14 g18 a0 (2 : Int32) else if X21 = zASE then j14 g18 a0 (4 : Int32) else if X21 = zCCE then j14 g18 a0 (3 : Int32) else if X21 = zNAS then j14 g18 a0 (5 : Int32) else none))))
theorem wX0_does {G : zG} {d : Nat} {K : List Nat} {Q : zO → zS → Prop} {g : zS} {a0 : Nat} {b0 : Int32} {b1 : Int32} {b2 : Int32} {b3 : Int32} {b4 : Int32} {p : Int32 × zS} (h : fX0_does g a0 b0 b1 b2 b3 b4 = some p) (kq : Q (.inl (some (.int p.1))) p.2) : zEM G (d + 9) K YX0_does [.ref a0, .int b0, .int b1, .int b2, .int b3, .int b4] g Q := by
  show zEF G (d + 9) K YX0_does 0 [some (.ref a0), some (.int b0), some (.int b1), some (.int b2), some (.int b3), some (.int b4), none, none] [] g Q
  unfold fX0_does at h
  refine ez_iconst (v := 0) dX0_does_0 (by decide) ?_
  refine ez_istore (i := 6) dX0_does_1 (show 6 < 8 by decide) ?_
  show zEF G (d + 9) K YX0_does 3 [some (.ref a0), some (.int b0), some (.int b1), some (.int b2), some (.int b3), some (.int b4), some (.int (0 : Int32)), none] [] g Q
  refine ez_aload_n (i := 0) (v := .ref a0) dX0_does_3 rfl rfl rfl ?_
  refine ez_iload_n (i := 1) (x := b0) dX0_does_4 rfl rfl ?_
  refine ez_iload_n (i := 2) (x := b1) dX0_does_5 rfl rfl ?_
  refine ez_iload_n (i := 3) (x := b2) dX0_does_6 rfl rfl ?_
  refine ez_iload (i := 4) (x := b3) dX0_does_7 rfl ?_
  refine ez_iload (i := 5) (x := b4) dX0_does_9 rfl ?_
  refine zjoin_use (fun (j : zS → Nat → Int32 → Option (Int32 × zS)) => ∀ (g1 : zS) (v2 : Nat) (v3 : Int32), j g1 v2 v3 = some p → zEF G (d + 9) K YX0_does 46 [some (.ref v2), none, none, none, none, none, some (.int v3), none] [] g1 Q) h (fun g1 v2 v3 h => ?_) (fun j14 hj14 h => ?_)
  · refine ez_iload (i := 6) (x := v3) dX0_does_46 rfl ?_
    refine ez_if_ne (tgt := 64) dX0_does_48 (by decide) (fun hc => ?_) (fun hc => ?_)
    · replace h := zif_f hc h
      refine ez_aload_n (i := 0) (v := .ref v2) dX0_does_64 rfl rfl rfl ?_
      obtain ⟨a4, hx5, h⟩ := zbj_some h
      refine gX0_71 dX0_does_65 rfl (zgN_some hx5) ?_
      show zEF G (d + 9) K YX0_does 68 [some (.ref v2), none, none, none, none, none, some (.int v3), none] [.ref a4] g1 Q
      refine ez_iload (i := 6) (x := v3) dX0_does_68 rfl ?_
      refine ez_dup2 dX0_does_70 rfl rfl ?_
      obtain ⟨e6, hx7, h⟩ := zbj_some h
      refine lX_ia dX0_does_71 hx7 ?_
      refine ez_iconst (v := 1) dX0_does_72 (by decide) ?_
      refine ez_iadd dX0_does_73 ?_
      obtain ⟨g8, hx9, h⟩ := zbj_some h
      refine sX_ia dX0_does_74 hx9 ?_
      refine ez_iload (i := 6) (x := v3) dX0_does_75 rfl ?_
      obtain rfl := Option.some.inj h
      exact ez_iret dX0_does_77 rfl rfl kq
    · replace h := zif_t hc h
      refine ez_aload_n (i := 0) (v := .ref v2) dX0_does_51 rfl rfl rfl ?_
      refine ez_dup dX0_does_52 rfl ?_
      obtain ⟨i10, hx11, h⟩ := zbj_some h
      refine gX0_189 dX0_does_53 rfl hx11 ?_
      refine ez_iconst (v := 1) dX0_does_56 (by decide) ?_
      refine ez_iadd dX0_does_57 ?_
      obtain ⟨g12, hx13, h⟩ := zbj_some h
      refine pX0_189 (x := (i10 + (1 : Int32))) dX0_does_58 rfl hx13 ?_
      refine ez_goto (tgt := 75) dX0_does_61 (by decide) ?_
      refine ez_iload (i := 6) (x := v3) dX0_does_75 rfl ?_
      obtain rfl := Option.some.inj h
      exact ez_iret dX0_does_77 rfl rfl kq
  · obtain ⟨ob15, hx16, h⟩ := zbj_some h
    obtain ⟨r17, g18, hq19, h⟩ := zbd_some h
    refine ez_callV (C := RX0) (Tt := TX0) (N := 20) (Y' := YX0_change) (a := a0) (vs := [.int b0, .int b1, .int b2, .int b3, .int b4]) (rest := []) dX0_does_11 rfl zkX0_change q670 q672 rfl slX0_change (zob1 hx16) znX0_change (Nat.le_of_ble_eq_true rfl) (Nat.le_of_ble_eq_true rfl) rfl (wX0_change (d := d + 0) hq19 ?_)
    rcases r17 with v20 | X21
    · replace h := zsm_l h
      refine zBack_n ?_
      show zEF G (d + 9) K YX0_does 14 [some (.ref a0), some (.int b0), some (.int b1), some (.int b2), some (.int b3), some (.int b4), some (.int (0 : Int32)), none] [] g18 Q
      refine ez_goto (tgt := 46) dX0_does_14 (by decide) ?_
      refine ez_clr 1 ?_
      refine ez_clr 2 ?_
      refine ez_clr 3 ?_
      refine ez_clr 4 ?_
      refine ez_clr 5 ?_
      exact hj14 g18 a0 (0 : Int32) h
    · replace h := zsm_r h
      refine zBack_t ?_
      by_cases he22 : X21 = zAIO
      · replace h := zif_t he22 h
        rw [he22]
        refine zTH_catch (h := 17) (Or.inr ⟨by decide, by decide, "java/lang/ArrayIndexOutOfBoundsException", q351, Or.inr ⟨q366, rfl⟩⟩) ?_
        refine ez_astore (i := 7) dX0_does_17 (show 7 < 8 by decide) rfl ?_
        show zEF G (d + 9) K YX0_does 19 [some (.ref a0), some (.int b0), some (.int b1), some (.int b2), some (.int b3), some (.int b4), some (.int (0 : Int32)), some (.ref (g18.sz - 1))] [] g18 Q
        refine ez_iconst (v := 2) dX0_does_19 (by decide) ?_
        refine ez_istore (i := 6) dX0_does_20 (show 6 < 8 by decide) ?_
        show zEF G (d + 9) K YX0_does 22 [some (.ref a0), some (.int b0), some (.int b1), some (.int b2), some (.int b3), some (.int b4), some (.int (2 : Int32)), some (.ref (g18.sz - 1))] [] g18 Q
        refine ez_goto (tgt := 46) dX0_does_22 (by decide) ?_
        refine ez_clr 1 ?_
        refine ez_clr 2 ?_
        refine ez_clr 3 ?_
        refine ez_clr 4 ?_
        refine ez_clr 5 ?_
        refine ez_clr 7 ?_
        exact hj14 g18 a0 (2 : Int32) h
      · replace h := zif_f he22 h
        by_cases he23 : X21 = zASE
        · replace h := zif_t he23 h
          rw [he23]
          refine zTH_catch (h := 25) (Or.inr ⟨by decide, by decide, "java/lang/ArrayIndexOutOfBoundsException", q351, Or.inl ⟨nc_39, Or.inr ⟨by decide, by decide, "java/lang/ArrayStoreException", q656, Or.inr ⟨q668, rfl⟩⟩⟩⟩) ?_
          refine ez_astore (i := 7) dX0_does_25 (show 7 < 8 by decide) rfl ?_
          show zEF G (d + 9) K YX0_does 27 [some (.ref a0), some (.int b0), some (.int b1), some (.int b2), some (.int b3), some (.int b4), some (.int (0 : Int32)), some (.ref (g18.sz - 1))] [] g18 Q
          refine ez_iconst (v := 4) dX0_does_27 (by decide) ?_
          refine ez_istore (i := 6) dX0_does_28 (show 6 < 8 by decide) ?_
          show zEF G (d + 9) K YX0_does 30 [some (.ref a0), some (.int b0), some (.int b1), some (.int b2), some (.int b3), some (.int b4), some (.int (4 : Int32)), some (.ref (g18.sz - 1))] [] g18 Q
          refine ez_goto (tgt := 46) dX0_does_30 (by decide) ?_
          refine ez_clr 1 ?_
          refine ez_clr 2 ?_
          refine ez_clr 3 ?_
          refine ez_clr 4 ?_
          refine ez_clr 5 ?_
          refine ez_clr 7 ?_
          exact hj14 g18 a0 (4 : Int32) h
        · replace h := zif_f he23 h
          by_cases he24 : X21 = zCCE
          · replace h := zif_t he24 h
            rw [he24]
            refine zTH_catch (h := 33) (Or.inr ⟨by decide, by decide, "java/lang/ArrayIndexOutOfBoundsException", q351, Or.inl ⟨nc_37, Or.inr ⟨by decide, by decide, "java/lang/ArrayStoreException", q656, Or.inl ⟨nc_52, Or.inr ⟨by decide, by decide, "java/lang/ClassCastException", q337, Or.inr ⟨q349, rfl⟩⟩⟩⟩⟩⟩) ?_
            refine ez_astore (i := 7) dX0_does_33 (show 7 < 8 by decide) rfl ?_
            show zEF G (d + 9) K YX0_does 35 [some (.ref a0), some (.int b0), some (.int b1), some (.int b2), some (.int b3), some (.int b4), some (.int (0 : Int32)), some (.ref (g18.sz - 1))] [] g18 Q
            refine ez_iconst (v := 3) dX0_does_35 (by decide) ?_
            refine ez_istore (i := 6) dX0_does_36 (show 6 < 8 by decide) ?_
            show zEF G (d + 9) K YX0_does 38 [some (.ref a0), some (.int b0), some (.int b1), some (.int b2), some (.int b3), some (.int b4), some (.int (3 : Int32)), some (.ref (g18.sz - 1))] [] g18 Q
            refine ez_goto (tgt := 46) dX0_does_38 (by decide) ?_
            refine ez_clr 1 ?_
            refine ez_clr 2 ?_
            refine ez_clr 3 ?_
            refine ez_clr 4 ?_
            refine ez_clr 5 ?_
            refine ez_clr 7 ?_
            exact hj14 g18 a0 (3 : Int32) h
          · replace h := zif_f he24 h
            by_cases he25 : X21 = zNAS
            · replace h := zif_t he25 h
              rw [he25]
              refine zTH_catch (h := 41) (Or.inr ⟨by decide, by decide, "java/lang/ArrayIndexOutOfBoundsException", q351, Or.inl ⟨nc_43, Or.inr ⟨by decide, by decide, "java/lang/ArrayStoreException", q656, Or.inl ⟨nc_54, Or.inr ⟨by decide, by decide, "java/lang/ClassCastException", q337, Or.inl ⟨nc_42, Or.inr ⟨by decide, by decide, "java/lang/NegativeArraySizeException", q219, Or.inr ⟨q283, rfl⟩⟩⟩⟩⟩⟩⟩⟩) ?_
              refine ez_astore (i := 7) dX0_does_41 (show 7 < 8 by decide) rfl ?_
              show zEF G (d + 9) K YX0_does 43 [some (.ref a0), some (.int b0), some (.int b1), some (.int b2), some (.int b3), some (.int b4), some (.int (0 : Int32)), some (.ref (g18.sz - 1))] [] g18 Q
              refine ez_iconst (v := 5) dX0_does_43 (by decide) ?_
              refine ez_istore (i := 6) dX0_does_44 (show 6 < 8 by decide) ?_
              show zEF G (d + 9) K YX0_does 46 [some (.ref a0), some (.int b0), some (.int b1), some (.int b2), some (.int b3), some (.int b4), some (.int (5 : Int32)), some (.ref (g18.sz - 1))] [] g18 Q
              refine ez_clr 1 ?_
              refine ez_clr 2 ?_
              refine ez_clr 3 ?_
              refine ez_clr 4 ?_
              refine ez_clr 5 ?_
              refine ez_clr 7 ?_
              exact hj14 g18 a0 (5 : Int32) h
            · replace h := zif_f he25 h
              cases h
def YX0_edit : zM := (yX0_edit, cX0_edit, 7, (Option.some Jvm.ClassFile.FieldType.int), [], false)
theorem zkX0_edit : zMok YX0_edit := ⟨rfl, q651, by decide +kernel, by decide +kernel⟩
theorem znX0_edit : (parseMethodDescriptor YX0_edit.nm.desc).map (fun d => d.parameters.length) = some 5 := by decide +kernel
theorem slX0_edit : Cond.selects RX0 yX0_edit yX0_edit ∈ lw_all := lw_w 7 rfl rfl
noncomputable def fX0_edit (g : zS) (a0 : Nat) (b0 : Int32) (b1 : Int32) (b2 : Int32) (b3 : Int32) (b4 : Int32) : Option (Int32 × zS) := zbj (zgI g [0] a0 7) (fun i1 => if i1 = 0 then zbj (zob g [0] a0) (fun ob45 => zbd (fX0_does g a0 b0 b1 b2 b3 b4) (fun r47 g48 => if r47 = 0 then some ((1 : Int32), g48) else some (((-10 : Int32) - r47), g48))) else zbj (zgI g [0] a0 18) (fun i3 => if i3 = (30 : Int32) then some ((-104 : Int32), g) else zbj (zgN g [0] a0 17) (fun a5 => zbj (zgI g [0] a0 18) (fun i7 => zbj (zsI g 0 a5 ((5 : Int32) * i7) b0) (fun g9 => zbj (zgN g9 [0] a0 17) (fun a11 => zbj (zgI g9 [0] a0 18) (fun i13 => zbj (zsI g9 0 a11 (((5 : Int32) * i13) + (1 : Int32)) b1) (fun g15 => zbj (zgN g15 [0] a0 17) (fun a17 => zbj (zgI g15 [0] a0 18) (fun i19 => zbj (zsI g15 0 a17 (((5 : Int32) * i19) + (2 : Int32)) b2) (fun g21 => zbj (zgN g21 [0] a0 17) (fun a23 => zbj (zgI g21 [0] a0 18) (fun i25 => zbj (zsI g21 0 a23 (((5 : Int32) * i25) + (3 : Int32)) b3) (fun g27 => zbj (zgN g27 [0] a0 17) (fun a29 => zbj (zgI g27 [0] a0 18) (fun i31 => zjoin (fun (g33 : zS) (v34 : Nat) (v35 : Int32) (v36 : Int32) (v37 : Nat) => zbj (zsI g33 0 v37 v36 v35) (fun g38 => zbj (zgI g38 [0] v34 18) (fun i40 => zbj (zpV g38 [0] v34 18 (.int (i40 + (1 : Int32)))) (fun g42 => some ((0 : Int32), g42))))) (fun j44 => if b4 = 0 then j44 g27 a0 (0 : Int32) (((5 : Int32) * i31) + (4 : Int32)) a29 else j44 g27 a0 (1 : Int32) (((5 : Int32) * i31) + (4 : Int32)) a29)))))))))))))))))
theorem wX0_edit {G : zG} {d : Nat} {K : List Nat} {Q : zO → zS → Prop} {g : zS} {a0 : Nat} {b0 : Int32} {b1 : Int32} {b2 : Int32} {b3 : Int32} {b4 : Int32} {p : Int32 × zS} (h : fX0_edit g a0 b0 b1 b2 b3 b4 = some p) (kq : Q (.inl (some (.int p.1))) p.2) : zEM G (d + 10) K YX0_edit [.ref a0, .int b0, .int b1, .int b2, .int b3, .int b4] g Q := by
  show zEF G (d + 10) K YX0_edit 0 [some (.ref a0), some (.int b0), some (.int b1), some (.int b2), some (.int b3), some (.int b4), none] [] g Q
  unfold fX0_edit at h
  refine ez_aload_n (i := 0) (v := .ref a0) dX0_edit_0 rfl rfl rfl ?_
  obtain ⟨i1, hx2, h⟩ := zbj_some h
  refine gX0_111 dX0_edit_1 rfl hx2 ?_
  refine ez_if_ne (tgt := 35) dX0_edit_4 (by decide) (fun hc => ?_) (fun hc => ?_)
  · replace h := zif_f hc h
    refine ez_aload_n (i := 0) (v := .ref a0) dX0_edit_35 rfl rfl rfl ?_
    obtain ⟨i3, hx4, h⟩ := zbj_some h
    refine gX0_180 dX0_edit_36 rfl hx4 ?_
    refine ez_bipush (v := 30) dX0_edit_39 (by decide) ?_
    refine ez_icmp_ne (tgt := 47) dX0_edit_41 (by decide) (fun hc => ?_) (fun hc => ?_)
    · replace h := zif_f hc h
      refine ez_aload_n (i := 0) (v := .ref a0) dX0_edit_47 rfl rfl rfl ?_
      obtain ⟨a5, hx6, h⟩ := zbj_some h
      refine gX0_77 dX0_edit_48 rfl (zgN_some hx6) ?_
      show zEF G (d + 10) K YX0_edit 51 [some (.ref a0), some (.int b0), some (.int b1), some (.int b2), some (.int b3), some (.int b4), none] [.ref a5] g Q
      refine ez_iconst (v := 5) dX0_edit_51 (by decide) ?_
      refine ez_aload_n (i := 0) (v := .ref a0) dX0_edit_52 rfl rfl rfl ?_
      obtain ⟨i7, hx8, h⟩ := zbj_some h
      refine gX0_180 dX0_edit_53 rfl hx8 ?_
      refine ez_imul dX0_edit_56 ?_
      refine ez_iload_n (i := 1) (x := b0) dX0_edit_57 rfl rfl ?_
      obtain ⟨g9, hx10, h⟩ := zbj_some h
      refine sX_ia dX0_edit_58 hx10 ?_
      refine ez_aload_n (i := 0) (v := .ref a0) dX0_edit_59 rfl rfl rfl ?_
      obtain ⟨a11, hx12, h⟩ := zbj_some h
      refine gX0_77 dX0_edit_60 rfl (zgN_some hx12) ?_
      show zEF G (d + 10) K YX0_edit 63 [some (.ref a0), some (.int b0), some (.int b1), some (.int b2), some (.int b3), some (.int b4), none] [.ref a11] g9 Q
      refine ez_iconst (v := 5) dX0_edit_63 (by decide) ?_
      refine ez_aload_n (i := 0) (v := .ref a0) dX0_edit_64 rfl rfl rfl ?_
      obtain ⟨i13, hx14, h⟩ := zbj_some h
      refine gX0_180 dX0_edit_65 rfl hx14 ?_
      refine ez_imul dX0_edit_68 ?_
      refine ez_iconst (v := 1) dX0_edit_69 (by decide) ?_
      refine ez_iadd dX0_edit_70 ?_
      refine ez_iload_n (i := 2) (x := b1) dX0_edit_71 rfl rfl ?_
      obtain ⟨g15, hx16, h⟩ := zbj_some h
      refine sX_ia dX0_edit_72 hx16 ?_
      refine ez_aload_n (i := 0) (v := .ref a0) dX0_edit_73 rfl rfl rfl ?_
      obtain ⟨a17, hx18, h⟩ := zbj_some h
      refine gX0_77 dX0_edit_74 rfl (zgN_some hx18) ?_
      show zEF G (d + 10) K YX0_edit 77 [some (.ref a0), some (.int b0), some (.int b1), some (.int b2), some (.int b3), some (.int b4), none] [.ref a17] g15 Q
      refine ez_iconst (v := 5) dX0_edit_77 (by decide) ?_
      refine ez_aload_n (i := 0) (v := .ref a0) dX0_edit_78 rfl rfl rfl ?_
      obtain ⟨i19, hx20, h⟩ := zbj_some h
      refine gX0_180 dX0_edit_79 rfl hx20 ?_
      refine ez_imul dX0_edit_82 ?_
      refine ez_iconst (v := 2) dX0_edit_83 (by decide) ?_
      refine ez_iadd dX0_edit_84 ?_
      refine ez_iload_n (i := 3) (x := b2) dX0_edit_85 rfl rfl ?_
      obtain ⟨g21, hx22, h⟩ := zbj_some h
      refine sX_ia dX0_edit_86 hx22 ?_
      refine ez_aload_n (i := 0) (v := .ref a0) dX0_edit_87 rfl rfl rfl ?_
      obtain ⟨a23, hx24, h⟩ := zbj_some h
      refine gX0_77 dX0_edit_88 rfl (zgN_some hx24) ?_
      show zEF G (d + 10) K YX0_edit 91 [some (.ref a0), some (.int b0), some (.int b1), some (.int b2), some (.int b3), some (.int b4), none] [.ref a23] g21 Q
      refine ez_iconst (v := 5) dX0_edit_91 (by decide) ?_
      refine ez_aload_n (i := 0) (v := .ref a0) dX0_edit_92 rfl rfl rfl ?_
      obtain ⟨i25, hx26, h⟩ := zbj_some h
      refine gX0_180 dX0_edit_93 rfl hx26 ?_
      refine ez_imul dX0_edit_96 ?_
      refine ez_iconst (v := 3) dX0_edit_97 (by decide) ?_
      refine ez_iadd dX0_edit_98 ?_
      refine ez_iload (i := 4) (x := b3) dX0_edit_99 rfl ?_
      obtain ⟨g27, hx28, h⟩ := zbj_some h
      refine sX_ia dX0_edit_101 hx28 ?_
      refine ez_aload_n (i := 0) (v := .ref a0) dX0_edit_102 rfl rfl rfl ?_
      obtain ⟨a29, hx30, h⟩ := zbj_some h
      refine gX0_77 dX0_edit_103 rfl (zgN_some hx30) ?_
      show zEF G (d + 10) K YX0_edit 106 [some (.ref a0), some (.int b0), some (.int b1), some (.int b2), some (.int b3), some (.int b4), none] [.ref a29] g27 Q
      refine ez_iconst (v := 5) dX0_edit_106 (by decide) ?_
      refine ez_aload_n (i := 0) (v := .ref a0) dX0_edit_107 rfl rfl rfl ?_
      obtain ⟨i31, hx32, h⟩ := zbj_some h
      refine gX0_180 dX0_edit_108 rfl hx32 ?_
      refine ez_imul dX0_edit_111 ?_
      refine ez_iconst (v := 4) dX0_edit_112 (by decide) ?_
      refine ez_iadd dX0_edit_113 ?_
      refine ez_iload (i := 5) (x := b4) dX0_edit_114 rfl ?_
      refine zjoin_use (fun (j : zS → Nat → Int32 → Int32 → Nat → Option (Int32 × zS)) => ∀ (g33 : zS) (v34 : Nat) (v35 : Int32) (v36 : Int32) (v37 : Nat), j g33 v34 v35 v36 v37 = some p → zEF G (d + 10) K YX0_edit 124 [some (.ref v34), none, none, none, none, none, none] [.int v35, .int v36, .ref v37] g33 Q) h (fun g33 v34 v35 v36 v37 h => ?_) (fun j44 hj44 h => ?_)
      · obtain ⟨g38, hx39, h⟩ := zbj_some h
        refine sX_ia dX0_edit_124 hx39 ?_
        refine ez_aload_n (i := 0) (v := .ref v34) dX0_edit_125 rfl rfl rfl ?_
        refine ez_dup dX0_edit_126 rfl ?_
        obtain ⟨i40, hx41, h⟩ := zbj_some h
        refine gX0_180 dX0_edit_127 rfl hx41 ?_
        refine ez_iconst (v := 1) dX0_edit_130 (by decide) ?_
        refine ez_iadd dX0_edit_131 ?_
        obtain ⟨g42, hx43, h⟩ := zbj_some h
        refine pX0_180 (x := (i40 + (1 : Int32))) dX0_edit_132 rfl hx43 ?_
        refine ez_iconst (v := 0) dX0_edit_135 (by decide) ?_
        obtain rfl := Option.some.inj h
        exact ez_iret dX0_edit_136 rfl rfl kq
      · refine ez_if_eq (tgt := 123) dX0_edit_116 (by decide) (fun hc => ?_) (fun hc => ?_)
        · replace h := zif_t hc h
          refine ez_iconst (v := 0) dX0_edit_123 (by decide) ?_
          refine ez_clr 1 ?_
          refine ez_clr 2 ?_
          refine ez_clr 3 ?_
          refine ez_clr 4 ?_
          refine ez_clr 5 ?_
          exact hj44 g27 a0 (0 : Int32) (((5 : Int32) * i31) + (4 : Int32)) a29 h
        · replace h := zif_f hc h
          refine ez_iconst (v := 1) dX0_edit_119 (by decide) ?_
          refine ez_goto (tgt := 124) dX0_edit_120 (by decide) ?_
          refine ez_clr 1 ?_
          refine ez_clr 2 ?_
          refine ez_clr 3 ?_
          refine ez_clr 4 ?_
          refine ez_clr 5 ?_
          exact hj44 g27 a0 (1 : Int32) (((5 : Int32) * i31) + (4 : Int32)) a29 h
    · replace h := zif_t hc h
      refine ez_bipush (v := -104) dX0_edit_44 (by decide) ?_
      obtain rfl := Option.some.inj h
      exact ez_iret dX0_edit_46 rfl rfl kq
  · replace h := zif_t hc h
    refine ez_aload_n (i := 0) (v := .ref a0) dX0_edit_7 rfl rfl rfl ?_
    refine ez_iload_n (i := 1) (x := b0) dX0_edit_8 rfl rfl ?_
    refine ez_iload_n (i := 2) (x := b1) dX0_edit_9 rfl rfl ?_
    refine ez_iload_n (i := 3) (x := b2) dX0_edit_10 rfl rfl ?_
    refine ez_iload (i := 4) (x := b3) dX0_edit_11 rfl ?_
    refine ez_iload (i := 5) (x := b4) dX0_edit_13 rfl ?_
    obtain ⟨ob45, hx46, h⟩ := zbj_some h
    obtain ⟨r47, g48, hq49, h⟩ := zbd_some h
    refine ez_callV (C := RX0) (Tt := TX0) (N := 20) (Y' := YX0_does) (a := a0) (vs := [.int b0, .int b1, .int b2, .int b3, .int b4]) (rest := []) dX0_edit_15 rfl zkX0_does q652 q654 rfl slX0_does (zob1 hx46) znX0_does (Nat.le_of_ble_eq_true rfl) (Nat.le_of_ble_eq_true rfl) rfl (wX0_does (d := d + 0) hq49 (zBack_v ?_))
    show zEF G (d + 10) K YX0_edit 18 [some (.ref a0), some (.int b0), some (.int b1), some (.int b2), some (.int b3), some (.int b4), none] [.int r47] g48 Q
    refine ez_istore (i := 6) dX0_edit_18 (show 6 < 7 by decide) ?_
    show zEF G (d + 10) K YX0_edit 20 [some (.ref a0), some (.int b0), some (.int b1), some (.int b2), some (.int b3), some (.int b4), some (.int r47)] [] g48 Q
    refine ez_iload (i := 6) (x := r47) dX0_edit_20 rfl ?_
    refine ez_if_ne (tgt := 29) dX0_edit_22 (by decide) (fun hc => ?_) (fun hc => ?_)
    · replace h := zif_f hc h
      refine ez_bipush (v := -10) dX0_edit_29 (by decide) ?_
      refine ez_iload (i := 6) (x := r47) dX0_edit_31 rfl ?_
      refine ez_isub dX0_edit_33 ?_
      obtain rfl := Option.some.inj h
      exact ez_iret dX0_edit_34 rfl rfl kq
    · replace h := zif_t hc h
      refine ez_iconst (v := 1) dX0_edit_25 (by decide) ?_
      refine ez_goto (tgt := 34) dX0_edit_26 (by decide) ?_
      obtain rfl := Option.some.inj h
      exact ez_iret dX0_edit_34 rfl rfl kq
def YX0_track : zM := (yX0_track, cX0_track, 5, (Option.some Jvm.ClassFile.FieldType.int), [], false)
theorem zkX0_track : zMok YX0_track := ⟨rfl, q644, by decide +kernel, by decide +kernel⟩
theorem znX0_track : (parseMethodDescriptor YX0_track.nm.desc).map (fun d => d.parameters.length) = some 4 := by decide +kernel
noncomputable def fX0_track (g : zS) (a0 : Nat) (b0 : Int32) (b1 : Int32) (b2 : Int32) (b3 : Int32) : Option (Int32 × zS) := zbj (fX0_isTrack b0) (fun r1 => if r1 = 0 then some ((-101 : Int32), g) else zjoin (fun (g4 : zS) (v5 : Nat) (v6 : Int32) (v7 : Int32) (v8 : Int32) (v9 : Int32) => zbj (zob g4 [0] v5) (fun ob10 => zbd (fX0_edit g4 v5 (0 : Int32) v6 v7 v8 v9) (fun r12 g13 => some (r12, g13)))) (fun j15 => if b1 = (-1 : Int32) then j15 g a0 b0 b1 b2 b3 else zbj (zob g [0] a0) (fun ob16 => zbd (fX0_isClip g a0 b1) (fun r18 g19 => if r18 = 0 then some ((-101 : Int32), g19) else j15 g19 a0 b0 b1 b2 b3))))
theorem wX0_track {G : zG} {d : Nat} {K : List Nat} {Q : zO → zS → Prop} {g : zS} {a0 : Nat} {b0 : Int32} {b1 : Int32} {b2 : Int32} {b3 : Int32} {p : Int32 × zS} (h : fX0_track g a0 b0 b1 b2 b3 = some p) (kq : Q (.inl (some (.int p.1))) p.2) : zEM G (d + 11) K YX0_track [.ref a0, .int b0, .int b1, .int b2, .int b3] g Q := by
  show zEF G (d + 11) K YX0_track 0 [some (.ref a0), some (.int b0), some (.int b1), some (.int b2), some (.int b3)] [] g Q
  unfold fX0_track at h
  refine ez_iload_n (i := 1) (x := b0) dX0_track_0 rfl rfl ?_
  obtain ⟨r1, hq3, h⟩ := zbj_some h
  refine ez_callS (Y' := YX0_isTrack) (vs := [.int b0]) (rest := []) dX0_track_1 rfl zkX0_isTrack q645 q646 q52 znX0_isTrack (Nat.le_of_ble_eq_true rfl) (Nat.le_of_ble_eq_true rfl) rfl (wX0_isTrack (d := d + 9) hq3 (zBack_v ?_))
  show zEF G (d + 11) K YX0_track 4 [some (.ref a0), some (.int b0), some (.int b1), some (.int b2), some (.int b3)] [.int r1] g Q
  refine ez_if_eq (tgt := 33) dX0_track_4 (by decide) (fun hc => ?_) (fun hc => ?_)
  · replace h := zif_t hc h
    refine ez_bipush (v := -101) dX0_track_33 (by decide) ?_
    obtain rfl := Option.some.inj h
    exact ez_iret dX0_track_35 rfl rfl kq
  · replace h := zif_f hc h
    refine ez_iload_n (i := 2) (x := b1) dX0_track_7 rfl rfl ?_
    refine ez_iconst (v := -1) dX0_track_8 (by decide) ?_
    refine zjoin_use (fun (j : zS → Nat → Int32 → Int32 → Int32 → Int32 → Option (Int32 × zS)) => ∀ (g4 : zS) (v5 : Nat) (v6 : Int32) (v7 : Int32) (v8 : Int32) (v9 : Int32), j g4 v5 v6 v7 v8 v9 = some p → zEF G (d + 11) K YX0_track 20 [some (.ref v5), some (.int v6), some (.int v7), some (.int v8), some (.int v9)] [] g4 Q) h (fun g4 v5 v6 v7 v8 v9 h => ?_) (fun j15 hj15 h => ?_)
    · refine ez_aload_n (i := 0) (v := .ref v5) dX0_track_20 rfl rfl rfl ?_
      refine ez_iconst (v := 0) dX0_track_21 (by decide) ?_
      refine ez_iload_n (i := 1) (x := v6) dX0_track_22 rfl rfl ?_
      refine ez_iload_n (i := 2) (x := v7) dX0_track_23 rfl rfl ?_
      refine ez_iload_n (i := 3) (x := v8) dX0_track_24 rfl rfl ?_
      refine ez_iload (i := 4) (x := v9) dX0_track_25 rfl ?_
      obtain ⟨ob10, hx11, h⟩ := zbj_some h
      obtain ⟨r12, g13, hq14, h⟩ := zbd_some h
      refine ez_callV (C := RX0) (Tt := TX0) (N := 20) (Y' := YX0_edit) (a := v5) (vs := [.int (0 : Int32), .int v6, .int v7, .int v8, .int v9]) (rest := []) dX0_track_27 rfl zkX0_edit q648 q650 rfl slX0_edit (zob1 hx11) znX0_edit (Nat.le_of_ble_eq_true rfl) (Nat.le_of_ble_eq_true rfl) rfl (wX0_edit (d := d + 0) hq14 (zBack_v ?_))
      show zEF G (d + 11) K YX0_track 30 [some (.ref v5), some (.int v6), some (.int v7), some (.int v8), some (.int v9)] [.int r12] g13 Q
      refine ez_goto (tgt := 35) dX0_track_30 (by decide) ?_
      obtain rfl := Option.some.inj h
      exact ez_iret dX0_track_35 rfl rfl kq
    · refine ez_icmp_eq (tgt := 20) dX0_track_9 (by decide) (fun hc => ?_) (fun hc => ?_)
      · replace h := zif_t hc h
        exact hj15 g a0 b0 b1 b2 b3 h
      · replace h := zif_f hc h
        refine ez_aload_n (i := 0) (v := .ref a0) dX0_track_12 rfl rfl rfl ?_
        refine ez_iload_n (i := 2) (x := b1) dX0_track_13 rfl rfl ?_
        obtain ⟨ob16, hx17, h⟩ := zbj_some h
        obtain ⟨r18, g19, hq20, h⟩ := zbd_some h
        refine ez_callV (C := RX0) (Tt := TX0) (N := 20) (Y' := YX0_isClip) (a := a0) (vs := [.int b1]) (rest := []) dX0_track_14 rfl zkX0_isClip q370 q372 rfl slX0_isClip (zob1 hx17) znX0_isClip (Nat.le_of_ble_eq_true rfl) (Nat.le_of_ble_eq_true rfl) rfl (wX0_isClip (d := d + 9) hq20 (zBack_v ?_))
        show zEF G (d + 11) K YX0_track 17 [some (.ref a0), some (.int b0), some (.int b1), some (.int b2), some (.int b3)] [.int r18] g19 Q
        refine ez_if_eq (tgt := 33) dX0_track_17 (by decide) (fun hc => ?_) (fun hc => ?_)
        · replace h := zif_t hc h
          refine ez_bipush (v := -101) dX0_track_33 (by decide) ?_
          obtain rfl := Option.some.inj h
          exact ez_iret dX0_track_35 rfl rfl kq
        · replace h := zif_f hc h
          exact hj15 g19 a0 b0 b1 b2 b3 h
def YX0_pure : zM := (yX0_pure, cX0_pure, 3, (Option.some Jvm.ClassFile.FieldType.int), [], false)
theorem zkX0_pure : zMok YX0_pure := ⟨rfl, q678, by decide +kernel, by decide +kernel⟩
theorem znX0_pure : (parseMethodDescriptor YX0_pure.nm.desc).map (fun d => d.parameters.length) = some 2 := by decide +kernel
noncomputable def fX0_pure (g : zS) (a0 : Nat) (b0 : Int32) (b1 : Int32) : Option (Int32 × zS) := zbj (fX0_isTrack b0) (fun r1 => if r1 = 0 then some ((-101 : Int32), g) else zbj (zob g [0] a0) (fun ob4 => zbd (fX0_edit g a0 (1 : Int32) b0 (0 : Int32) (0 : Int32) b1) (fun r6 g7 => some (r6, g7))))
theorem wX0_pure {G : zG} {d : Nat} {K : List Nat} {Q : zO → zS → Prop} {g : zS} {a0 : Nat} {b0 : Int32} {b1 : Int32} {p : Int32 × zS} (h : fX0_pure g a0 b0 b1 = some p) (kq : Q (.inl (some (.int p.1))) p.2) : zEM G (d + 11) K YX0_pure [.ref a0, .int b0, .int b1] g Q := by
  show zEF G (d + 11) K YX0_pure 0 [some (.ref a0), some (.int b0), some (.int b1)] [] g Q
  unfold fX0_pure at h
  refine ez_iload_n (i := 1) (x := b0) dX0_pure_0 rfl rfl ?_
  obtain ⟨r1, hq3, h⟩ := zbj_some h
  refine ez_callS (Y' := YX0_isTrack) (vs := [.int b0]) (rest := []) dX0_pure_1 rfl zkX0_isTrack q645 q646 q52 znX0_isTrack (Nat.le_of_ble_eq_true rfl) (Nat.le_of_ble_eq_true rfl) rfl (wX0_isTrack (d := d + 9) hq3 (zBack_v ?_))
  show zEF G (d + 11) K YX0_pure 4 [some (.ref a0), some (.int b0), some (.int b1)] [.int r1] g Q
  refine ez_if_eq (tgt := 19) dX0_pure_4 (by decide) (fun hc => ?_) (fun hc => ?_)
  · replace h := zif_t hc h
    refine ez_bipush (v := -101) dX0_pure_19 (by decide) ?_
    obtain rfl := Option.some.inj h
    exact ez_iret dX0_pure_21 rfl rfl kq
  · replace h := zif_f hc h
    refine ez_aload_n (i := 0) (v := .ref a0) dX0_pure_7 rfl rfl rfl ?_
    refine ez_iconst (v := 1) dX0_pure_8 (by decide) ?_
    refine ez_iload_n (i := 1) (x := b0) dX0_pure_9 rfl rfl ?_
    refine ez_iconst (v := 0) dX0_pure_10 (by decide) ?_
    refine ez_iconst (v := 0) dX0_pure_11 (by decide) ?_
    refine ez_iload_n (i := 2) (x := b1) dX0_pure_12 rfl rfl ?_
    obtain ⟨ob4, hx5, h⟩ := zbj_some h
    obtain ⟨r6, g7, hq8, h⟩ := zbd_some h
    refine ez_callV (C := RX0) (Tt := TX0) (N := 20) (Y' := YX0_edit) (a := a0) (vs := [.int (1 : Int32), .int b0, .int (0 : Int32), .int (0 : Int32), .int b1]) (rest := []) dX0_pure_13 rfl zkX0_edit q648 q650 rfl slX0_edit (zob1 hx5) znX0_edit (Nat.le_of_ble_eq_true rfl) (Nat.le_of_ble_eq_true rfl) rfl (wX0_edit (d := d + 0) hq8 (zBack_v ?_))
    show zEF G (d + 11) K YX0_pure 16 [some (.ref a0), some (.int b0), some (.int b1)] [.int r6] g7 Q
    refine ez_goto (tgt := 21) dX0_pure_16 (by decide) ?_
    obtain rfl := Option.some.inj h
    exact ez_iret dX0_pure_21 rfl rfl kq
def YX0_chain : zM := (yX0_chain, cX0_chain, 4, (Option.some Jvm.ClassFile.FieldType.int), [], false)
theorem zkX0_chain : zMok YX0_chain := ⟨rfl, q682, by decide +kernel, by decide +kernel⟩
theorem znX0_chain : (parseMethodDescriptor YX0_chain.nm.desc).map (fun d => d.parameters.length) = some 3 := by decide +kernel
noncomputable def fX0_chain (g : zS) (a0 : Nat) (b0 : Int32) (b1 : Int32) (b2 : Int32) : Option (Int32 × zS) := zbj (fX0_isTrack b0) (fun r1 => if r1 = 0 then some ((-101 : Int32), g) else zjoin (fun (g4 : zS) (v5 : Nat) (v6 : Int32) (v7 : Int32) (v8 : Int32) => zbj (zob g4 [0] v5) (fun ob9 => zbd (fX0_edit g4 v5 (2 : Int32) v6 v7 v8 (0 : Int32)) (fun r11 g12 => some (r11, g12)))) (fun j14 => if b2 = (-1 : Int32) then j14 g a0 b0 b1 b2 else zbj (zob g [0] a0) (fun ob15 => zbd (fX0_isPlug g a0 b2) (fun r17 g18 => if r17 = 0 then some ((-101 : Int32), g18) else j14 g18 a0 b0 b1 b2))))
theorem wX0_chain {G : zG} {d : Nat} {K : List Nat} {Q : zO → zS → Prop} {g : zS} {a0 : Nat} {b0 : Int32} {b1 : Int32} {b2 : Int32} {p : Int32 × zS} (h : fX0_chain g a0 b0 b1 b2 = some p) (kq : Q (.inl (some (.int p.1))) p.2) : zEM G (d + 11) K YX0_chain [.ref a0, .int b0, .int b1, .int b2] g Q := by
  show zEF G (d + 11) K YX0_chain 0 [some (.ref a0), some (.int b0), some (.int b1), some (.int b2)] [] g Q
  unfold fX0_chain at h
  refine ez_iload_n (i := 1) (x := b0) dX0_chain_0 rfl rfl ?_
  obtain ⟨r1, hq3, h⟩ := zbj_some h
  refine ez_callS (Y' := YX0_isTrack) (vs := [.int b0]) (rest := []) dX0_chain_1 rfl zkX0_isTrack q645 q646 q52 znX0_isTrack (Nat.le_of_ble_eq_true rfl) (Nat.le_of_ble_eq_true rfl) rfl (wX0_isTrack (d := d + 9) hq3 (zBack_v ?_))
  show zEF G (d + 11) K YX0_chain 4 [some (.ref a0), some (.int b0), some (.int b1), some (.int b2)] [.int r1] g Q
  refine ez_if_eq (tgt := 32) dX0_chain_4 (by decide) (fun hc => ?_) (fun hc => ?_)
  · replace h := zif_t hc h
    refine ez_bipush (v := -101) dX0_chain_32 (by decide) ?_
    obtain rfl := Option.some.inj h
    exact ez_iret dX0_chain_34 rfl rfl kq
  · replace h := zif_f hc h
    refine ez_iload_n (i := 3) (x := b2) dX0_chain_7 rfl rfl ?_
    refine ez_iconst (v := -1) dX0_chain_8 (by decide) ?_
    refine zjoin_use (fun (j : zS → Nat → Int32 → Int32 → Int32 → Option (Int32 × zS)) => ∀ (g4 : zS) (v5 : Nat) (v6 : Int32) (v7 : Int32) (v8 : Int32), j g4 v5 v6 v7 v8 = some p → zEF G (d + 11) K YX0_chain 20 [some (.ref v5), some (.int v6), some (.int v7), some (.int v8)] [] g4 Q) h (fun g4 v5 v6 v7 v8 h => ?_) (fun j14 hj14 h => ?_)
    · refine ez_aload_n (i := 0) (v := .ref v5) dX0_chain_20 rfl rfl rfl ?_
      refine ez_iconst (v := 2) dX0_chain_21 (by decide) ?_
      refine ez_iload_n (i := 1) (x := v6) dX0_chain_22 rfl rfl ?_
      refine ez_iload_n (i := 2) (x := v7) dX0_chain_23 rfl rfl ?_
      refine ez_iload_n (i := 3) (x := v8) dX0_chain_24 rfl rfl ?_
      refine ez_iconst (v := 0) dX0_chain_25 (by decide) ?_
      obtain ⟨ob9, hx10, h⟩ := zbj_some h
      obtain ⟨r11, g12, hq13, h⟩ := zbd_some h
      refine ez_callV (C := RX0) (Tt := TX0) (N := 20) (Y' := YX0_edit) (a := v5) (vs := [.int (2 : Int32), .int v6, .int v7, .int v8, .int (0 : Int32)]) (rest := []) dX0_chain_26 rfl zkX0_edit q648 q650 rfl slX0_edit (zob1 hx10) znX0_edit (Nat.le_of_ble_eq_true rfl) (Nat.le_of_ble_eq_true rfl) rfl (wX0_edit (d := d + 0) hq13 (zBack_v ?_))
      show zEF G (d + 11) K YX0_chain 29 [some (.ref v5), some (.int v6), some (.int v7), some (.int v8)] [.int r11] g12 Q
      refine ez_goto (tgt := 34) dX0_chain_29 (by decide) ?_
      obtain rfl := Option.some.inj h
      exact ez_iret dX0_chain_34 rfl rfl kq
    · refine ez_icmp_eq (tgt := 20) dX0_chain_9 (by decide) (fun hc => ?_) (fun hc => ?_)
      · replace h := zif_t hc h
        exact hj14 g a0 b0 b1 b2 h
      · replace h := zif_f hc h
        refine ez_aload_n (i := 0) (v := .ref a0) dX0_chain_12 rfl rfl rfl ?_
        refine ez_iload_n (i := 3) (x := b2) dX0_chain_13 rfl rfl ?_
        obtain ⟨ob15, hx16, h⟩ := zbj_some h
        obtain ⟨r17, g18, hq19, h⟩ := zbd_some h
        refine ez_callV (C := RX0) (Tt := TX0) (N := 20) (Y' := YX0_isPlug) (a := a0) (vs := [.int b2]) (rest := []) dX0_chain_14 rfl zkX0_isPlug q597 q599 rfl slX0_isPlug (zob1 hx16) znX0_isPlug (Nat.le_of_ble_eq_true rfl) (Nat.le_of_ble_eq_true rfl) rfl (wX0_isPlug (d := d + 9) hq19 (zBack_v ?_))
        show zEF G (d + 11) K YX0_chain 17 [some (.ref a0), some (.int b0), some (.int b1), some (.int b2)] [.int r17] g18 Q
        refine ez_if_eq (tgt := 32) dX0_chain_17 (by decide) (fun hc => ?_) (fun hc => ?_)
        · replace h := zif_t hc h
          refine ez_bipush (v := -101) dX0_chain_32 (by decide) ?_
          obtain rfl := Option.some.inj h
          exact ez_iret dX0_chain_34 rfl rfl kq
        · replace h := zif_f hc h
          exact hj14 g18 a0 b0 b1 b2 h
def YX0_level : zM := (yX0_level, cX0_level, 3, (Option.some Jvm.ClassFile.FieldType.int), [], false)
theorem zkX0_level : zMok YX0_level := ⟨rfl, q686, by decide +kernel, by decide +kernel⟩
theorem znX0_level : (parseMethodDescriptor YX0_level.nm.desc).map (fun d => d.parameters.length) = some 2 := by decide +kernel
noncomputable def fX0_level (g : zS) (a0 : Nat) (b0 : Int32) (b1 : Int32) : Option (Int32 × zS) := zbj (fX0_isTrack b0) (fun r1 => if r1 = 0 then some ((-101 : Int32), g) else zbj (fX0_isLevel b1 FP.fconst0) (fun r4 => if r4 = 0 then some ((-102 : Int32), g) else zbj (zob g [0] a0) (fun ob7 => zbd (fX0_edit g a0 (3 : Int32) b0 b1 (0 : Int32) (0 : Int32)) (fun r9 g10 => some (r9, g10)))))
theorem wX0_level {G : zG} {d : Nat} {K : List Nat} {Q : zO → zS → Prop} {g : zS} {a0 : Nat} {b0 : Int32} {b1 : Int32} {p : Int32 × zS} (h : fX0_level g a0 b0 b1 = some p) (kq : Q (.inl (some (.int p.1))) p.2) : zEM G (d + 11) K YX0_level [.ref a0, .int b0, .int b1] g Q := by
  show zEF G (d + 11) K YX0_level 0 [some (.ref a0), some (.int b0), some (.int b1)] [] g Q
  unfold fX0_level at h
  refine ez_iload_n (i := 1) (x := b0) dX0_level_0 rfl rfl ?_
  obtain ⟨r1, hq3, h⟩ := zbj_some h
  refine ez_callS (Y' := YX0_isTrack) (vs := [.int b0]) (rest := []) dX0_level_1 rfl zkX0_isTrack q645 q646 q52 znX0_isTrack (Nat.le_of_ble_eq_true rfl) (Nat.le_of_ble_eq_true rfl) rfl (wX0_isTrack (d := d + 9) hq3 (zBack_v ?_))
  show zEF G (d + 11) K YX0_level 4 [some (.ref a0), some (.int b0), some (.int b1)] [.int r1] g Q
  refine ez_if_ne (tgt := 10) dX0_level_4 (by decide) (fun hc => ?_) (fun hc => ?_)
  · replace h := zif_f hc h
    refine ez_iload_n (i := 2) (x := b1) dX0_level_10 rfl rfl ?_
    refine ez_fconst0 dX0_level_11 ?_
    obtain ⟨r4, hq6, h⟩ := zbj_some h
    refine ez_callS (Y' := YX0_isLevel) (vs := [.int b1, .float FP.fconst0]) (rest := []) dX0_level_12 rfl zkX0_isLevel q430 q431 q52 znX0_isLevel (Nat.le_of_ble_eq_true rfl) (Nat.le_of_ble_eq_true rfl) rfl (wX0_isLevel (d := d + 9) hq6 (zBack_v ?_))
    show zEF G (d + 11) K YX0_level 15 [some (.ref a0), some (.int b0), some (.int b1)] [.int r4] g Q
    refine ez_if_eq (tgt := 30) dX0_level_15 (by decide) (fun hc => ?_) (fun hc => ?_)
    · replace h := zif_t hc h
      refine ez_bipush (v := -102) dX0_level_30 (by decide) ?_
      obtain rfl := Option.some.inj h
      exact ez_iret dX0_level_32 rfl rfl kq
    · replace h := zif_f hc h
      refine ez_aload_n (i := 0) (v := .ref a0) dX0_level_18 rfl rfl rfl ?_
      refine ez_iconst (v := 3) dX0_level_19 (by decide) ?_
      refine ez_iload_n (i := 1) (x := b0) dX0_level_20 rfl rfl ?_
      refine ez_iload_n (i := 2) (x := b1) dX0_level_21 rfl rfl ?_
      refine ez_iconst (v := 0) dX0_level_22 (by decide) ?_
      refine ez_iconst (v := 0) dX0_level_23 (by decide) ?_
      obtain ⟨ob7, hx8, h⟩ := zbj_some h
      obtain ⟨r9, g10, hq11, h⟩ := zbd_some h
      refine ez_callV (C := RX0) (Tt := TX0) (N := 20) (Y' := YX0_edit) (a := a0) (vs := [.int (3 : Int32), .int b0, .int b1, .int (0 : Int32), .int (0 : Int32)]) (rest := []) dX0_level_24 rfl zkX0_edit q648 q650 rfl slX0_edit (zob1 hx8) znX0_edit (Nat.le_of_ble_eq_true rfl) (Nat.le_of_ble_eq_true rfl) rfl (wX0_edit (d := d + 0) hq11 (zBack_v ?_))
      show zEF G (d + 11) K YX0_level 27 [some (.ref a0), some (.int b0), some (.int b1)] [.int r9] g10 Q
      refine ez_goto (tgt := 32) dX0_level_27 (by decide) ?_
      obtain rfl := Option.some.inj h
      exact ez_iret dX0_level_32 rfl rfl kq
  · replace h := zif_t hc h
    refine ez_bipush (v := -101) dX0_level_7 (by decide) ?_
    obtain rfl := Option.some.inj h
    exact ez_iret dX0_level_9 rfl rfl kq
def YX0_on : zM := (yX0_on, cX0_on, 3, (Option.some Jvm.ClassFile.FieldType.int), [], false)
theorem zkX0_on : zMok YX0_on := ⟨rfl, q690, by decide +kernel, by decide +kernel⟩
theorem znX0_on : (parseMethodDescriptor YX0_on.nm.desc).map (fun d => d.parameters.length) = some 2 := by decide +kernel
noncomputable def fX0_on (g : zS) (a0 : Nat) (b0 : Int32) (b1 : Int32) : Option (Int32 × zS) := zbj (fX0_isTrack b0) (fun r1 => if r1 = 0 then some ((-101 : Int32), g) else zbj (zob g [0] a0) (fun ob4 => zbd (fX0_edit g a0 (4 : Int32) b0 (0 : Int32) (0 : Int32) b1) (fun r6 g7 => some (r6, g7))))
theorem wX0_on {G : zG} {d : Nat} {K : List Nat} {Q : zO → zS → Prop} {g : zS} {a0 : Nat} {b0 : Int32} {b1 : Int32} {p : Int32 × zS} (h : fX0_on g a0 b0 b1 = some p) (kq : Q (.inl (some (.int p.1))) p.2) : zEM G (d + 11) K YX0_on [.ref a0, .int b0, .int b1] g Q := by
  show zEF G (d + 11) K YX0_on 0 [some (.ref a0), some (.int b0), some (.int b1)] [] g Q
  unfold fX0_on at h
  refine ez_iload_n (i := 1) (x := b0) dX0_on_0 rfl rfl ?_
  obtain ⟨r1, hq3, h⟩ := zbj_some h
  refine ez_callS (Y' := YX0_isTrack) (vs := [.int b0]) (rest := []) dX0_on_1 rfl zkX0_isTrack q645 q646 q52 znX0_isTrack (Nat.le_of_ble_eq_true rfl) (Nat.le_of_ble_eq_true rfl) rfl (wX0_isTrack (d := d + 9) hq3 (zBack_v ?_))
  show zEF G (d + 11) K YX0_on 4 [some (.ref a0), some (.int b0), some (.int b1)] [.int r1] g Q
  refine ez_if_eq (tgt := 19) dX0_on_4 (by decide) (fun hc => ?_) (fun hc => ?_)
  · replace h := zif_t hc h
    refine ez_bipush (v := -101) dX0_on_19 (by decide) ?_
    obtain rfl := Option.some.inj h
    exact ez_iret dX0_on_21 rfl rfl kq
  · replace h := zif_f hc h
    refine ez_aload_n (i := 0) (v := .ref a0) dX0_on_7 rfl rfl rfl ?_
    refine ez_iconst (v := 4) dX0_on_8 (by decide) ?_
    refine ez_iload_n (i := 1) (x := b0) dX0_on_9 rfl rfl ?_
    refine ez_iconst (v := 0) dX0_on_10 (by decide) ?_
    refine ez_iconst (v := 0) dX0_on_11 (by decide) ?_
    refine ez_iload_n (i := 2) (x := b1) dX0_on_12 rfl rfl ?_
    obtain ⟨ob4, hx5, h⟩ := zbj_some h
    obtain ⟨r6, g7, hq8, h⟩ := zbd_some h
    refine ez_callV (C := RX0) (Tt := TX0) (N := 20) (Y' := YX0_edit) (a := a0) (vs := [.int (4 : Int32), .int b0, .int (0 : Int32), .int (0 : Int32), .int b1]) (rest := []) dX0_on_13 rfl zkX0_edit q648 q650 rfl slX0_edit (zob1 hx5) znX0_edit (Nat.le_of_ble_eq_true rfl) (Nat.le_of_ble_eq_true rfl) rfl (wX0_edit (d := d + 0) hq8 (zBack_v ?_))
    show zEF G (d + 11) K YX0_on 16 [some (.ref a0), some (.int b0), some (.int b1)] [.int r6] g7 Q
    refine ez_goto (tgt := 21) dX0_on_16 (by decide) ?_
    obtain rfl := Option.some.inj h
    exact ez_iret dX0_on_21 rfl rfl kq
def YX0_line : zM := (yX0_line, cX0_line, 3, (Option.some Jvm.ClassFile.FieldType.int), [], false)
theorem zkX0_line : zMok YX0_line := ⟨rfl, q694, by decide +kernel, by decide +kernel⟩
theorem znX0_line : (parseMethodDescriptor YX0_line.nm.desc).map (fun d => d.parameters.length) = some 2 := by decide +kernel
noncomputable def fX0_line (g : zS) (a0 : Nat) (b0 : Int32) (b1 : Int32) : Option (Int32 × zS) := zbj (zob g [0] a0) (fun ob1 => zbd (fX0_isPlug g a0 b0) (fun r3 g4 => if r3 = 0 then some ((-101 : Int32), g4) else if b1 ≤ (16 : Int32) then zbj (zob g4 [0] a0) (fun ob6 => zbd (fX0_edit g4 a0 (5 : Int32) b0 b1 (0 : Int32) (0 : Int32)) (fun r8 g9 => some (r8, g9))) else some ((-102 : Int32), g4)))
theorem wX0_line {G : zG} {d : Nat} {K : List Nat} {Q : zO → zS → Prop} {g : zS} {a0 : Nat} {b0 : Int32} {b1 : Int32} {p : Int32 × zS} (h : fX0_line g a0 b0 b1 = some p) (kq : Q (.inl (some (.int p.1))) p.2) : zEM G (d + 11) K YX0_line [.ref a0, .int b0, .int b1] g Q := by
  show zEF G (d + 11) K YX0_line 0 [some (.ref a0), some (.int b0), some (.int b1)] [] g Q
  unfold fX0_line at h
  refine ez_aload_n (i := 0) (v := .ref a0) dX0_line_0 rfl rfl rfl ?_
  refine ez_iload_n (i := 1) (x := b0) dX0_line_1 rfl rfl ?_
  obtain ⟨ob1, hx2, h⟩ := zbj_some h
  obtain ⟨r3, g4, hq5, h⟩ := zbd_some h
  refine ez_callV (C := RX0) (Tt := TX0) (N := 20) (Y' := YX0_isPlug) (a := a0) (vs := [.int b0]) (rest := []) dX0_line_2 rfl zkX0_isPlug q597 q599 rfl slX0_isPlug (zob1 hx2) znX0_isPlug (Nat.le_of_ble_eq_true rfl) (Nat.le_of_ble_eq_true rfl) rfl (wX0_isPlug (d := d + 9) hq5 (zBack_v ?_))
  show zEF G (d + 11) K YX0_line 5 [some (.ref a0), some (.int b0), some (.int b1)] [.int r3] g4 Q
  refine ez_if_ne (tgt := 11) dX0_line_5 (by decide) (fun hc => ?_) (fun hc => ?_)
  · replace h := zif_f hc h
    refine ez_iload_n (i := 2) (x := b1) dX0_line_11 rfl rfl ?_
    refine ez_bipush (v := 16) dX0_line_12 (by decide) ?_
    refine ez_icmp_le (tgt := 22) dX0_line_14 (by decide) (fun hc => ?_) (fun hc => ?_)
    · replace h := zif_t hc h
      refine ez_aload_n (i := 0) (v := .ref a0) dX0_line_22 rfl rfl rfl ?_
      refine ez_iconst (v := 5) dX0_line_23 (by decide) ?_
      refine ez_iload_n (i := 1) (x := b0) dX0_line_24 rfl rfl ?_
      refine ez_iload_n (i := 2) (x := b1) dX0_line_25 rfl rfl ?_
      refine ez_iconst (v := 0) dX0_line_26 (by decide) ?_
      refine ez_iconst (v := 0) dX0_line_27 (by decide) ?_
      obtain ⟨ob6, hx7, h⟩ := zbj_some h
      obtain ⟨r8, g9, hq10, h⟩ := zbd_some h
      refine ez_callV (C := RX0) (Tt := TX0) (N := 20) (Y' := YX0_edit) (a := a0) (vs := [.int (5 : Int32), .int b0, .int b1, .int (0 : Int32), .int (0 : Int32)]) (rest := []) dX0_line_28 rfl zkX0_edit q648 q650 rfl slX0_edit (zob1 hx7) znX0_edit (Nat.le_of_ble_eq_true rfl) (Nat.le_of_ble_eq_true rfl) rfl (wX0_edit (d := d + 0) hq10 (zBack_v ?_))
      show zEF G (d + 11) K YX0_line 31 [some (.ref a0), some (.int b0), some (.int b1)] [.int r8] g9 Q
      obtain rfl := Option.some.inj h
      exact ez_iret dX0_line_31 rfl rfl kq
    · replace h := zif_f hc h
      refine ez_bipush (v := -102) dX0_line_17 (by decide) ?_
      refine ez_goto (tgt := 31) dX0_line_19 (by decide) ?_
      obtain rfl := Option.some.inj h
      exact ez_iret dX0_line_31 rfl rfl kq
  · replace h := zif_t hc h
    refine ez_bipush (v := -101) dX0_line_8 (by decide) ?_
    obtain rfl := Option.some.inj h
    exact ez_iret dX0_line_10 rfl rfl kq
def YX0_hire : zM := (yX0_hire, cX0_hire, 3, (Option.some Jvm.ClassFile.FieldType.int), [], false)
theorem zkX0_hire : zMok YX0_hire := ⟨rfl, q698, by decide +kernel, by decide +kernel⟩
theorem znX0_hire : (parseMethodDescriptor YX0_hire.nm.desc).map (fun d => d.parameters.length) = some 1 := by decide +kernel
noncomputable def fX0_hire (g : zS) (a0 : Nat) (b0 : Int32) : Option (Int32 × zS) := zbj (fX0_isIn b0 (1 : Int32) (4 : Int32)) (fun r1 => if r1 = 0 then some ((-102 : Int32), g) else zbj (zgI g [0] a0 7) (fun i4 => if i4 = 0 then zbj (zgI g [0] a0 6) (fun i6 => zbj (zpV g [0] a0 6 (.int b0)) (fun g8 => some (i6, g8))) else some ((-103 : Int32), g)))
theorem wX0_hire {G : zG} {d : Nat} {K : List Nat} {Q : zO → zS → Prop} {g : zS} {a0 : Nat} {b0 : Int32} {p : Int32 × zS} (h : fX0_hire g a0 b0 = some p) (kq : Q (.inl (some (.int p.1))) p.2) : zEM G (d + 1) K YX0_hire [.ref a0, .int b0] g Q := by
  show zEF G (d + 1) K YX0_hire 0 [some (.ref a0), some (.int b0), none] [] g Q
  unfold fX0_hire at h
  refine ez_iload_n (i := 1) (x := b0) dX0_hire_0 rfl rfl ?_
  refine ez_iconst (v := 1) dX0_hire_1 (by decide) ?_
  refine ez_iconst (v := 4) dX0_hire_2 (by decide) ?_
  obtain ⟨r1, hq3, h⟩ := zbj_some h
  refine ez_callS (Y' := YX0_isIn) (vs := [.int b0, .int (1 : Int32), .int (4 : Int32)]) (rest := []) dX0_hire_3 rfl zkX0_isIn q306 q307 q52 znX0_isIn (Nat.le_of_ble_eq_true rfl) (Nat.le_of_ble_eq_true rfl) rfl (wX0_isIn (d := d + 0) hq3 (zBack_v ?_))
  show zEF G (d + 1) K YX0_hire 6 [some (.ref a0), some (.int b0), none] [.int r1] g Q
  refine ez_if_ne (tgt := 12) dX0_hire_6 (by decide) (fun hc => ?_) (fun hc => ?_)
  · replace h := zif_f hc h
    refine ez_aload_n (i := 0) (v := .ref a0) dX0_hire_12 rfl rfl rfl ?_
    obtain ⟨i4, hx5, h⟩ := zbj_some h
    refine gX0_111 dX0_hire_13 rfl hx5 ?_
    refine ez_if_eq (tgt := 22) dX0_hire_16 (by decide) (fun hc => ?_) (fun hc => ?_)
    · replace h := zif_t hc h
      refine ez_aload_n (i := 0) (v := .ref a0) dX0_hire_22 rfl rfl rfl ?_
      obtain ⟨i6, hx7, h⟩ := zbj_some h
      refine gX0_63 dX0_hire_23 rfl hx7 ?_
      refine ez_istore_n (i := 2) dX0_hire_26 rfl (show 2 < 3 by decide) ?_
      show zEF G (d + 1) K YX0_hire 27 [some (.ref a0), some (.int b0), some (.int i6)] [] g Q
      refine ez_aload_n (i := 0) (v := .ref a0) dX0_hire_27 rfl rfl rfl ?_
      refine ez_iload_n (i := 1) (x := b0) dX0_hire_28 rfl rfl ?_
      obtain ⟨g8, hx9, h⟩ := zbj_some h
      refine pX0_63 (x := b0) dX0_hire_29 rfl hx9 ?_
      refine ez_iload_n (i := 2) (x := i6) dX0_hire_32 rfl rfl ?_
      obtain rfl := Option.some.inj h
      exact ez_iret dX0_hire_33 rfl rfl kq
    · replace h := zif_f hc h
      refine ez_bipush (v := -103) dX0_hire_19 (by decide) ?_
      obtain rfl := Option.some.inj h
      exact ez_iret dX0_hire_21 rfl rfl kq
  · replace h := zif_t hc h
    refine ez_bipush (v := -102) dX0_hire_9 (by decide) ?_
    obtain rfl := Option.some.inj h
    exact ez_iret dX0_hire_11 rfl rfl kq
def YX0_open : zM := (yX0_open, cX0_open, 3, (Option.none : Option Jvm.ClassFile.FieldType), [], false)
theorem zkX0_open : zMok YX0_open := ⟨rfl, q706, by decide +kernel, by decide +kernel⟩
theorem znX0_open : (parseMethodDescriptor YX0_open.nm.desc).map (fun d => d.parameters.length) = some 0 := by decide +kernel
theorem slX0_open : Cond.selects RX0 yX0_open yX0_open ∈ lw_all := lw_w 10 rfl rfl
noncomputable def fX0_open_L2 : Nat → zS → Nat → Int32 → Option (Unit × zS)
  | 0, _, _, _ => none
  | n + 1, g, y0, y1 => if (8 : Int32) ≤ y1 then some ((), g) else zbj (zgN g [0] y0 4) (fun a1 => zbj (zaN g 9 a1 y1) (fun a3 => zbj (zgI g [1] a3 0) (fun i5 => zjoin (fun (g7 : zS) (v8 : Nat) (v9 : Int32) (v10 : Nat) (v11 : Int32) (v12 : Nat) => zbj (zpV g7 [1] v12 7 (.int v11)) (fun g13 => zbj (zpV g13 [1] v10 8 (.int (-1 : Int32))) (fun g15 => zbj (zpV g15 [1] v10 11 (.int (0 : Int32))) (fun g17 => fX0_open_L2 n g17 v8 (v9 + (1 : Int32)))))) (fun j19 => if i5 = 0 then j19 g y0 y1 a3 (0 : Int32) a3 else j19 g y0 y1 a3 (1 : Int32) a3))))
noncomputable def fX0_open (g : zS) (a0 : Nat) : Option (Unit × zS) := fX0_open_L2 1000 g a0 (0 : Int32) 
theorem fX0_open_L2_ok {G : zG} {d : Nat} {K : List Nat} {Q : zO → zS → Prop} : ∀ (n : Nat) (g : zS) (y0 : Nat) (y1 : Int32) (p : Unit × zS) (h : fX0_open_L2 n g y0 y1 = some p) (kq : Q (.inl none) p.2), zEF G (d + 0) K YX0_open 2 [some (.ref y0), some (.int y1), none] [] g Q := by
  intro n
  induction n with
  | zero =>
    intro g y0 y1 p h kq
    rw [fX0_open_L2] at h
    cases h
  | succ n ih =>
    intro g y0 y1 p h kq
    rw [fX0_open_L2] at h
    refine ez_iload_n (i := 1) (x := y1) dX0_open_2 rfl rfl ?_
    refine ez_bipush (v := 8) dX0_open_3 (by decide) ?_
    refine ez_icmp_ge (tgt := 47) dX0_open_5 (by decide) (fun hc => ?_) (fun hc => ?_)
    · replace h := zif_t hc h
      obtain rfl := Option.some.inj h
      exact ez_vret dX0_open_47 rfl kq
    · replace h := zif_f hc h
      refine ez_aload_n (i := 0) (v := .ref y0) dX0_open_8 rfl rfl rfl ?_
      obtain ⟨a1, hx2, h⟩ := zbj_some h
      refine gX0_55 dX0_open_9 rfl (zgN_some hx2) ?_
      show zEF G (d + 0) K YX0_open 12 [some (.ref y0), some (.int y1), none] [.ref a1] g Q
      refine ez_iload_n (i := 1) (x := y1) dX0_open_12 rfl rfl ?_
      obtain ⟨a3, hx4, h⟩ := zbj_some h
      refine lX_aa9 dX0_open_13 (zaN_some hx4) ?_
      show zEF G (d + 0) K YX0_open 14 [some (.ref y0), some (.int y1), none] [.ref a3] g Q
      refine ez_astore_n (i := 2) dX0_open_14 rfl (show 2 < 3 by decide) rfl ?_
      show zEF G (d + 0) K YX0_open 15 [some (.ref y0), some (.int y1), some (.ref a3)] [] g Q
      refine ez_aload_n (i := 2) (v := .ref a3) dX0_open_15 rfl rfl rfl ?_
      refine ez_aload_n (i := 2) (v := .ref a3) dX0_open_16 rfl rfl rfl ?_
      obtain ⟨i5, hx6, h⟩ := zbj_some h
      refine gX0_211 dX0_open_17 rfl hx6 ?_
      refine zjoin_use (fun (j : zS → Nat → Int32 → Nat → Int32 → Nat → Option (Unit × zS)) => ∀ (g7 : zS) (v8 : Nat) (v9 : Int32) (v10 : Nat) (v11 : Int32) (v12 : Nat), j g7 v8 v9 v10 v11 v12 = some p → zEF G (d + 0) K YX0_open 28 [some (.ref v8), some (.int v9), some (.ref v10)] [.int v11, .ref v12] g7 Q) h (fun g7 v8 v9 v10 v11 v12 h => ?_) (fun j19 hj19 h => ?_)
      · obtain ⟨g13, hx14, h⟩ := zbj_some h
        refine pX0_232 (x := v11) dX0_open_28 rfl hx14 ?_
        refine ez_aload_n (i := 2) (v := .ref v10) dX0_open_31 rfl rfl rfl ?_
        refine ez_iconst (v := -1) dX0_open_32 (by decide) ?_
        obtain ⟨g15, hx16, h⟩ := zbj_some h
        refine pX0_235 (x := (-1 : Int32)) dX0_open_33 rfl hx16 ?_
        refine ez_aload_n (i := 2) (v := .ref v10) dX0_open_36 rfl rfl rfl ?_
        refine ez_iconst (v := 0) dX0_open_37 (by decide) ?_
        obtain ⟨g17, hx18, h⟩ := zbj_some h
        refine pX0_238 (x := (0 : Int32)) dX0_open_38 rfl hx18 ?_
        refine ez_iinc (x := v9) (v := (v9 + (1 : Int32))) dX0_open_41 rfl rfl (show 1 < 3 by decide) ?_
        show zEF G (d + 0) K YX0_open 44 [some (.ref v8), some (.int (v9 + (1 : Int32))), some (.ref v10)] [] g17 Q
        refine ez_goto (tgt := 2) dX0_open_44 (by decide) ?_
        refine ez_clr 2 ?_
        exact ih g17 v8 (v9 + (1 : Int32)) _ h kq
      · refine ez_if_eq (tgt := 27) dX0_open_20 (by decide) (fun hc => ?_) (fun hc => ?_)
        · replace h := zif_t hc h
          refine ez_iconst (v := 0) dX0_open_27 (by decide) ?_
          exact hj19 g y0 y1 a3 (0 : Int32) a3 h
        · replace h := zif_f hc h
          refine ez_iconst (v := 1) dX0_open_23 (by decide) ?_
          refine ez_goto (tgt := 28) dX0_open_24 (by decide) ?_
          exact hj19 g y0 y1 a3 (1 : Int32) a3 h
theorem wX0_open {G : zG} {d : Nat} {K : List Nat} {Q : zO → zS → Prop} {g : zS} {a0 : Nat} {p : Unit × zS} (h : fX0_open g a0 = some p) (kq : Q (.inl none) p.2) : zEM G (d + 0) K YX0_open [.ref a0] g Q := by
  show zEF G (d + 0) K YX0_open 0 [some (.ref a0), none, none] [] g Q
  unfold fX0_open at h
  refine ez_iconst (v := 0) dX0_open_0 (by decide) ?_
  refine ez_istore_n (i := 1) dX0_open_1 rfl (show 1 < 3 by decide) ?_
  show zEF G (d + 0) K YX0_open 2 [some (.ref a0), some (.int (0 : Int32)), none] [] g Q
  refine fX0_open_L2_ok (d := d) (K := K) 1000 g a0 (0 : Int32) _ h  kq
def YX0_render : zM := (yX0_render, cX0_render, 2, (Option.some Jvm.ClassFile.FieldType.int), [], false)
theorem zkX0_render : zMok YX0_render := ⟨rfl, q702, by decide +kernel, by decide +kernel⟩
theorem znX0_render : (parseMethodDescriptor YX0_render.nm.desc).map (fun d => d.parameters.length) = some 1 := by decide +kernel
noncomputable def fX0_render (g : zS) (a0 : Nat) (b0 : Int32) : Option (Int32 × zS) := zbj (fX0_isIn b0 (1 : Int32) (8 : Int32)) (fun r1 => if r1 = 0 then some ((-102 : Int32), g) else zbj (zgI g [0] a0 7) (fun i4 => if i4 = 0 then zbj (zgI g [0] a0 10) (fun i6 => if (i6 + b0) ≤ (64 : Int32) then zbj (zpV g [0] a0 7 (.int (1 : Int32))) (fun g8 => zbj (zpV g8 [0] a0 8 (.int (0 : Int32))) (fun g10 => zbj (zpV g10 [0] a0 9 (.int b0)) (fun g12 => zbj (zob g12 [0] a0) (fun ob14 => zbd (fX0_open g12 a0) (fun _ g17 => zbj (zgI g17 [0] a0 10) (fun i19 => some (i19, g17))))))) else some ((-104 : Int32), g)) else some ((-103 : Int32), g)))
theorem wX0_render {G : zG} {d : Nat} {K : List Nat} {Q : zO → zS → Prop} {g : zS} {a0 : Nat} {b0 : Int32} {p : Int32 × zS} (h : fX0_render g a0 b0 = some p) (kq : Q (.inl (some (.int p.1))) p.2) : zEM G (d + 1) K YX0_render [.ref a0, .int b0] g Q := by
  show zEF G (d + 1) K YX0_render 0 [some (.ref a0), some (.int b0)] [] g Q
  unfold fX0_render at h
  refine ez_iload_n (i := 1) (x := b0) dX0_render_0 rfl rfl ?_
  refine ez_iconst (v := 1) dX0_render_1 (by decide) ?_
  refine ez_bipush (v := 8) dX0_render_2 (by decide) ?_
  obtain ⟨r1, hq3, h⟩ := zbj_some h
  refine ez_callS (Y' := YX0_isIn) (vs := [.int b0, .int (1 : Int32), .int (8 : Int32)]) (rest := []) dX0_render_4 rfl zkX0_isIn q306 q307 q52 znX0_isIn (Nat.le_of_ble_eq_true rfl) (Nat.le_of_ble_eq_true rfl) rfl (wX0_isIn (d := d + 0) hq3 (zBack_v ?_))
  show zEF G (d + 1) K YX0_render 7 [some (.ref a0), some (.int b0)] [.int r1] g Q
  refine ez_if_ne (tgt := 13) dX0_render_7 (by decide) (fun hc => ?_) (fun hc => ?_)
  · replace h := zif_f hc h
    refine ez_aload_n (i := 0) (v := .ref a0) dX0_render_13 rfl rfl rfl ?_
    obtain ⟨i4, hx5, h⟩ := zbj_some h
    refine gX0_111 dX0_render_14 rfl hx5 ?_
    refine ez_if_eq (tgt := 23) dX0_render_17 (by decide) (fun hc => ?_) (fun hc => ?_)
    · replace h := zif_t hc h
      refine ez_aload_n (i := 0) (v := .ref a0) dX0_render_23 rfl rfl rfl ?_
      obtain ⟨i6, hx7, h⟩ := zbj_some h
      refine gX0_220 dX0_render_24 rfl hx7 ?_
      refine ez_iload_n (i := 1) (x := b0) dX0_render_27 rfl rfl ?_
      refine ez_iadd dX0_render_28 ?_
      refine ez_bipush (v := 64) dX0_render_29 (by decide) ?_
      refine ez_icmp_le (tgt := 37) dX0_render_31 (by decide) (fun hc => ?_) (fun hc => ?_)
      · replace h := zif_t hc h
        refine ez_aload_n (i := 0) (v := .ref a0) dX0_render_37 rfl rfl rfl ?_
        refine ez_iconst (v := 1) dX0_render_38 (by decide) ?_
        obtain ⟨g8, hx9, h⟩ := zbj_some h
        refine pX0_111 (x := (1 : Int32)) dX0_render_39 rfl ⟨rfl, rfl⟩ hx9 ?_
        refine ez_aload_n (i := 0) (v := .ref a0) dX0_render_42 rfl rfl rfl ?_
        refine ez_iconst (v := 0) dX0_render_43 (by decide) ?_
        obtain ⟨g10, hx11, h⟩ := zbj_some h
        refine pX0_223 (x := (0 : Int32)) dX0_render_44 rfl ⟨rfl, rfl⟩ hx11 ?_
        refine ez_aload_n (i := 0) (v := .ref a0) dX0_render_47 rfl rfl rfl ?_
        refine ez_iload_n (i := 1) (x := b0) dX0_render_48 rfl rfl ?_
        obtain ⟨g12, hx13, h⟩ := zbj_some h
        refine pX0_226 (x := b0) dX0_render_49 rfl hx13 ?_
        refine ez_aload_n (i := 0) (v := .ref a0) dX0_render_52 rfl rfl rfl ?_
        obtain ⟨ob14, hx15, h⟩ := zbj_some h
        obtain ⟨r16, g17, hq18, h⟩ := zbd_some h
        refine ez_callV (C := RX0) (Tt := TX0) (N := 20) (Y' := YX0_open) (a := a0) (vs := []) (rest := []) dX0_render_53 rfl zkX0_open q703 q705 rfl slX0_open (zob1 hx15) znX0_open (Nat.le_of_ble_eq_true rfl) (Nat.le_of_ble_eq_true rfl) rfl (wX0_open (d := d + 0) hq18 (zBack_n ?_))
        show zEF G (d + 1) K YX0_render 56 [some (.ref a0), some (.int b0)] [] g17 Q
        refine ez_aload_n (i := 0) (v := .ref a0) dX0_render_56 rfl rfl rfl ?_
        obtain ⟨i19, hx20, h⟩ := zbj_some h
        refine gX0_220 dX0_render_57 rfl hx20 ?_
        obtain rfl := Option.some.inj h
        exact ez_iret dX0_render_60 rfl rfl kq
      · replace h := zif_f hc h
        refine ez_bipush (v := -104) dX0_render_34 (by decide) ?_
        obtain rfl := Option.some.inj h
        exact ez_iret dX0_render_36 rfl rfl kq
    · replace h := zif_f hc h
      refine ez_bipush (v := -103) dX0_render_20 (by decide) ?_
      obtain rfl := Option.some.inj h
      exact ez_iret dX0_render_22 rfl rfl kq
  · replace h := zif_t hc h
    refine ez_bipush (v := -102) dX0_render_10 (by decide) ?_
    obtain rfl := Option.some.inj h
    exact ez_iret dX0_render_12 rfl rfl kq
def YX0_isWorker : zM := (yX0_isWorker, cX0_isWorker, 2, (Option.some Jvm.ClassFile.FieldType.boolean), [], false)
theorem zkX0_isWorker : zMok YX0_isWorker := ⟨rfl, q714, by decide +kernel, by decide +kernel⟩
theorem znX0_isWorker : (parseMethodDescriptor YX0_isWorker.nm.desc).map (fun d => d.parameters.length) = some 1 := by decide +kernel
theorem slX0_isWorker : Cond.selects RX0 yX0_isWorker yX0_isWorker ∈ lw_all := lw_w 11 rfl rfl
noncomputable def fX0_isWorker (g : zS) (a0 : Nat) (b0 : Int32) : Option (Int32 × zS) := zbj (zgI g [0] a0 6) (fun i1 => zbj (fX0_isIn b0 (0 : Int32) (i1 - (1 : Int32))) (fun r3 => zgd (zbl r3) (some (r3, g))))
theorem wX0_isWorker {G : zG} {d : Nat} {K : List Nat} {Q : zO → zS → Prop} {g : zS} {a0 : Nat} {b0 : Int32} {p : Int32 × zS} (h : fX0_isWorker g a0 b0 = some p) (kq : Q (.inl (some (.int p.1))) p.2) : zEM G (d + 1) K YX0_isWorker [.ref a0, .int b0] g Q := by
  show zEF G (d + 1) K YX0_isWorker 0 [some (.ref a0), some (.int b0)] [] g Q
  unfold fX0_isWorker at h
  refine ez_iload_n (i := 1) (x := b0) dX0_isWorker_0 rfl rfl ?_
  refine ez_iconst (v := 0) dX0_isWorker_1 (by decide) ?_
  refine ez_aload_n (i := 0) (v := .ref a0) dX0_isWorker_2 rfl rfl rfl ?_
  obtain ⟨i1, hx2, h⟩ := zbj_some h
  refine gX0_63 dX0_isWorker_3 rfl hx2 ?_
  refine ez_iconst (v := 1) dX0_isWorker_6 (by decide) ?_
  refine ez_isub dX0_isWorker_7 ?_
  obtain ⟨r3, hq5, h⟩ := zbj_some h
  refine ez_callS (Y' := YX0_isIn) (vs := [.int b0, .int (0 : Int32), .int (i1 - (1 : Int32))]) (rest := []) dX0_isWorker_8 rfl zkX0_isIn q306 q307 q52 znX0_isIn (Nat.le_of_ble_eq_true rfl) (Nat.le_of_ble_eq_true rfl) rfl (wX0_isIn (d := d + 0) hq5 (zBack_v ?_))
  show zEF G (d + 1) K YX0_isWorker 11 [some (.ref a0), some (.int b0)] [.int r3] g Q
  obtain ⟨hg6, h⟩ := zgd_some h
  obtain rfl := Option.some.inj h
  exact ez_iret dX0_isWorker_11 rfl hg6.1 kq
def YX0_mayGo : zM := (yX0_mayGo, cX0_mayGo, 6, (Option.some Jvm.ClassFile.FieldType.boolean), [], false)
theorem zkX0_mayGo : zMok YX0_mayGo := ⟨rfl, q722, by decide +kernel, by decide +kernel⟩
theorem znX0_mayGo : (parseMethodDescriptor YX0_mayGo.nm.desc).map (fun d => d.parameters.length) = some 1 := by decide +kernel
theorem slX0_mayGo : Cond.selects RX0 yX0_mayGo yX0_mayGo ∈ lw_all := lw_w 13 rfl rfl
noncomputable def fX0_mayGo_L25 : Nat → zS → Nat → Int32 → Option Nat → Int32 → Int32 → Option (Int32 × zS)
  | 0, _, _, _, _, _, _ => none
  | n + 1, g, y0, y1, y2, y3, y4 => if y1 ≤ y4 then zgd (zbl y3) (some (y3, g)) else zbj (zgN g [0] y0 4) (fun a16 => zbj (zaN g 9 a16 y4) (fun a18 => zbj (zgI g [1] a18 7) (fun i20 => zjoin (fun (g22 : zS) (v23 : Nat) (v24 : Int32) (v25 : Option Nat) (v26 : Int32) (v27 : Int32) (v28 : Int32) => fX0_mayGo_L25 n g22 v23 v24 v25 (v28 &&& v27) (v26 + (1 : Int32))) (fun j29 => zjoin (fun (g30 : zS) (v31 : Nat) (v32 : Int32) (v33 : Option Nat) (v34 : Int32) (v35 : Int32) => j29 g30 v31 v32 v33 v34 (1 : Int32) v35) (fun j36 => zjoin (fun (g37 : zS) (v38 : Nat) (v39 : Int32) (v40 : Option Nat) (v41 : Int32) (v42 : Nat) (v43 : Int32) => zbj (v40) (fun a44 => zbj (zob g37 [1] v42) (fun ob46 => zbd (fX1_needs g37 v42 a44) (fun r48 g49 => if r48 = 0 then j36 g49 v38 v39 (some a44) v41 v43 else j29 g49 v38 v39 (some a44) v41 (0 : Int32) v43)))) (fun j51 => if i20 = (1 : Int32) then j51 g y0 y1 y2 y4 a18 y3 else zbj (zgI g [1] a18 7) (fun i52 => if i52 = (2 : Int32) then j51 g y0 y1 y2 y4 a18 y3 else j36 g y0 y1 y2 y4 y3)))))))
noncomputable def fX0_mayGo (g : zS) (a0 : Nat) (b0 : Int32) : Option (Int32 × zS) := zbj (zgN g [0] a0 4) (fun a1 => zbj (zaN g 9 a1 b0) (fun a3 => zbj (zgN g [1] a3 6) (fun a5 => zbj (zgN g [0] a0 4) (fun a7 => zbj (zaN g 9 a7 b0) (fun a9 => zbj (zgI g [1] a9 8) (fun i11 => zbj (zaC g a5 i11) (fun o13 => fX0_mayGo_L25 1000 g a0 b0 o13 (1 : Int32) (0 : Int32) )))))))
theorem fX0_mayGo_L25_ok {G : zG} {d : Nat} {K : List Nat} {Q : zO → zS → Prop} : ∀ (n : Nat) (g : zS) (y0 : Nat) (y1 : Int32) (y2 : Option Nat) (y3 : Int32) (y4 : Int32) (p : Int32 × zS) (h : fX0_mayGo_L25 n g y0 y1 y2 y3 y4 = some p) (kq : Q (.inl (some (.int p.1))) p.2), zEF G (d + 2) K YX0_mayGo 25 [some (.ref y0), some (.int y1), some (va_rf y2), some (.int y3), some (.int y4), none] [] g Q := by
  intro n
  induction n with
  | zero =>
    intro g y0 y1 y2 y3 y4 p h kq
    rw [fX0_mayGo_L25] at h
    cases h
  | succ n ih =>
    intro g y0 y1 y2 y3 y4 p h kq
    rw [fX0_mayGo_L25] at h
    refine ez_iload (i := 4) (x := y4) dX0_mayGo_25 rfl ?_
    refine ez_iload_n (i := 1) (x := y1) dX0_mayGo_27 rfl rfl ?_
    refine ez_icmp_ge (tgt := 81) dX0_mayGo_28 (by decide) (fun hc => ?_) (fun hc => ?_)
    · replace h := zif_t hc h
      refine ez_iload_n (i := 3) (x := y3) dX0_mayGo_81 rfl rfl ?_
      obtain ⟨hg15, h⟩ := zgd_some h
      obtain rfl := Option.some.inj h
      exact ez_iret dX0_mayGo_82 rfl hg15.1 kq
    · replace h := zif_f hc h
      refine ez_aload_n (i := 0) (v := .ref y0) dX0_mayGo_31 rfl rfl rfl ?_
      obtain ⟨a16, hx17, h⟩ := zbj_some h
      refine gX0_55 dX0_mayGo_32 rfl (zgN_some hx17) ?_
      show zEF G (d + 2) K YX0_mayGo 35 [some (.ref y0), some (.int y1), some (va_rf y2), some (.int y3), some (.int y4), none] [.ref a16] g Q
      refine ez_iload (i := 4) (x := y4) dX0_mayGo_35 rfl ?_
      obtain ⟨a18, hx19, h⟩ := zbj_some h
      refine lX_aa9 dX0_mayGo_37 (zaN_some hx19) ?_
      show zEF G (d + 2) K YX0_mayGo 38 [some (.ref y0), some (.int y1), some (va_rf y2), some (.int y3), some (.int y4), none] [.ref a18] g Q
      refine ez_astore (i := 5) dX0_mayGo_38 (show 5 < 6 by decide) rfl ?_
      show zEF G (d + 2) K YX0_mayGo 40 [some (.ref y0), some (.int y1), some (va_rf y2), some (.int y3), some (.int y4), some (.ref a18)] [] g Q
      refine ez_iload_n (i := 3) (x := y3) dX0_mayGo_40 rfl rfl ?_
      refine ez_aload (i := 5) (v := .ref a18) dX0_mayGo_41 rfl rfl ?_
      obtain ⟨i20, hx21, h⟩ := zbj_some h
      refine gX0_232 dX0_mayGo_43 rfl hx21 ?_
      refine ez_iconst (v := 1) dX0_mayGo_46 (by decide) ?_
      refine zjoin_use (fun (j : zS → Nat → Int32 → Option Nat → Int32 → Int32 → Int32 → Option (Int32 × zS)) => ∀ (g22 : zS) (v23 : Nat) (v24 : Int32) (v25 : Option Nat) (v26 : Int32) (v27 : Int32) (v28 : Int32), j g22 v23 v24 v25 v26 v27 v28 = some p → zEF G (d + 2) K YX0_mayGo 73 [some (.ref v23), some (.int v24), some (va_rf v25), none, some (.int v26), none] [.int v27, .int v28] g22 Q) h (fun g22 v23 v24 v25 v26 v27 v28 h => ?_) (fun j29 hj29 h => ?_)
      · refine ez_iand dX0_mayGo_73 ?_
        refine ez_istore_n (i := 3) dX0_mayGo_74 rfl (show 3 < 6 by decide) ?_
        refine zEF.eq (pc' := 75) (lo' := [some (.ref v23), some (.int v24), some (va_rf v25), some (.int (v28 &&& v27)), some (.int v26), none]) (st' := []) ?_ rfl (by cases v25 <;> rfl) rfl
        show zEF G (d + 2) K YX0_mayGo 75 [some (.ref v23), some (.int v24), some (va_rf v25), some (.int (v28 &&& v27)), some (.int v26), none] [] g22 Q
        refine ez_iinc (x := v26) (v := (v26 + (1 : Int32))) dX0_mayGo_75 rfl rfl (show 4 < 6 by decide) ?_
        show zEF G (d + 2) K YX0_mayGo 78 [some (.ref v23), some (.int v24), some (va_rf v25), some (.int (v28 &&& v27)), some (.int (v26 + (1 : Int32))), none] [] g22 Q
        refine ez_goto (tgt := 25) dX0_mayGo_78 (by decide) ?_
        exact ih g22 v23 v24 v25 (v28 &&& v27) (v26 + (1 : Int32)) _ h kq
      · refine zjoin_use (fun (j : zS → Nat → Int32 → Option Nat → Int32 → Int32 → Option (Int32 × zS)) => ∀ (g30 : zS) (v31 : Nat) (v32 : Int32) (v33 : Option Nat) (v34 : Int32) (v35 : Int32), j g30 v31 v32 v33 v34 v35 = some p → zEF G (d + 2) K YX0_mayGo 68 [some (.ref v31), some (.int v32), some (va_rf v33), none, some (.int v34), none] [.int v35] g30 Q) h (fun g30 v31 v32 v33 v34 v35 h => ?_) (fun j36 hj36 h => ?_)
        · refine ez_iconst (v := 1) dX0_mayGo_68 (by decide) ?_
          refine ez_goto (tgt := 73) dX0_mayGo_69 (by decide) ?_
          exact hj29 g30 v31 v32 v33 v34 (1 : Int32) v35 h
        · refine zjoin_use (fun (j : zS → Nat → Int32 → Option Nat → Int32 → Nat → Int32 → Option (Int32 × zS)) => ∀ (g37 : zS) (v38 : Nat) (v39 : Int32) (v40 : Option Nat) (v41 : Int32) (v42 : Nat) (v43 : Int32), j g37 v38 v39 v40 v41 v42 v43 = some p → zEF G (d + 2) K YX0_mayGo 59 [some (.ref v38), some (.int v39), some (va_rf v40), none, some (.int v41), some (.ref v42)] [.int v43] g37 Q) h (fun g37 v38 v39 v40 v41 v42 v43 h => ?_) (fun j51 hj51 h => ?_)
          · refine ez_aload (i := 5) (v := .ref v42) dX0_mayGo_59 rfl rfl ?_
            refine ez_aload_n (i := 2) (v := va_rf v40) dX0_mayGo_61 rfl rfl (zrf_ref _) ?_
            obtain ⟨a44, ho45, h⟩ := zbj_some h
            rw [ho45]
            obtain ⟨ob46, hx47, h⟩ := zbj_some h
            obtain ⟨r48, g49, hq50, h⟩ := zbd_some h
            refine ez_callV (C := RX1) (Tt := TX1) (N := 14) (Y' := YX1_needs) (a := v42) (vs := [.ref a44]) (rest := [.int v43]) dX0_mayGo_62 rfl zkX1_needs q723 q724 rfl q725 (zob1 hx47) znX1_needs (Nat.le_of_ble_eq_true rfl) (Nat.le_of_ble_eq_true rfl) rfl (wX1_needs (d := d + 0) hq50 (zBack_v ?_))
            show zEF G (d + 2) K YX0_mayGo 65 [some (.ref v38), some (.int v39), some (.ref a44), none, some (.int v41), some (.ref v42)] [.int r48, .int v43] g49 Q
            refine ez_if_ne (tgt := 72) dX0_mayGo_65 (by decide) (fun hc => ?_) (fun hc => ?_)
            · replace h := zif_f hc h
              refine ez_iconst (v := 0) dX0_mayGo_72 (by decide) ?_
              refine ez_clr 5 ?_
              exact hj29 g49 v38 v39 (some a44) v41 (0 : Int32) v43 h
            · replace h := zif_t hc h
              refine ez_clr 5 ?_
              exact hj36 g49 v38 v39 (some a44) v41 v43 h
          · refine ez_icmp_eq (tgt := 59) dX0_mayGo_47 (by decide) (fun hc => ?_) (fun hc => ?_)
            · replace h := zif_t hc h
              refine ez_clr 3 ?_
              exact hj51 g y0 y1 y2 y4 a18 y3 h
            · replace h := zif_f hc h
              refine ez_aload (i := 5) (v := .ref a18) dX0_mayGo_50 rfl rfl ?_
              obtain ⟨i52, hx53, h⟩ := zbj_some h
              refine gX0_232 dX0_mayGo_52 rfl hx53 ?_
              refine ez_iconst (v := 2) dX0_mayGo_55 (by decide) ?_
              refine ez_icmp_ne (tgt := 68) dX0_mayGo_56 (by decide) (fun hc => ?_) (fun hc => ?_)
              · replace h := zif_f hc h
                refine ez_clr 3 ?_
                refine ez_clr 5 ?_
                exact hj36 g y0 y1 y2 y4 y3 h
              · replace h := zif_t hc h
                refine ez_clr 3 ?_
                exact hj51 g y0 y1 y2 y4 a18 y3 h
theorem wX0_mayGo {G : zG} {d : Nat} {K : List Nat} {Q : zO → zS → Prop} {g : zS} {a0 : Nat} {b0 : Int32} {p : Int32 × zS} (h : fX0_mayGo g a0 b0 = some p) (kq : Q (.inl (some (.int p.1))) p.2) : zEM G (d + 2) K YX0_mayGo [.ref a0, .int b0] g Q := by
  show zEF G (d + 2) K YX0_mayGo 0 [some (.ref a0), some (.int b0), none, none, none, none] [] g Q
  unfold fX0_mayGo at h
  refine ez_aload_n (i := 0) (v := .ref a0) dX0_mayGo_0 rfl rfl rfl ?_
  obtain ⟨a1, hx2, h⟩ := zbj_some h
  refine gX0_55 dX0_mayGo_1 rfl (zgN_some hx2) ?_
  show zEF G (d + 2) K YX0_mayGo 4 [some (.ref a0), some (.int b0), none, none, none, none] [.ref a1] g Q
  refine ez_iload_n (i := 1) (x := b0) dX0_mayGo_4 rfl rfl ?_
  obtain ⟨a3, hx4, h⟩ := zbj_some h
  refine lX_aa9 dX0_mayGo_5 (zaN_some hx4) ?_
  show zEF G (d + 2) K YX0_mayGo 6 [some (.ref a0), some (.int b0), none, none, none, none] [.ref a3] g Q
  obtain ⟨a5, hx6, h⟩ := zbj_some h
  refine gX0_204 dX0_mayGo_6 rfl (zgN_some hx6) ?_
  show zEF G (d + 2) K YX0_mayGo 9 [some (.ref a0), some (.int b0), none, none, none, none] [.ref a5] g Q
  refine ez_aload_n (i := 0) (v := .ref a0) dX0_mayGo_9 rfl rfl rfl ?_
  obtain ⟨a7, hx8, h⟩ := zbj_some h
  refine gX0_55 dX0_mayGo_10 rfl (zgN_some hx8) ?_
  show zEF G (d + 2) K YX0_mayGo 13 [some (.ref a0), some (.int b0), none, none, none, none] [.ref a7, .ref a5] g Q
  refine ez_iload_n (i := 1) (x := b0) dX0_mayGo_13 rfl rfl ?_
  obtain ⟨a9, hx10, h⟩ := zbj_some h
  refine lX_aa9 dX0_mayGo_14 (zaN_some hx10) ?_
  show zEF G (d + 2) K YX0_mayGo 15 [some (.ref a0), some (.int b0), none, none, none, none] [.ref a9, .ref a5] g Q
  obtain ⟨i11, hx12, h⟩ := zbj_some h
  refine gX0_235 dX0_mayGo_15 rfl hx12 ?_
  obtain ⟨o13, hx14, h⟩ := zbj_some h
  refine lX_aac dX0_mayGo_18 hx14 ?_
  refine ez_astore_n (i := 2) dX0_mayGo_19 rfl (show 2 < 6 by decide) (zrf_ref _) ?_
  show zEF G (d + 2) K YX0_mayGo 20 [some (.ref a0), some (.int b0), some (va_rf o13), none, none, none] [] g Q
  refine ez_iconst (v := 1) dX0_mayGo_20 (by decide) ?_
  refine ez_istore_n (i := 3) dX0_mayGo_21 rfl (show 3 < 6 by decide) ?_
  refine zEF.eq (pc' := 22) (lo' := [some (.ref a0), some (.int b0), some (va_rf o13), some (.int (1 : Int32)), none, none]) (st' := []) ?_ rfl (by cases o13 <;> rfl) rfl
  show zEF G (d + 2) K YX0_mayGo 22 [some (.ref a0), some (.int b0), some (va_rf o13), some (.int (1 : Int32)), none, none] [] g Q
  refine ez_iconst (v := 0) dX0_mayGo_22 (by decide) ?_
  refine ez_istore (i := 4) dX0_mayGo_23 (show 4 < 6 by decide) ?_
  show zEF G (d + 2) K YX0_mayGo 25 [some (.ref a0), some (.int b0), some (va_rf o13), some (.int (1 : Int32)), some (.int (0 : Int32)), none] [] g Q
  refine fX0_mayGo_L25_ok (d := d) (K := K) 1000 g a0 b0 o13 (1 : Int32) (0 : Int32) _ h  kq
def YX0_load : zM := (yX0_load, cX0_load, 5, (Option.none : Option Jvm.ClassFile.FieldType), [], false)
theorem zkX0_load : zMok YX0_load := ⟨rfl, q755, by decide +kernel, by decide +kernel⟩
theorem znX0_load : (parseMethodDescriptor YX0_load.nm.desc).map (fun d => d.parameters.length) = some 1 := by decide +kernel
theorem slX0_load : Cond.selects RX0 yX0_load yX0_load ∈ lw_all := lw_w 16 rfl rfl
noncomputable def fX0_load_L38 : Nat → zS → Nat → Option Nat → Int32 → Int32 → Option ((Unit ⊕ String) × zS)
  | 0, _, _, _, _, _ => none
  | n + 1, g, y1, y2, y3, y4 => if (8 : Int32) ≤ y4 then some (.inl (), g) else zbj (zgN g [1] y1 9) (fun a12 => zbj (zgI g [1] y1 3) (fun i14 => zjoin (fun (g16 : zS) (v17 : Nat) (v18 : Option Nat) (v19 : Int32) (v20 : Int32) (v21 : UInt32) (v22 : Int32) (v23 : Nat) => zbj (zsF g16 1 v23 v22 v21) (fun g24 => fX0_load_L38 n g24 v17 v18 v19 (v20 + (1 : Int32)))) (fun j26 => zjoin (fun (g27 : zS) (v28 : Nat) (v29 : Option Nat) (v30 : Int32) (v31 : Int32) (v32 : Int32) (v33 : Nat) => zcs v29 (zgd (1 ≤ g27.rc ∧ 8 ≤ g27.rs) (some (.inr zNPE, (zng g27)))) (fun a34 => zbj (zob g27 [3] a34) (fun ob36 => zbd (fX3_sample g27 a34 (v30 + v31)) (fun r38 g39 => zsm r38 (fun v41 => j26 g39 v28 (some a34) v30 v31 v41 v32 v33) (fun X42 => some (.inr X42, g39)))))) (fun j43 => if i14 = 0 then zcs y2 (zgd (1 ≤ g.rc ∧ 8 ≤ g.rs) (some (.inr zNPE, (zng g)))) (fun a44 => zbj (zob g [3] a44) (fun ob46 => zbd (fX3_has g a44 (y3 + y4)) (fun r48 g49 => if r48 = 0 then j26 g49 y1 (some a44) y3 y4 FP.fconst0 y4 a12 else j43 g49 y1 (some a44) y3 y4 y4 a12))) else j43 g y1 y2 y3 y4 y4 a12))))
noncomputable def fX0_load (g : zS) (a0 : Nat) (b0 : Nat) : Option ((Unit ⊕ String) × zS) := zbj (zgI g [1] b0 1) (fun i1 => zjoin (fun (g3 : zS) (v4 : Nat) (v5 : Nat) (v6 : Option Nat) => zbj (zgI g3 [1] v5 2) (fun i7 => zbj (zgI g3 [0] v4 10) (fun i9 => zlet (i7 + ((8 : Int32) * i9)) (fun a11 => fX0_load_L38 1000 g3 v5 v6 a11 (0 : Int32) )))) (fun j51 => if i1 = (-1 : Int32) then j51 g a0 b0 none else zbj (zgN g [0] a0 0) (fun a52 => zbj (zgI g [1] b0 1) (fun i54 => zbj (zaN g 7 a52 i54) (fun a56 => j51 g a0 b0 (some a56))))))
theorem fX0_load_L38_ok {G : zG} {d : Nat} {K : List Nat} {Q : zO → zS → Prop} : ∀ (n : Nat) (g : zS) (y1 : Nat) (y2 : Option Nat) (y3 : Int32) (y4 : Int32) (p : (Unit ⊕ String) × zS) (h : fX0_load_L38 n g y1 y2 y3 y4 = some p) (kq : Q (zoV p.1 p.2) p.2), zEF G (d + 9) K YX0_load 38 [none, some (.ref y1), some (va_rf y2), some (.int y3), some (.int y4)] [] g Q := by
  intro n
  induction n with
  | zero =>
    intro g y1 y2 y3 y4 p h kq
    rw [fX0_load_L38] at h
    cases h
  | succ n ih =>
    intro g y1 y2 y3 y4 p h kq
    rw [fX0_load_L38] at h
    refine ez_iload (i := 4) (x := y4) dX0_load_38 rfl ?_
    refine ez_bipush (v := 8) dX0_load_40 (by decide) ?_
    refine ez_icmp_ge (tgt := 88) dX0_load_42 (by decide) (fun hc => ?_) (fun hc => ?_)
    · replace h := zif_t hc h
      obtain rfl := Option.some.inj h
      exact ez_vret dX0_load_88 rfl kq
    · replace h := zif_f hc h
      refine ez_aload_n (i := 1) (v := .ref y1) dX0_load_45 rfl rfl rfl ?_
      obtain ⟨a12, hx13, h⟩ := zbj_some h
      refine gX0_287 dX0_load_46 rfl (zgN_some hx13) ?_
      show zEF G (d + 9) K YX0_load 49 [none, some (.ref y1), some (va_rf y2), some (.int y3), some (.int y4)] [.ref a12] g Q
      refine ez_iload (i := 4) (x := y4) dX0_load_49 rfl ?_
      refine ez_aload_n (i := 1) (v := .ref y1) dX0_load_51 rfl rfl rfl ?_
      obtain ⟨i14, hx15, h⟩ := zbj_some h
      refine gX0_198 dX0_load_52 rfl hx15 ?_
      refine zjoin_use (fun (j : zS → Nat → Option Nat → Int32 → Int32 → UInt32 → Int32 → Nat → Option ((Unit ⊕ String) × zS)) => ∀ (g16 : zS) (v17 : Nat) (v18 : Option Nat) (v19 : Int32) (v20 : Int32) (v21 : UInt32) (v22 : Int32) (v23 : Nat), j g16 v17 v18 v19 v20 v21 v22 v23 = some p → zEF G (d + 9) K YX0_load 81 [none, some (.ref v17), some (va_rf v18), some (.int v19), some (.int v20)] [.float v21, .int v22, .ref v23] g16 Q) h (fun g16 v17 v18 v19 v20 v21 v22 v23 h => ?_) (fun j26 hj26 h => ?_)
      · obtain ⟨g24, hx25, h⟩ := zbj_some h
        refine sX_fa dX0_load_81 hx25 ?_
        refine ez_iinc (x := v20) (v := (v20 + (1 : Int32))) dX0_load_82 rfl rfl (show 4 < 5 by decide) ?_
        show zEF G (d + 9) K YX0_load 85 [none, some (.ref v17), some (va_rf v18), some (.int v19), some (.int (v20 + (1 : Int32)))] [] g24 Q
        refine ez_goto (tgt := 38) dX0_load_85 (by decide) ?_
        exact ih g24 v17 v18 v19 (v20 + (1 : Int32)) _ h kq
      · refine zjoin_use (fun (j : zS → Nat → Option Nat → Int32 → Int32 → Int32 → Nat → Option ((Unit ⊕ String) × zS)) => ∀ (g27 : zS) (v28 : Nat) (v29 : Option Nat) (v30 : Int32) (v31 : Int32) (v32 : Int32) (v33 : Nat), j g27 v28 v29 v30 v31 v32 v33 = some p → zEF G (d + 9) K YX0_load 69 [none, some (.ref v28), some (va_rf v29), some (.int v30), some (.int v31)] [.int v32, .ref v33] g27 Q) h (fun g27 v28 v29 v30 v31 v32 v33 h => ?_) (fun j43 hj43 h => ?_)
        · refine ez_aload_n (i := 2) (v := va_rf v29) dX0_load_69 rfl rfl (zrf_ref _) ?_
          refine ez_iload_n (i := 3) (x := v30) dX0_load_70 rfl rfl ?_
          refine ez_iload (i := 4) (x := v31) dX0_load_71 rfl ?_
          refine ez_iadd dX0_load_73 ?_
          rcases v29 with _ | a34
          · replace h := zcs_n h
            obtain ⟨hr35, h⟩ := zgd_some h
            refine ex_callN (C := RX3) (Y' := YX3_sample) (vs := [.int (v30 + v31)]) (rest := [.int v32, .ref v33]) dX0_load_74 rfl zkX3_sample q404 q405 q406 znX3_sample rfl (Nat.le_of_ble_eq_true rfl) hr35.1 hr35.2 ?_
            obtain rfl := Option.some.inj h
            exact zTH_out (fun x hx => by cases hx) kq
          · replace h := zcs_s h
            obtain ⟨ob36, hx37, h⟩ := zbj_some h
            obtain ⟨r38, g39, hq40, h⟩ := zbd_some h
            refine ez_callV (C := RX3) (Tt := TX3) (N := 3) (Y' := YX3_sample) (a := a34) (vs := [.int (v30 + v31)]) (rest := [.int v32, .ref v33]) dX0_load_74 rfl zkX3_sample q404 q405 rfl q406 (zob1 hx37) znX3_sample (Nat.le_of_ble_eq_true rfl) (Nat.le_of_ble_eq_true rfl) rfl (wX3_sample (d := d + 0) hq40 ?_)
            rcases r38 with v41 | X42
            · replace h := zsm_l h
              refine zBack_v ?_
              show zEF G (d + 9) K YX0_load 77 [none, some (.ref v28), some (.ref a34), some (.int v30), some (.int v31)] [.float v41, .int v32, .ref v33] g39 Q
              refine ez_goto (tgt := 81) dX0_load_77 (by decide) ?_
              exact hj26 g39 v28 (some a34) v30 v31 v41 v32 v33 h
            · replace h := zsm_r h
              refine zBack_t ?_
              obtain rfl := Option.some.inj h
              exact zTH_out (fun x hx => by cases hx) kq
        · refine ez_if_ne (tgt := 69) dX0_load_55 (by decide) (fun hc => ?_) (fun hc => ?_)
          · replace h := zif_f hc h
            exact hj43 g y1 y2 y3 y4 y4 a12 h
          · replace h := zif_t hc h
            refine ez_aload_n (i := 2) (v := va_rf y2) dX0_load_58 rfl rfl (zrf_ref _) ?_
            refine ez_iload_n (i := 3) (x := y3) dX0_load_59 rfl rfl ?_
            refine ez_iload (i := 4) (x := y4) dX0_load_60 rfl ?_
            refine ez_iadd dX0_load_62 ?_
            rcases y2 with _ | a44
            · replace h := zcs_n h
              obtain ⟨hr45, h⟩ := zgd_some h
              refine ex_callN (C := RX3) (Y' := YX3_has) (vs := [.int (y3 + y4)]) (rest := [.int y4, .ref a12]) dX0_load_63 rfl zkX3_has q400 q401 q402 znX3_has rfl (Nat.le_of_ble_eq_true rfl) hr45.1 hr45.2 ?_
              obtain rfl := Option.some.inj h
              exact zTH_out (fun x hx => by cases hx) kq
            · replace h := zcs_s h
              obtain ⟨ob46, hx47, h⟩ := zbj_some h
              obtain ⟨r48, g49, hq50, h⟩ := zbd_some h
              refine ez_callV (C := RX3) (Tt := TX3) (N := 3) (Y' := YX3_has) (a := a44) (vs := [.int (y3 + y4)]) (rest := [.int y4, .ref a12]) dX0_load_63 rfl zkX3_has q400 q401 rfl q402 (zob1 hx47) znX3_has (Nat.le_of_ble_eq_true rfl) (Nat.le_of_ble_eq_true rfl) rfl (wX3_has (d := d + 8) hq50 (zBack_v ?_))
              show zEF G (d + 9) K YX0_load 66 [none, some (.ref y1), some (.ref a44), some (.int y3), some (.int y4)] [.int r48, .int y4, .ref a12] g49 Q
              refine ez_if_eq (tgt := 80) dX0_load_66 (by decide) (fun hc => ?_) (fun hc => ?_)
              · replace h := zif_t hc h
                refine ez_fconst0 dX0_load_80 ?_
                exact hj26 g49 y1 (some a44) y3 y4 FP.fconst0 y4 a12 h
              · replace h := zif_f hc h
                exact hj43 g49 y1 (some a44) y3 y4 y4 a12 h
theorem wX0_load {G : zG} {d : Nat} {K : List Nat} {Q : zO → zS → Prop} {g : zS} {a0 : Nat} {b0 : Nat} {p : (Unit ⊕ String) × zS} (h : fX0_load g a0 b0 = some p) (kq : Q (zoV p.1 p.2) p.2) : zEM G (d + 9) K YX0_load [.ref a0, .ref b0] g Q := by
  show zEF G (d + 9) K YX0_load 0 [some (.ref a0), some (.ref b0), none, none, none] [] g Q
  unfold fX0_load at h
  refine ez_aload_n (i := 1) (v := .ref b0) dX0_load_0 rfl rfl rfl ?_
  obtain ⟨i1, hx2, h⟩ := zbj_some h
  refine gX0_192 dX0_load_1 rfl hx2 ?_
  refine ez_iconst (v := -1) dX0_load_4 (by decide) ?_
  refine zjoin_use (fun (j : zS → Nat → Nat → Option Nat → Option ((Unit ⊕ String) × zS)) => ∀ (g3 : zS) (v4 : Nat) (v5 : Nat) (v6 : Option Nat), j g3 v4 v5 v6 = some p → zEF G (d + 9) K YX0_load 21 [some (.ref v4), some (.ref v5), none, none, none] [va_rf v6] g3 Q) h (fun g3 v4 v5 v6 h => ?_) (fun j51 hj51 h => ?_)
  · refine ez_astore_n (i := 2) dX0_load_21 rfl (show 2 < 5 by decide) (zrf_ref _) ?_
    show zEF G (d + 9) K YX0_load 22 [some (.ref v4), some (.ref v5), some (va_rf v6), none, none] [] g3 Q
    refine ez_aload_n (i := 1) (v := .ref v5) dX0_load_22 rfl rfl rfl ?_
    obtain ⟨i7, hx8, h⟩ := zbj_some h
    refine gX0_195 dX0_load_23 rfl hx8 ?_
    refine ez_bipush (v := 8) dX0_load_26 (by decide) ?_
    refine ez_aload_n (i := 0) (v := .ref v4) dX0_load_28 rfl rfl rfl ?_
    obtain ⟨i9, hx10, h⟩ := zbj_some h
    refine gX0_220 dX0_load_29 rfl hx10 ?_
    refine ez_imul dX0_load_32 ?_
    refine ez_iadd dX0_load_33 ?_
    refine ez_istore_n (i := 3) dX0_load_34 rfl (show 3 < 5 by decide) ?_
    refine zEF.eq (pc' := 35) (lo' := [some (.ref v4), some (.ref v5), some (va_rf v6), some (.int (i7 + ((8 : Int32) * i9))), none]) (st' := []) ?_ rfl (by cases v6 <;> rfl) rfl
    refine zlet_use (fun a11 => zEF G (d + 9) K YX0_load 35 [some (.ref v4), some (.ref v5), some (va_rf v6), some (.int a11), none] [] g3 Q) h (fun a11 h => ?_)
    refine ez_iconst (v := 0) dX0_load_35 (by decide) ?_
    refine ez_istore (i := 4) dX0_load_36 (show 4 < 5 by decide) ?_
    show zEF G (d + 9) K YX0_load 38 [some (.ref v4), some (.ref v5), some (va_rf v6), some (.int a11), some (.int (0 : Int32))] [] g3 Q
    refine ez_clr 0 ?_
    refine fX0_load_L38_ok (d := d) (K := K) 1000 g3 v5 v6 a11 (0 : Int32) _ h  kq
  · refine ez_icmp_ne (tgt := 12) dX0_load_5 (by decide) (fun hc => ?_) (fun hc => ?_)
    · replace h := zif_f hc h
      refine ez_aload_n (i := 0) (v := .ref a0) dX0_load_12 rfl rfl rfl ?_
      obtain ⟨a52, hx53, h⟩ := zbj_some h
      refine gX0_31 dX0_load_13 rfl (zgN_some hx53) ?_
      show zEF G (d + 9) K YX0_load 16 [some (.ref a0), some (.ref b0), none, none, none] [.ref a52] g Q
      refine ez_aload_n (i := 1) (v := .ref b0) dX0_load_16 rfl rfl rfl ?_
      obtain ⟨i54, hx55, h⟩ := zbj_some h
      refine gX0_192 dX0_load_17 rfl hx55 ?_
      obtain ⟨a56, hx57, h⟩ := zbj_some h
      refine lX_aa7 dX0_load_20 (zaN_some hx57) ?_
      show zEF G (d + 9) K YX0_load 21 [some (.ref a0), some (.ref b0), none, none, none] [.ref a56] g Q
      exact hj51 g a0 b0 (some a56) h
    · replace h := zif_t hc h
      refine ez_null dX0_load_8 ?_
      refine ez_goto (tgt := 21) dX0_load_9 (by decide) ?_
      exact hj51 g a0 b0 none h
noncomputable def v_shape (g : zS) (a : Nat) (x : UInt32) : Option ((UInt32 ⊕ String) × zS) := zbj (zob g [4, 5, 6, 7, 8, 9, 10, 11] a) fun o => if o.1 = 4 then fX5_shape g a x else if o.1 = 5 then fX5_shape g a x else if o.1 = 6 then fX7_shape g a x else if o.1 = 7 then fX8_shape g a x else if o.1 = 8 then fX9_shape g a x else if o.1 = 9 then fX10_shape g a x else if o.1 = 10 then fX11_shape g a x else if o.1 = 11 then fX12_shape g a x else none
theorem vw_shape_Plug {G : zG} {d : Nat} {K : List Nat} {Y : zM} {pc : Nat} {lo : List (Option Value)} {rest : List Value} {g : zS} {Q : zO → zS → Prop} {a : Nat} {x : UInt32} {ob : Nat × List Value} {p : (UInt32 ⊕ String) × zS} (hd : decode Y.code pc = .ok (.invokevirtual 22, 3)) (ho : RX4 = Y.nm.cls) (hob : zob g [4, 5, 6, 7, 8, 9, 10, 11] a = some ob) (hrm : (rest.map fun v => v.category).sum + 3 ≤ 25) (h : v_shape g a x = some p) (kq : zBack G (d + 9 + 1) K Y pc lo rest Q (zoF p.1 p.2) p.2) : zEF G (d + 9 + 1) K Y pc lo (.float x :: .ref a :: rest) g Q := by
  unfold v_shape at h
  rw [hob] at h
  replace h : (if ob.1 = 4 then fX5_shape g a x else if ob.1 = 5 then fX5_shape g a x else if ob.1 = 6 then fX7_shape g a x else if ob.1 = 7 then fX8_shape g a x else if ob.1 = 8 then fX9_shape g a x else if ob.1 = 9 then fX10_shape g a x else if ob.1 = 10 then fX11_shape g a x else if ob.1 = 11 then fX12_shape g a x else none) = some p := h
  obtain ⟨hv, h2⟩ := zob_some hob
  obtain ⟨ci, fs⟩ := ob
  simp only [List.mem_cons, List.not_mem_nil, or_false] at h2
  rcases h2 with rfl | rfl | rfl | rfl | rfl | rfl | rfl | rfl
  · exact ez_callU (x := ⟨"ScoreThreads$Plug", "shape", "(F)F"⟩) (owner := "ScoreThreads$Plug") (Y' := YX5_shape) (C := RX5) (Tt := TX5) (N := 4) (a := a) (vs := [.float x]) (rest := rest) hd ho zkX5_shape q768 q770 (by decide) (Or.inl q769) q791 rfl q794 hv znX5_shape (Nat.le_of_ble_eq_true rfl) (by show _ + 2 ≤ _; omega) rfl (wX5_shape (d := d + 8) h kq)
  · exact ez_callU (x := ⟨"ScoreThreads$Plug", "shape", "(F)F"⟩) (owner := "ScoreThreads$Plug") (Y' := YX5_shape) (C := RX6) (Tt := TX6) (N := 4) (a := a) (vs := [.float x]) (rest := rest) hd ho zkX5_shape q768 q770 (by decide) (Or.inl q769) q791 rfl q836 hv znX5_shape (Nat.le_of_ble_eq_true rfl) (by show _ + 2 ≤ _; omega) rfl (wX5_shape (d := d + 8) h kq)
  · exact ez_callU (x := ⟨"ScoreThreads$Plug", "shape", "(F)F"⟩) (owner := "ScoreThreads$Plug") (Y' := YX7_shape) (C := RX7) (Tt := TX7) (N := 4) (a := a) (vs := [.float x]) (rest := rest) hd ho zkX7_shape q768 q770 (by decide) (Or.inl q769) q786 rfl q785 hv znX7_shape (Nat.le_of_ble_eq_true rfl) (by show _ + 2 ≤ _; omega) rfl (wX7_shape (d := d + 7) h kq)
  · exact ez_callU (x := ⟨"ScoreThreads$Plug", "shape", "(F)F"⟩) (owner := "ScoreThreads$Plug") (Y' := YX8_shape) (C := RX8) (Tt := TX8) (N := 4) (a := a) (vs := [.float x]) (rest := rest) hd ho zkX8_shape q768 q770 (by decide) (Or.inl q769) q808 rfl q807 hv znX8_shape (Nat.le_of_ble_eq_true rfl) (by show _ + 3 ≤ _; omega) rfl (wX8_shape (d := d + 1) h kq)
  · exact ez_callU (x := ⟨"ScoreThreads$Plug", "shape", "(F)F"⟩) (owner := "ScoreThreads$Plug") (Y' := YX9_shape) (C := RX9) (Tt := TX9) (N := 6) (a := a) (vs := [.float x]) (rest := rest) hd ho zkX9_shape q768 q770 (by decide) (Or.inl q769) q775 rfl q784 hv znX9_shape (Nat.le_of_ble_eq_true rfl) (by show _ + 3 ≤ _; omega) rfl (wX9_shape (d := d + 1) h kq)
  · exact ez_callU (x := ⟨"ScoreThreads$Plug", "shape", "(F)F"⟩) (owner := "ScoreThreads$Plug") (Y' := YX10_shape) (C := RX10) (Tt := TX10) (N := 6) (a := a) (vs := [.float x]) (rest := rest) hd ho zkX10_shape q768 q770 (by decide) (Or.inl q769) q772 rfl q771 hv znX10_shape (Nat.le_of_ble_eq_true rfl) (by show _ + 2 ≤ _; omega) rfl (wX10_shape (d := d + 0) h kq)
  · exact ez_callU (x := ⟨"ScoreThreads$Plug", "shape", "(F)F"⟩) (owner := "ScoreThreads$Plug") (Y' := YX11_shape) (C := RX11) (Tt := TX11) (N := 4) (a := a) (vs := [.float x]) (rest := rest) hd ho zkX11_shape q768 q770 (by decide) (Or.inl q769) q796 rfl q795 hv znX11_shape (Nat.le_of_ble_eq_true rfl) (by show _ + 2 ≤ _; omega) rfl (wX11_shape (d := d + 8) h kq)
  · exact ez_callU (x := ⟨"ScoreThreads$Plug", "shape", "(F)F"⟩) (owner := "ScoreThreads$Plug") (Y' := YX12_shape) (C := RX12) (Tt := TX12) (N := 5) (a := a) (vs := [.float x]) (rest := rest) hd ho zkX12_shape q768 q770 (by decide) (Or.inl q769) q831 rfl q830 hv znX12_shape (Nat.le_of_ble_eq_true rfl) (by show _ + 2 ≤ _; omega) rfl (wX12_shape (d := d + 0) h kq)
def YX4_pass : zM := (yX4_pass, cX4_pass, 4, none, [], true)
theorem zkX4_pass : zMokS YX4_pass := ⟨rfl, rfl, q767, by decide +kernel, by decide +kernel⟩
theorem znX4_pass : (parseMethodDescriptor YX4_pass.nm.desc).map (fun d => d.parameters.length) = some 2 := by decide +kernel
noncomputable def fX4_pass_L2 : Nat → zS → Nat → Nat → Nat → Int32 → (zS → Nat → Option ((Unit ⊕ String) × zS)) → Option ((Unit ⊕ String) × zS)
  | 0, _, _, _, _, _, _ => none
  | n + 1, g, y0, y1, y2, y3, k24 => if (8 : Int32) ≤ y3 then k24 g y0 else zbj (zaF g 1 y1 y3) (fun e1 => zbj (zob g [4, 5, 6, 7, 8, 9, 10, 11] y0) (fun ob3 => zbd (v_shape g y0 e1) (fun r5 g6 => zsm r5 (fun v8 => zbj (zsF g6 1 y2 y3 v8) (fun g10 => fX4_pass_L2 n g10 y0 y1 y2 (y3 + (1 : Int32)) k24)) (fun X9 => some (.inr X9, g6)))))
noncomputable def fX4_pass (g : zS) (a0 : Nat) (b0 : Nat) (b1 : Nat) : Option ((Unit ⊕ String) × zS) := fX4_pass_L2 1000 g a0 b0 b1 (0 : Int32) (fun (g12 : zS) (x13 : Nat) => zbj (zgI g12 [4, 5, 6, 7, 8, 9, 10, 11] x13 3) (fun i14 => zbj (zpV g12 [4, 5, 6, 7, 8, 9, 10, 11] x13 3 (.int (i14 + (1 : Int32)))) (fun g16 => some (.inl (), g16))))
theorem fX4_pass_L2_ok {G : zG} {d : Nat} {K : List Nat} {Q : zO → zS → Prop} : ∀ (n : Nat) (g : zS) (y0 : Nat) (y1 : Nat) (y2 : Nat) (y3 : Int32) (k24 : zS → Nat → Option ((Unit ⊕ String) × zS)) (p : (Unit ⊕ String) × zS) (h : fX4_pass_L2 n g y0 y1 y2 y3 k24 = some p) (hk24 : ∀ (g : zS) (x0 : Nat), k24 g x0 = some p → zEF G (d + 10) K YX4_pass 24 [some (.ref x0), none, none, none] [] g Q) (kq : Q (zoV p.1 p.2) p.2), zEF G (d + 10) K YX4_pass 2 [some (.ref y0), some (.ref y1), some (.ref y2), some (.int y3)] [] g Q := by
  intro n
  induction n with
  | zero =>
    intro g y0 y1 y2 y3 k24 p h hk24 kq
    rw [fX4_pass_L2] at h
    cases h
  | succ n ih =>
    intro g y0 y1 y2 y3 k24 p h hk24 kq
    rw [fX4_pass_L2] at h
    refine ez_iload_n (i := 3) (x := y3) dX4_pass_2 rfl rfl ?_
    refine ez_bipush (v := 8) dX4_pass_3 (by decide) ?_
    refine ez_icmp_ge (tgt := 24) dX4_pass_5 (by decide) (fun hc => ?_) (fun hc => ?_)
    · replace h := zif_t hc h
      refine ez_clr 1 ?_
      refine ez_clr 2 ?_
      refine ez_clr 3 ?_
      exact hk24 g y0 h
    · replace h := zif_f hc h
      refine ez_aload_n (i := 2) (v := .ref y2) dX4_pass_8 rfl rfl rfl ?_
      refine ez_iload_n (i := 3) (x := y3) dX4_pass_9 rfl rfl ?_
      refine ez_aload_n (i := 0) (v := .ref y0) dX4_pass_10 rfl rfl rfl ?_
      refine ez_aload_n (i := 1) (v := .ref y1) dX4_pass_11 rfl rfl rfl ?_
      refine ez_iload_n (i := 3) (x := y3) dX4_pass_12 rfl rfl ?_
      obtain ⟨e1, hx2, h⟩ := zbj_some h
      refine lX_fa dX4_pass_13 hx2 ?_
      obtain ⟨ob3, hx4, h⟩ := zbj_some h
      obtain ⟨r5, g6, hq7, h⟩ := zbd_some h
      refine vw_shape_Plug (a := y0) (d := d + 0) (rest := [.int y3, .ref y2]) dX4_pass_14 rfl hx4 (Nat.le_of_ble_eq_true rfl) hq7 ?_
      rcases r5 with v8 | X9
      · replace h := zsm_l h
        refine zBack_v ?_
        show zEF G (d + 10) K YX4_pass 17 [some (.ref y0), some (.ref y1), some (.ref y2), some (.int y3)] [.float v8, .int y3, .ref y2] g6 Q
        obtain ⟨g10, hx11, h⟩ := zbj_some h
        refine sX_fa dX4_pass_17 hx11 ?_
        refine ez_iinc (x := y3) (v := (y3 + (1 : Int32))) dX4_pass_18 rfl rfl (show 3 < 4 by decide) ?_
        show zEF G (d + 10) K YX4_pass 21 [some (.ref y0), some (.ref y1), some (.ref y2), some (.int (y3 + (1 : Int32)))] [] g10 Q
        refine ez_goto (tgt := 2) dX4_pass_21 (by decide) ?_
        exact ih g10 y0 y1 y2 (y3 + (1 : Int32)) _ _ h hk24 kq
      · replace h := zsm_r h
        refine zBack_t ?_
        obtain rfl := Option.some.inj h
        exact zTH_out (fun x hx => by cases hx) kq
theorem wX4_pass {G : zG} {d : Nat} {K : List Nat} {Q : zO → zS → Prop} {g : zS} {a0 : Nat} {b0 : Nat} {b1 : Nat} {p : (Unit ⊕ String) × zS} (h : fX4_pass g a0 b0 b1 = some p) (kq : Q (zoV p.1 p.2) p.2) : zEM G (d + 10) K YX4_pass [.ref a0, .ref b0, .ref b1] g Q := by
  show zEF G (d + 10) K YX4_pass 0 [some (.ref a0), some (.ref b0), some (.ref b1), none] [] g Q
  unfold fX4_pass at h
  refine ez_iconst (v := 0) dX4_pass_0 (by decide) ?_
  refine ez_istore_n (i := 3) dX4_pass_1 rfl (show 3 < 4 by decide) ?_
  show zEF G (d + 10) K YX4_pass 2 [some (.ref a0), some (.ref b0), some (.ref b1), some (.int (0 : Int32))] [] g Q
  refine fX4_pass_L2_ok (d := d) (K := K) 1000 g a0 b0 b1 (0 : Int32) _ _ h (fun g12 x13 h => ?_) kq
  refine ez_aload_n (i := 0) (v := .ref x13) dX4_pass_24 rfl rfl rfl ?_
  refine ez_dup dX4_pass_25 rfl ?_
  obtain ⟨i14, hx15, h⟩ := zbj_some h
  refine gX4_26 dX4_pass_26 rfl hx15 ?_
  refine ez_iconst (v := 1) dX4_pass_29 (by decide) ?_
  refine ez_iadd dX4_pass_30 ?_
  obtain ⟨g16, hx17, h⟩ := zbj_some h
  refine pX4_26 (x := (i14 + (1 : Int32))) dX4_pass_31 rfl hx17 ?_
  obtain rfl := Option.some.inj h
  exact ez_vret dX4_pass_34 rfl kq
noncomputable def v_pass (g : zS) (a : Nat) (x y : Nat) : Option ((Unit ⊕ String) × zS) := zbj (zob g [4, 5, 6, 7, 8, 9, 10, 11] a) fun o => if o.1 = 4 then fX4_pass g a x y else if o.1 = 5 then fX4_pass g a x y else if o.1 = 6 then fX4_pass g a x y else if o.1 = 7 then fX4_pass g a x y else if o.1 = 8 then fX4_pass g a x y else if o.1 = 9 then fX4_pass g a x y else if o.1 = 10 then fX4_pass g a x y else if o.1 = 11 then fX4_pass g a x y else none
theorem vw_pass_ScoreThreads {G : zG} {d : Nat} {Y : zM} {pc : Nat} {lo : List (Option Value)} {rest : List Value} {g : zS} {Q : zO → zS → Prop} {a : Nat} {x y : Nat} {ob : Nat × List Value} {p : (Unit ⊕ String) × zS} (hd : decode Y.code pc = .ok (.invokevirtual 293, 3)) (ho : RX0 = Y.nm.cls) (hob : zob g [4, 5, 6, 7, 8, 9, 10, 11] a = some ob) (hrm : (rest.map fun v => v.category).sum + 4 ≤ 25) (h : v_pass g a x y = some p) (kq : zBack G (d + 10 + 1) [] Y pc lo rest Q (zoV p.1 p.2) p.2) : zEF G (d + 10 + 1) [] Y pc lo (.ref y :: .ref x :: .ref a :: rest) g Q := by
  unfold v_pass at h
  rw [hob] at h
  replace h : (if ob.1 = 4 then fX4_pass g a x y else if ob.1 = 5 then fX4_pass g a x y else if ob.1 = 6 then fX4_pass g a x y else if ob.1 = 7 then fX4_pass g a x y else if ob.1 = 8 then fX4_pass g a x y else if ob.1 = 9 then fX4_pass g a x y else if ob.1 = 10 then fX4_pass g a x y else if ob.1 = 11 then fX4_pass g a x y else none) = some p := h
  obtain ⟨hv, h2⟩ := zob_some hob
  obtain ⟨ci, fs⟩ := ob
  simp only [List.mem_cons, List.not_mem_nil, or_false] at h2
  rcases h2 with rfl | rfl | rfl | rfl | rfl | rfl | rfl | rfl
  · exact ez_callY (x := ⟨"ScoreThreads$Plug", "pass", "([F[F)V"⟩) (owner := "ScoreThreads$Plug") (Y' := YX4_pass) (C := RX5) (Tt := TX5) (N := 4) (a := a) (vs := [.ref x, .ref y]) (rest := rest) hd ho zkX4_pass q756 q758 (by decide) (Or.inr ⟨YX4_pass, rfl, fun _ => rfl, q757, q767⟩) q757 rfl q762 hv (by simp) znX4_pass (Nat.le_of_ble_eq_true rfl) (by show _ + 4 ≤ _; omega) rfl (wX4_pass (d := d + 0) h kq)
  · exact ez_callY (x := ⟨"ScoreThreads$Plug", "pass", "([F[F)V"⟩) (owner := "ScoreThreads$Plug") (Y' := YX4_pass) (C := RX6) (Tt := TX6) (N := 4) (a := a) (vs := [.ref x, .ref y]) (rest := rest) hd ho zkX4_pass q756 q758 (by decide) (Or.inr ⟨YX4_pass, rfl, fun _ => rfl, q757, q767⟩) q757 rfl q766 hv (by simp) znX4_pass (Nat.le_of_ble_eq_true rfl) (by show _ + 4 ≤ _; omega) rfl (wX4_pass (d := d + 0) h kq)
  · exact ez_callY (x := ⟨"ScoreThreads$Plug", "pass", "([F[F)V"⟩) (owner := "ScoreThreads$Plug") (Y' := YX4_pass) (C := RX7) (Tt := TX7) (N := 4) (a := a) (vs := [.ref x, .ref y]) (rest := rest) hd ho zkX4_pass q756 q758 (by decide) (Or.inr ⟨YX4_pass, rfl, fun _ => rfl, q757, q767⟩) q757 rfl q761 hv (by simp) znX4_pass (Nat.le_of_ble_eq_true rfl) (by show _ + 4 ≤ _; omega) rfl (wX4_pass (d := d + 0) h kq)
  · exact ez_callY (x := ⟨"ScoreThreads$Plug", "pass", "([F[F)V"⟩) (owner := "ScoreThreads$Plug") (Y' := YX4_pass) (C := RX8) (Tt := TX8) (N := 4) (a := a) (vs := [.ref x, .ref y]) (rest := rest) hd ho zkX4_pass q756 q758 (by decide) (Or.inr ⟨YX4_pass, rfl, fun _ => rfl, q757, q767⟩) q757 rfl q764 hv (by simp) znX4_pass (Nat.le_of_ble_eq_true rfl) (by show _ + 4 ≤ _; omega) rfl (wX4_pass (d := d + 0) h kq)
  · exact ez_callY (x := ⟨"ScoreThreads$Plug", "pass", "([F[F)V"⟩) (owner := "ScoreThreads$Plug") (Y' := YX4_pass) (C := RX9) (Tt := TX9) (N := 6) (a := a) (vs := [.ref x, .ref y]) (rest := rest) hd ho zkX4_pass q756 q758 (by decide) (Or.inr ⟨YX4_pass, rfl, fun _ => rfl, q757, q767⟩) q757 rfl q760 hv (by simp) znX4_pass (Nat.le_of_ble_eq_true rfl) (by show _ + 4 ≤ _; omega) rfl (wX4_pass (d := d + 0) h kq)
  · exact ez_callY (x := ⟨"ScoreThreads$Plug", "pass", "([F[F)V"⟩) (owner := "ScoreThreads$Plug") (Y' := YX4_pass) (C := RX10) (Tt := TX10) (N := 6) (a := a) (vs := [.ref x, .ref y]) (rest := rest) hd ho zkX4_pass q756 q758 (by decide) (Or.inr ⟨YX4_pass, rfl, fun _ => rfl, q757, q767⟩) q757 rfl q759 hv (by simp) znX4_pass (Nat.le_of_ble_eq_true rfl) (by show _ + 4 ≤ _; omega) rfl (wX4_pass (d := d + 0) h kq)
  · exact ez_callY (x := ⟨"ScoreThreads$Plug", "pass", "([F[F)V"⟩) (owner := "ScoreThreads$Plug") (Y' := YX4_pass) (C := RX11) (Tt := TX11) (N := 4) (a := a) (vs := [.ref x, .ref y]) (rest := rest) hd ho zkX4_pass q756 q758 (by decide) (Or.inr ⟨YX4_pass, rfl, fun _ => rfl, q757, q767⟩) q757 rfl q763 hv (by simp) znX4_pass (Nat.le_of_ble_eq_true rfl) (by show _ + 4 ≤ _; omega) rfl (wX4_pass (d := d + 0) h kq)
  · exact ez_callY (x := ⟨"ScoreThreads$Plug", "pass", "([F[F)V"⟩) (owner := "ScoreThreads$Plug") (Y' := YX4_pass) (C := RX12) (Tt := TX12) (N := 5) (a := a) (vs := [.ref x, .ref y]) (rest := rest) hd ho zkX4_pass q756 q758 (by decide) (Or.inr ⟨YX4_pass, rfl, fun _ => rfl, q757, q767⟩) q757 rfl q765 hv (by simp) znX4_pass (Nat.le_of_ble_eq_true rfl) (by show _ + 4 ≤ _; omega) rfl (wX4_pass (d := d + 0) h kq)
def YX0_tried : zM := (yX0_tried, cX0_tried, 3, (Option.some Jvm.ClassFile.FieldType.int), [(0, 55, 56, 174), (0, 55, 59, 121), (0, 55, 62, 297)], false)
theorem zkX0_tried : zMok YX0_tried := ⟨rfl, q737, by decide +kernel, by decide +kernel⟩
theorem znX0_tried : (parseMethodDescriptor YX0_tried.nm.desc).map (fun d => d.parameters.length) = some 1 := by decide +kernel
theorem slX0_tried : Cond.selects RX0 yX0_tried yX0_tried ∈ lw_all := lw_w 15 rfl rfl
noncomputable def fX0_tried (g : zS) (a0 : Nat) (b0 : Nat) : Option (Int32 × zS) := zbj (zgI g [1] b0 8) (fun i1 => if i1 = (-1 : Int32) then zbj (zob g [0] a0) (fun ob33 => zbd (fX0_load g a0 b0) (fun r35 g36 => zsm r35 (fun _ => some ((0 : Int32), g36)) (fun X39 => if X39 = zAIO then some ((2 : Int32), g36) else if X39 = zNPE then some ((1 : Int32), g36) else none))) else zbj (zgN g [1] b0 6) (fun a3 => zbj (zgI g [1] b0 8) (fun i5 => zbj (zaC g a3 i5) (fun o7 => zbj (zgN g [1] b0 9) (fun a9 => zbj (zgN g [1] b0 10) (fun a11 => zbj (o7) (fun a13 => zbj (zob g [4, 5, 6, 7, 8, 9, 10, 11] a13) (fun ob15 => zbd (v_pass g a13 a9 a11) (fun r17 g18 => zsm r17 (fun _ => zbj (zgN g18 [1] b0 9) (fun a22 => zbj (zgN g18 [1] b0 10) (fun a24 => zbj (zpV g18 [1] b0 9 (va_rf (some a24))) (fun g26 => zbj (zpV g26 [1] b0 10 (va_rf (some a22))) (fun g28 => some ((0 : Int32), g28)))))) (fun X21 => if X21 = zAIO then some ((2 : Int32), g18) else if X21 = zARI then some ((6 : Int32), g18) else if X21 = zNPE then some ((1 : Int32), g18) else none))))))))))
theorem wX0_tried {G : zG} {d : Nat} {Q : zO → zS → Prop} {g : zS} {a0 : Nat} {b0 : Nat} {p : Int32 × zS} (h : fX0_tried g a0 b0 = some p) (kq : Q (.inl (some (.int p.1))) p.2) : zEM G (d + 11) [] YX0_tried [.ref a0, .ref b0] g Q := by
  show zEF G (d + 11) [] YX0_tried 0 [some (.ref a0), some (.ref b0), none] [] g Q
  unfold fX0_tried at h
  refine ez_aload_n (i := 1) (v := .ref b0) dX0_tried_0 rfl rfl rfl ?_
  obtain ⟨i1, hx2, h⟩ := zbj_some h
  refine gX0_235 dX0_tried_1 rfl hx2 ?_
  refine ez_iconst (v := -1) dX0_tried_4 (by decide) ?_
  refine ez_icmp_ne (tgt := 16) dX0_tried_5 (by decide) (fun hc => ?_) (fun hc => ?_)
  · replace h := zif_f hc h
    refine ez_aload_n (i := 1) (v := .ref b0) dX0_tried_16 rfl rfl rfl ?_
    obtain ⟨a3, hx4, h⟩ := zbj_some h
    refine gX0_204 dX0_tried_17 rfl (zgN_some hx4) ?_
    show zEF G (d + 11) [] YX0_tried 20 [some (.ref a0), some (.ref b0), none] [.ref a3] g Q
    refine ez_aload_n (i := 1) (v := .ref b0) dX0_tried_20 rfl rfl rfl ?_
    obtain ⟨i5, hx6, h⟩ := zbj_some h
    refine gX0_235 dX0_tried_21 rfl hx6 ?_
    obtain ⟨o7, hx8, h⟩ := zbj_some h
    refine lX_aac dX0_tried_24 hx8 ?_
    refine ez_aload_n (i := 1) (v := .ref b0) dX0_tried_25 rfl rfl rfl ?_
    obtain ⟨a9, hx10, h⟩ := zbj_some h
    refine gX0_287 dX0_tried_26 rfl (zgN_some hx10) ?_
    show zEF G (d + 11) [] YX0_tried 29 [some (.ref a0), some (.ref b0), none] [.ref a9, va_rf o7] g Q
    refine ez_aload_n (i := 1) (v := .ref b0) dX0_tried_29 rfl rfl rfl ?_
    obtain ⟨a11, hx12, h⟩ := zbj_some h
    refine gX0_290 dX0_tried_30 rfl (zgN_some hx12) ?_
    show zEF G (d + 11) [] YX0_tried 33 [some (.ref a0), some (.ref b0), none] [.ref a11, .ref a9, va_rf o7] g Q
    obtain ⟨a13, ho14, h⟩ := zbj_some h
    rw [ho14]
    obtain ⟨ob15, hx16, h⟩ := zbj_some h
    obtain ⟨r17, g18, hq19, h⟩ := zbd_some h
    refine vw_pass_ScoreThreads (a := a13) (d := d + 0) (rest := []) dX0_tried_33 rfl hx16 (Nat.le_of_ble_eq_true rfl) hq19 ?_
    rcases r17 with v20 | X21
    · replace h := zsm_l h
      refine zBack_n ?_
      show zEF G (d + 11) [] YX0_tried 36 [some (.ref a0), some (.ref b0), none] [] g18 Q
      refine ez_aload_n (i := 1) (v := .ref b0) dX0_tried_36 rfl rfl rfl ?_
      obtain ⟨a22, hx23, h⟩ := zbj_some h
      refine gX0_287 dX0_tried_37 rfl (zgN_some hx23) ?_
      show zEF G (d + 11) [] YX0_tried 40 [some (.ref a0), some (.ref b0), none] [.ref a22] g18 Q
      refine ez_astore_n (i := 2) dX0_tried_40 rfl (show 2 < 3 by decide) rfl ?_
      show zEF G (d + 11) [] YX0_tried 41 [some (.ref a0), some (.ref b0), some (.ref a22)] [] g18 Q
      refine ez_aload_n (i := 1) (v := .ref b0) dX0_tried_41 rfl rfl rfl ?_
      refine ez_aload_n (i := 1) (v := .ref b0) dX0_tried_42 rfl rfl rfl ?_
      obtain ⟨a24, hx25, h⟩ := zbj_some h
      refine gX0_290 dX0_tried_43 rfl (zgN_some hx25) ?_
      show zEF G (d + 11) [] YX0_tried 46 [some (.ref a0), some (.ref b0), some (.ref a22)] [.ref a24, .ref b0] g18 Q
      obtain ⟨g26, hx27, h⟩ := zbj_some h
      refine pX0_287 (x := (some a24)) dX0_tried_46 rfl hx27 ?_
      refine ez_aload_n (i := 1) (v := .ref b0) dX0_tried_49 rfl rfl rfl ?_
      refine ez_aload_n (i := 2) (v := .ref a22) dX0_tried_50 rfl rfl rfl ?_
      obtain ⟨g28, hx29, h⟩ := zbj_some h
      refine pX0_290 (x := (some a22)) dX0_tried_51 rfl hx29 ?_
      refine ez_iconst (v := 0) dX0_tried_54 (by decide) ?_
      obtain rfl := Option.some.inj h
      exact ez_iret dX0_tried_55 rfl rfl kq
    · replace h := zsm_r h
      refine zBack_t ?_
      by_cases he30 : X21 = zAIO
      · replace h := zif_t he30 h
        rw [he30]
        refine zTH_catch (h := 59) (Or.inr ⟨by decide, by decide, "java/lang/NullPointerException", q572, Or.inl ⟨nc_46, Or.inr ⟨by decide, by decide, "java/lang/ArrayIndexOutOfBoundsException", q351, Or.inr ⟨q366, rfl⟩⟩⟩⟩) ?_
        refine ez_astore_n (i := 2) dX0_tried_59 rfl (show 2 < 3 by decide) rfl ?_
        show zEF G (d + 11) [] YX0_tried 60 [some (.ref a0), some (.ref b0), some (.ref (g18.sz - 1))] [] g18 Q
        refine ez_iconst (v := 2) dX0_tried_60 (by decide) ?_
        obtain rfl := Option.some.inj h
        exact ez_iret dX0_tried_61 rfl rfl kq
      · replace h := zif_f he30 h
        by_cases he31 : X21 = zARI
        · replace h := zif_t he31 h
          rw [he31]
          refine zTH_catch (h := 62) (Or.inr ⟨by decide, by decide, "java/lang/NullPointerException", q572, Or.inl ⟨nc_50, Or.inr ⟨by decide, by decide, "java/lang/ArrayIndexOutOfBoundsException", q351, Or.inl ⟨nc_45, Or.inr ⟨by decide, by decide, "java/lang/ArithmeticException", q738, Or.inr ⟨q750, rfl⟩⟩⟩⟩⟩⟩) ?_
          refine ez_astore_n (i := 2) dX0_tried_62 rfl (show 2 < 3 by decide) rfl ?_
          show zEF G (d + 11) [] YX0_tried 63 [some (.ref a0), some (.ref b0), some (.ref (g18.sz - 1))] [] g18 Q
          refine ez_bipush (v := 6) dX0_tried_63 (by decide) ?_
          obtain rfl := Option.some.inj h
          exact ez_iret dX0_tried_65 rfl rfl kq
        · replace h := zif_f he31 h
          by_cases he32 : X21 = zNPE
          · replace h := zif_t he32 h
            rw [he32]
            refine zTH_catch (h := 56) (Or.inr ⟨by decide, by decide, "java/lang/NullPointerException", q572, Or.inr ⟨q594, rfl⟩⟩) ?_
            refine ez_astore_n (i := 2) dX0_tried_56 rfl (show 2 < 3 by decide) rfl ?_
            show zEF G (d + 11) [] YX0_tried 57 [some (.ref a0), some (.ref b0), some (.ref (g18.sz - 1))] [] g18 Q
            refine ez_iconst (v := 1) dX0_tried_57 (by decide) ?_
            obtain rfl := Option.some.inj h
            exact ez_iret dX0_tried_58 rfl rfl kq
          · replace h := zif_f he32 h
            cases h
  · replace h := zif_t hc h
    refine ez_aload_n (i := 0) (v := .ref a0) dX0_tried_8 rfl rfl rfl ?_
    refine ez_aload_n (i := 1) (v := .ref b0) dX0_tried_9 rfl rfl rfl ?_
    obtain ⟨ob33, hx34, h⟩ := zbj_some h
    obtain ⟨r35, g36, hq37, h⟩ := zbd_some h
    refine ez_callV (C := RX0) (Tt := TX0) (N := 20) (Y' := YX0_load) (a := a0) (vs := [.ref b0]) (rest := []) dX0_tried_10 rfl zkX0_load q752 q754 rfl slX0_load (zob1 hx34) znX0_load (Nat.le_of_ble_eq_true rfl) (Nat.le_of_ble_eq_true rfl) rfl (wX0_load (d := d + 1) hq37 ?_)
    rcases r35 with v38 | X39
    · replace h := zsm_l h
      refine zBack_n ?_
      show zEF G (d + 11) [] YX0_tried 13 [some (.ref a0), some (.ref b0), none] [] g36 Q
      refine ez_goto (tgt := 54) dX0_tried_13 (by decide) ?_
      refine ez_iconst (v := 0) dX0_tried_54 (by decide) ?_
      obtain rfl := Option.some.inj h
      exact ez_iret dX0_tried_55 rfl rfl kq
    · replace h := zsm_r h
      refine zBack_t ?_
      by_cases he40 : X39 = zAIO
      · replace h := zif_t he40 h
        rw [he40]
        refine zTH_catch (h := 59) (Or.inr ⟨by decide, by decide, "java/lang/NullPointerException", q572, Or.inl ⟨nc_46, Or.inr ⟨by decide, by decide, "java/lang/ArrayIndexOutOfBoundsException", q351, Or.inr ⟨q366, rfl⟩⟩⟩⟩) ?_
        refine ez_astore_n (i := 2) dX0_tried_59 rfl (show 2 < 3 by decide) rfl ?_
        show zEF G (d + 11) [] YX0_tried 60 [some (.ref a0), some (.ref b0), some (.ref (g36.sz - 1))] [] g36 Q
        refine ez_iconst (v := 2) dX0_tried_60 (by decide) ?_
        obtain rfl := Option.some.inj h
        exact ez_iret dX0_tried_61 rfl rfl kq
      · replace h := zif_f he40 h
        by_cases he41 : X39 = zNPE
        · replace h := zif_t he41 h
          rw [he41]
          refine zTH_catch (h := 56) (Or.inr ⟨by decide, by decide, "java/lang/NullPointerException", q572, Or.inr ⟨q594, rfl⟩⟩) ?_
          refine ez_astore_n (i := 2) dX0_tried_56 rfl (show 2 < 3 by decide) rfl ?_
          show zEF G (d + 11) [] YX0_tried 57 [some (.ref a0), some (.ref b0), some (.ref (g36.sz - 1))] [] g36 Q
          refine ez_iconst (v := 1) dX0_tried_57 (by decide) ?_
          obtain rfl := Option.some.inj h
          exact ez_iret dX0_tried_58 rfl rfl kq
        · replace h := zif_f he41 h
          cases h
def YX0_work : zM := (yX0_work, cX0_work, 5, (Option.some Jvm.ClassFile.FieldType.int), [], false)
theorem zkX0_work : zMok YX0_work := ⟨rfl, q733, by decide +kernel, by decide +kernel⟩
theorem znX0_work : (parseMethodDescriptor YX0_work.nm.desc).map (fun d => d.parameters.length) = some 2 := by decide +kernel
theorem slX0_work : Cond.selects RX0 yX0_work yX0_work ∈ lw_all := lw_w 14 rfl rfl
noncomputable def fX0_work (g : zS) (a0 : Nat) (b0 : Int32) (b1 : Int32) : Option (Int32 × zS) := zbj (zgI g [0] a0 12) (fun i1 => zbj (zpV g [0] a0 12 (.int (i1 + (1 : Int32)))) (fun g3 => zbj (zgN g3 [0] a0 4) (fun a5 => zbj (zaN g3 9 a5 b1) (fun a7 => zbj (zob g3 [0] a0) (fun ob9 => zbd (fX0_tried g3 a0 a7) (fun r11 g12 => zbj (zgN g12 [0] a0 5) (fun a14 => zbj (zsI g12 0 a14 b0 (-1 : Int32)) (fun g16 => if r11 = 0 then zbj (zgI g16 [1] a7 8) (fun i52 => zbj (zob g16 [1] a7) (fun ob54 => zbd (fX1_next g16 a7 (i52 + (1 : Int32))) (fun r56 g57 => zbj (zpV g57 [1] a7 8 (.int r56)) (fun g59 => zbj (zgI g59 [1] a7 8) (fun i61 => zjoin (fun (g63 : zS) (v64 : Nat) (v65 : Int32) (v66 : Int32) (v67 : Nat) (v68 : Int32) (v69 : Nat) => zbj (zpV g63 [1] v69 7 (.int v68)) (fun g70 => zbj (zgN g70 [0] v64 5) (fun a72 => zbj (zgI g70 [1] v67 7) (fun i74 => if i74 = (2 : Int32) then zbj (zsI g70 0 a72 v65 v66) (fun g78 => some ((1 : Int32), g78)) else zbj (zsI g70 0 a72 v65 (-1 : Int32)) (fun g76 => some ((1 : Int32), g76)))))) (fun j80 => if i61 = (4 : Int32) then j80 g59 a0 b0 b1 a7 (3 : Int32) a7 else j80 g59 a0 b0 b1 a7 (2 : Int32) a7)))))) else zbj (zgN g16 [1] a7 12) (fun a18 => zbj (zgI g16 [1] a7 11) (fun i20 => zbj (zgI g16 [1] a7 8) (fun i22 => zbj (zsI g16 0 a18 i20 i22) (fun g24 => zbj (zgN g24 [1] a7 13) (fun a26 => zbj (zgI g24 [1] a7 11) (fun i28 => zbj (zsI g24 0 a26 i28 r11) (fun g30 => zbj (zgI g30 [1] a7 11) (fun i32 => zbj (zpV g30 [1] a7 11 (.int (i32 + (1 : Int32)))) (fun g34 => zbj (zgI g34 [1] a7 11) (fun i36 => zjoin (fun (g38 : zS) (v39 : Nat) (v40 : Int32) (v41 : Nat) => zbj (zpV g38 [1] v41 7 (.int v40)) (fun g42 => zbj (zgI g42 [1] v39 11) (fun i44 => if i44 = (2 : Int32) then zbj (zob g42 [1] v39) (fun ob46 => zbd (fX1_silence g42 v39) (fun _ g49 => some ((2 : Int32), g49))) else some ((2 : Int32), g42)))) (fun j51 => if i36 = (1 : Int32) then j51 g34 a7 (4 : Int32) a7 else j51 g34 a7 (5 : Int32) a7)))))))))))))))))))
theorem wX0_work {G : zG} {d : Nat} {Q : zO → zS → Prop} {g : zS} {a0 : Nat} {b0 : Int32} {b1 : Int32} {p : Int32 × zS} (h : fX0_work g a0 b0 b1 = some p) (kq : Q (.inl (some (.int p.1))) p.2) : zEM G (d + 12) [] YX0_work [.ref a0, .int b0, .int b1] g Q := by
  show zEF G (d + 12) [] YX0_work 0 [some (.ref a0), some (.int b0), some (.int b1), none, none] [] g Q
  unfold fX0_work at h
  refine ez_aload_n (i := 0) (v := .ref a0) dX0_work_0 rfl rfl rfl ?_
  refine ez_dup dX0_work_1 rfl ?_
  obtain ⟨i1, hx2, h⟩ := zbj_some h
  refine gX0_264 dX0_work_2 rfl hx2 ?_
  refine ez_iconst (v := 1) dX0_work_5 (by decide) ?_
  refine ez_iadd dX0_work_6 ?_
  obtain ⟨g3, hx4, h⟩ := zbj_some h
  refine pX0_264 (x := (i1 + (1 : Int32))) dX0_work_7 rfl hx4 ?_
  refine ez_aload_n (i := 0) (v := .ref a0) dX0_work_10 rfl rfl rfl ?_
  obtain ⟨a5, hx6, h⟩ := zbj_some h
  refine gX0_55 dX0_work_11 rfl (zgN_some hx6) ?_
  show zEF G (d + 12) [] YX0_work 14 [some (.ref a0), some (.int b0), some (.int b1), none, none] [.ref a5] g3 Q
  refine ez_iload_n (i := 2) (x := b1) dX0_work_14 rfl rfl ?_
  obtain ⟨a7, hx8, h⟩ := zbj_some h
  refine lX_aa9 dX0_work_15 (zaN_some hx8) ?_
  show zEF G (d + 12) [] YX0_work 16 [some (.ref a0), some (.int b0), some (.int b1), none, none] [.ref a7] g3 Q
  refine ez_astore_n (i := 3) dX0_work_16 rfl (show 3 < 5 by decide) rfl ?_
  show zEF G (d + 12) [] YX0_work 17 [some (.ref a0), some (.int b0), some (.int b1), some (.ref a7), none] [] g3 Q
  refine ez_aload_n (i := 0) (v := .ref a0) dX0_work_17 rfl rfl rfl ?_
  refine ez_aload_n (i := 3) (v := .ref a7) dX0_work_18 rfl rfl rfl ?_
  obtain ⟨ob9, hx10, h⟩ := zbj_some h
  obtain ⟨r11, g12, hq13, h⟩ := zbd_some h
  refine ez_callV (C := RX0) (Tt := TX0) (N := 20) (Y' := YX0_tried) (a := a0) (vs := [.ref a7]) (rest := []) dX0_work_19 rfl zkX0_tried q734 q736 rfl slX0_tried (zob1 hx10) znX0_tried (Nat.le_of_ble_eq_true rfl) (Nat.le_of_ble_eq_true rfl) rfl (wX0_tried (d := d + 0) hq13 (zBack_v ?_))
  show zEF G (d + 12) [] YX0_work 22 [some (.ref a0), some (.int b0), some (.int b1), some (.ref a7), none] [.int r11] g12 Q
  refine ez_istore (i := 4) dX0_work_22 (show 4 < 5 by decide) ?_
  show zEF G (d + 12) [] YX0_work 24 [some (.ref a0), some (.int b0), some (.int b1), some (.ref a7), some (.int r11)] [] g12 Q
  refine ez_aload_n (i := 0) (v := .ref a0) dX0_work_24 rfl rfl rfl ?_
  obtain ⟨a14, hx15, h⟩ := zbj_some h
  refine gX0_59 dX0_work_25 rfl (zgN_some hx15) ?_
  show zEF G (d + 12) [] YX0_work 28 [some (.ref a0), some (.int b0), some (.int b1), some (.ref a7), some (.int r11)] [.ref a14] g12 Q
  refine ez_iload_n (i := 1) (x := b0) dX0_work_28 rfl rfl ?_
  refine ez_iconst (v := -1) dX0_work_29 (by decide) ?_
  obtain ⟨g16, hx17, h⟩ := zbj_some h
  refine sX_ia dX0_work_30 hx17 ?_
  refine ez_iload (i := 4) (x := r11) dX0_work_31 rfl ?_
  refine ez_if_ne (tgt := 88) dX0_work_33 (by decide) (fun hc => ?_) (fun hc => ?_)
  · replace h := zif_f hc h
    refine ez_aload_n (i := 3) (v := .ref a7) dX0_work_88 rfl rfl rfl ?_
    obtain ⟨a18, hx19, h⟩ := zbj_some h
    refine gX0_274 dX0_work_89 rfl (zgN_some hx19) ?_
    show zEF G (d + 12) [] YX0_work 92 [some (.ref a0), some (.int b0), some (.int b1), some (.ref a7), some (.int r11)] [.ref a18] g16 Q
    refine ez_aload_n (i := 3) (v := .ref a7) dX0_work_92 rfl rfl rfl ?_
    obtain ⟨i20, hx21, h⟩ := zbj_some h
    refine gX0_238 dX0_work_93 rfl hx21 ?_
    refine ez_aload_n (i := 3) (v := .ref a7) dX0_work_96 rfl rfl rfl ?_
    obtain ⟨i22, hx23, h⟩ := zbj_some h
    refine gX0_235 dX0_work_97 rfl hx23 ?_
    obtain ⟨g24, hx25, h⟩ := zbj_some h
    refine sX_ia dX0_work_100 hx25 ?_
    refine ez_aload_n (i := 3) (v := .ref a7) dX0_work_101 rfl rfl rfl ?_
    obtain ⟨a26, hx27, h⟩ := zbj_some h
    refine gX0_277 dX0_work_102 rfl (zgN_some hx27) ?_
    show zEF G (d + 12) [] YX0_work 105 [some (.ref a0), some (.int b0), some (.int b1), some (.ref a7), some (.int r11)] [.ref a26] g24 Q
    refine ez_aload_n (i := 3) (v := .ref a7) dX0_work_105 rfl rfl rfl ?_
    obtain ⟨i28, hx29, h⟩ := zbj_some h
    refine gX0_238 dX0_work_106 rfl hx29 ?_
    refine ez_iload (i := 4) (x := r11) dX0_work_109 rfl ?_
    obtain ⟨g30, hx31, h⟩ := zbj_some h
    refine sX_ia dX0_work_111 hx31 ?_
    refine ez_aload_n (i := 3) (v := .ref a7) dX0_work_112 rfl rfl rfl ?_
    refine ez_dup dX0_work_113 rfl ?_
    obtain ⟨i32, hx33, h⟩ := zbj_some h
    refine gX0_238 dX0_work_114 rfl hx33 ?_
    refine ez_iconst (v := 1) dX0_work_117 (by decide) ?_
    refine ez_iadd dX0_work_118 ?_
    obtain ⟨g34, hx35, h⟩ := zbj_some h
    refine pX0_238 (x := (i32 + (1 : Int32))) dX0_work_119 rfl hx35 ?_
    refine ez_aload_n (i := 3) (v := .ref a7) dX0_work_122 rfl rfl rfl ?_
    refine ez_aload_n (i := 3) (v := .ref a7) dX0_work_123 rfl rfl rfl ?_
    obtain ⟨i36, hx37, h⟩ := zbj_some h
    refine gX0_238 dX0_work_124 rfl hx37 ?_
    refine ez_iconst (v := 1) dX0_work_127 (by decide) ?_
    refine zjoin_use (fun (j : zS → Nat → Int32 → Nat → Option (Int32 × zS)) => ∀ (g38 : zS) (v39 : Nat) (v40 : Int32) (v41 : Nat), j g38 v39 v40 v41 = some p → zEF G (d + 12) [] YX0_work 136 [none, none, none, some (.ref v39), none] [.int v40, .ref v41] g38 Q) h (fun g38 v39 v40 v41 h => ?_) (fun j51 hj51 h => ?_)
    · obtain ⟨g42, hx43, h⟩ := zbj_some h
      refine pX0_232 (x := v40) dX0_work_136 rfl hx43 ?_
      refine ez_aload_n (i := 3) (v := .ref v39) dX0_work_139 rfl rfl rfl ?_
      obtain ⟨i44, hx45, h⟩ := zbj_some h
      refine gX0_238 dX0_work_140 rfl hx45 ?_
      refine ez_iconst (v := 2) dX0_work_143 (by decide) ?_
      refine ez_icmp_ne (tgt := 151) dX0_work_144 (by decide) (fun hc => ?_) (fun hc => ?_)
      · replace h := zif_f hc h
        refine ez_iconst (v := 2) dX0_work_151 (by decide) ?_
        obtain rfl := Option.some.inj h
        exact ez_iret dX0_work_152 rfl rfl kq
      · replace h := zif_t hc h
        refine ez_aload_n (i := 3) (v := .ref v39) dX0_work_147 rfl rfl rfl ?_
        obtain ⟨ob46, hx47, h⟩ := zbj_some h
        obtain ⟨r48, g49, hq50, h⟩ := zbd_some h
        refine ez_callV (C := RX1) (Tt := TX1) (N := 14) (Y' := YX1_silence) (a := v39) (vs := []) (rest := []) dX0_work_148 rfl zkX1_silence q841 q842 rfl q843 (zob1 hx47) znX1_silence (Nat.le_of_ble_eq_true rfl) (Nat.le_of_ble_eq_true rfl) rfl (wX1_silence (d := d + 11) hq50 (zBack_n ?_))
        show zEF G (d + 12) [] YX0_work 151 [none, none, none, some (.ref v39), none] [] g49 Q
        refine ez_iconst (v := 2) dX0_work_151 (by decide) ?_
        obtain rfl := Option.some.inj h
        exact ez_iret dX0_work_152 rfl rfl kq
    · refine ez_icmp_ne (tgt := 135) dX0_work_128 (by decide) (fun hc => ?_) (fun hc => ?_)
      · replace h := zif_f hc h
        refine ez_iconst (v := 5) dX0_work_135 (by decide) ?_
        refine ez_clr 0 ?_
        refine ez_clr 1 ?_
        refine ez_clr 2 ?_
        refine ez_clr 4 ?_
        exact hj51 g34 a7 (5 : Int32) a7 h
      · replace h := zif_t hc h
        refine ez_iconst (v := 4) dX0_work_131 (by decide) ?_
        refine ez_goto (tgt := 136) dX0_work_132 (by decide) ?_
        refine ez_clr 0 ?_
        refine ez_clr 1 ?_
        refine ez_clr 2 ?_
        refine ez_clr 4 ?_
        exact hj51 g34 a7 (4 : Int32) a7 h
  · replace h := zif_t hc h
    refine ez_aload_n (i := 3) (v := .ref a7) dX0_work_36 rfl rfl rfl ?_
    refine ez_aload_n (i := 3) (v := .ref a7) dX0_work_37 rfl rfl rfl ?_
    refine ez_aload_n (i := 3) (v := .ref a7) dX0_work_38 rfl rfl rfl ?_
    obtain ⟨i52, hx53, h⟩ := zbj_some h
    refine gX0_235 dX0_work_39 rfl hx53 ?_
    refine ez_iconst (v := 1) dX0_work_42 (by decide) ?_
    refine ez_iadd dX0_work_43 ?_
    obtain ⟨ob54, hx55, h⟩ := zbj_some h
    obtain ⟨r56, g57, hq58, h⟩ := zbd_some h
    refine ez_callV (C := RX1) (Tt := TX1) (N := 14) (Y' := YX1_next) (a := a7) (vs := [.int (i52 + (1 : Int32))]) (rest := [.ref a7]) dX0_work_44 rfl zkX1_next q837 q838 rfl q839 (zob1 hx55) znX1_next (Nat.le_of_ble_eq_true rfl) (Nat.le_of_ble_eq_true rfl) rfl (wX1_next (d := d + 11) hq58 (zBack_v ?_))
    show zEF G (d + 12) [] YX0_work 47 [some (.ref a0), some (.int b0), some (.int b1), some (.ref a7), some (.int r11)] [.int r56, .ref a7] g57 Q
    obtain ⟨g59, hx60, h⟩ := zbj_some h
    refine pX0_235 (x := r56) dX0_work_47 rfl hx60 ?_
    refine ez_aload_n (i := 3) (v := .ref a7) dX0_work_50 rfl rfl rfl ?_
    refine ez_aload_n (i := 3) (v := .ref a7) dX0_work_51 rfl rfl rfl ?_
    obtain ⟨i61, hx62, h⟩ := zbj_some h
    refine gX0_235 dX0_work_52 rfl hx62 ?_
    refine ez_iconst (v := 4) dX0_work_55 (by decide) ?_
    refine zjoin_use (fun (j : zS → Nat → Int32 → Int32 → Nat → Int32 → Nat → Option (Int32 × zS)) => ∀ (g63 : zS) (v64 : Nat) (v65 : Int32) (v66 : Int32) (v67 : Nat) (v68 : Int32) (v69 : Nat), j g63 v64 v65 v66 v67 v68 v69 = some p → zEF G (d + 12) [] YX0_work 64 [some (.ref v64), some (.int v65), some (.int v66), some (.ref v67), none] [.int v68, .ref v69] g63 Q) h (fun g63 v64 v65 v66 v67 v68 v69 h => ?_) (fun j80 hj80 h => ?_)
    · obtain ⟨g70, hx71, h⟩ := zbj_some h
      refine pX0_232 (x := v68) dX0_work_64 rfl hx71 ?_
      refine ez_aload_n (i := 0) (v := .ref v64) dX0_work_67 rfl rfl rfl ?_
      obtain ⟨a72, hx73, h⟩ := zbj_some h
      refine gX0_59 dX0_work_68 rfl (zgN_some hx73) ?_
      show zEF G (d + 12) [] YX0_work 71 [some (.ref v64), some (.int v65), some (.int v66), some (.ref v67), none] [.ref a72] g70 Q
      refine ez_iload_n (i := 1) (x := v65) dX0_work_71 rfl rfl ?_
      refine ez_aload_n (i := 3) (v := .ref v67) dX0_work_72 rfl rfl rfl ?_
      obtain ⟨i74, hx75, h⟩ := zbj_some h
      refine gX0_232 dX0_work_73 rfl hx75 ?_
      refine ez_iconst (v := 2) dX0_work_76 (by decide) ?_
      refine ez_icmp_ne (tgt := 84) dX0_work_77 (by decide) (fun hc => ?_) (fun hc => ?_)
      · replace h := zif_f hc h
        refine ez_iconst (v := -1) dX0_work_84 (by decide) ?_
        obtain ⟨g76, hx77, h⟩ := zbj_some h
        refine sX_ia dX0_work_85 hx77 ?_
        refine ez_iconst (v := 1) dX0_work_86 (by decide) ?_
        obtain rfl := Option.some.inj h
        exact ez_iret dX0_work_87 rfl rfl kq
      · replace h := zif_t hc h
        refine ez_iload_n (i := 2) (x := v66) dX0_work_80 rfl rfl ?_
        refine ez_goto (tgt := 85) dX0_work_81 (by decide) ?_
        obtain ⟨g78, hx79, h⟩ := zbj_some h
        refine sX_ia dX0_work_85 hx79 ?_
        refine ez_iconst (v := 1) dX0_work_86 (by decide) ?_
        obtain rfl := Option.some.inj h
        exact ez_iret dX0_work_87 rfl rfl kq
    · refine ez_icmp_ne (tgt := 63) dX0_work_56 (by decide) (fun hc => ?_) (fun hc => ?_)
      · replace h := zif_f hc h
        refine ez_iconst (v := 2) dX0_work_63 (by decide) ?_
        refine ez_clr 4 ?_
        exact hj80 g59 a0 b0 b1 a7 (2 : Int32) a7 h
      · replace h := zif_t hc h
        refine ez_iconst (v := 3) dX0_work_59 (by decide) ?_
        refine ez_goto (tgt := 64) dX0_work_60 (by decide) ?_
        refine ez_clr 4 ?_
        exact hj80 g59 a0 b0 b1 a7 (3 : Int32) a7 h

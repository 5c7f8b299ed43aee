/-! plug: both -/
set_option maxRecDepth 100000
section R24
variable {a0 : Nat} {M0 : MS} {ad ad' : Nat → Nat → Nat} {M M' : MS} {E E' : RE} {g g' : zS}
/-- old cells stand where only new ones were made -/
theorem rX.keep (h : rX a0 M0 ad M E g) {g1 : zS} (hs : g.sz ≤ g1.sz) (hq : ∀ q, q < g.sz → g1.h q = g.h q) : rX a0 M0 ad M E g1 := by
  refine ⟨fun k i x hx => ?_, h.2.1, fun j hj => ?_, Nat.lt_of_lt_of_le h.2.2.2 hs⟩
  · obtain ⟨p1, p2, p3⟩ := h.1 k i x hx
    exact ⟨by rw [hq _ p2]; exact p1, Nat.lt_of_lt_of_le p2 hs, p3⟩
  · have := h.2.2.2
    rw [hq _ (by omega)]
    exact h.2.2.1 j hj
theorem rop_plug (h : rX a0 M0 ad M E g) (hI : rInv M E) (hrc : 700 ≤ g.rc) (hrs : 70000 ≤ g.rs) (b0 b1 b2 : Int32) : rOK a0 M0 ad g 700 70000 (fX0_plug g (ad 0 0) b0 b1 b2) (fX2_plug M b0 b1 b2) := by
  have hI0 := hI
  obtain ⟨hc, hp, ht, hr, hq, hf, hb⟩ := hI
  have h16 := hc.1
  have h12 := hp.1
  have h4 := rn h12.1
  have e12 : (12 : Int32).toInt = 12 := by decide
  unfold fX0_plug
  rcases rin_cases b0 0 7 with ⟨e, h1, h2⟩ | ⟨e, hno⟩
  · rw [ri_0] at h1
    rw [ri_7] at h2
    rw [e, zbj_v, if_neg r10]
    rcases r_level b1 (low := 3238002688) (by rw [n32_iff]; decide) (by decide +kernel) with ⟨q1, q2, q3⟩ | ⟨q1, q2⟩
    · have hsn : vn_sni2f b1 = false := by
        unfold vn_sni2f
        have h2 : b1.toUInt32 &&& 0x7fffffff ≤ 0x7f800000 := rs_nn q3
        have : ¬ (b1.toUInt32 &&& 0x7fffffff > 0x7f800000) := UInt32.not_lt.mpr h2
        simp [this]
      obtain ⟨pm1, pm2, pm3, pm4⟩ := r_plugM h16 h12 (k := b0) (a := b1) (n := b2) ⟨h1, h2⟩ q2 hsn
      rw [q1, zbj_v, if_neg r10, rd_ob h, zbj_v]
      rcases r_fits h h16 b0 b2 with ⟨ok, f1⟩ | ⟨nok, f1⟩
      · rw [f1, zbd_v, if_neg r10, rd_x3 h, zbj_v]
        by_cases hfull : M.I 4 = 12
        · rw [if_pos hfull, pm2 ok hfull]
          exact rOK.id h hI0
        · have hlt : (M.I 4).toInt ≠ 12 := fun e => hfull (Int32.toInt_inj.mp (by rw [e12]; exact e))
          rw [if_neg hfull, rd_x2 h, zbj_v, zbj_v, zgd_pos hsn, rd_ob h, zbj_v]
          rcases r_newPlug h (k := b0) (n := b2) (a := b1.toUInt32) (by omega) (by omega) ⟨h1, h2⟩ ok.2.1 (fun e7 => ⟨(ok.2.2 e7).1, (ok.2.2 e7).2, h16.2⟩) with ⟨g1, n1, n2, n3, n4, n5, n6, n7, n8⟩ | ⟨g1, n1, n2, n3, n4, n5, n6, n7⟩
          · rw [n1, zbd_v, zsm_lv, pm4 ok hfull n2]
            have hlt0 : ad 0 0 < g.sz := (h.1 0 0 _ rfl).2.1
            have hlt2 : ad 2 0 < g.sz := (h.1 2 0 _ rfl).2.1
            have hne02 : ad 0 0 ≠ ad 2 0 := fun e => absurd (h.2.1 0 0 2 0 _ _ rfl rfl e).1 (by decide)
            have hv12 : vp_in (M.I 4) 12 := z32_in h12.1 (by omega)
            have hob : zob g1 [4, 5, 6, 7, 8, 9, 10, 11] g.sz = some (4 + b0.toNatClampNeg, r_pf ad b0 b1.toUInt32 b2 g.sz) := zob_of n3 (r_kn ⟨h1, h2⟩)
            have hsr : zsR g1 8 (ad 2 0) (M.I 4) (some g.sz) = some (zput g1 (ad 2 0) (.inl (8, 12, r_ro (va_up (fun j => if j < r_np M then some (ad 30 j) else none) (r_np M) (some g.sz))))) := zsR_mk (by rw [n5 _ hlt2]; exact h.at (k := 2) (i := 0) rfl) hv12
            generalize hge : zput g1 (ad 2 0) (.inl (8, 12, r_ro (va_up (fun j => if j < r_np M then some (ad 30 j) else none) (r_np M) (some g.sz)))) = ge at hsr
            have ex : ge.h (ad 0 0) = some (.inr (0, r_x ad M E)) := by rw [← hge, zput_ne hne02, n5 _ hlt0]; exact h.at (k := 0) (i := 0) rfl
            have hgi : zgI ge [0] (ad 0 0) 3 = some (M.I 4) := zgI_of ex (by decide) rfl
            have hpx : zpV ge [0] (ad 0 0) 3 (.int (M.I 4 + 1)) = some (zput ge (ad 0 0) (.inr (0, (r_x ad M E).set 3 (.int (M.I 4 + 1))))) := zpV_of ex (by decide) (Nat.le_of_ble_eq_true rfl)
            generalize hgf : zput ge (ad 0 0) (.inr (0, (r_x ad M E).set 3 (.int (M.I 4 + 1)))) = gf at hpx
            have fx : gf.h (ad 0 0) = some (.inr (0, (r_x ad M E).set 3 (.int (M.I 4 + 1)))) := by rw [← hgf]; exact zput_at
            have hgi2 : zgI gf [0] (ad 0 0) 3 = some (M.I 4 + 1) := zgI_of fx (by decide) rfl
            have hz := hp.2.2 (r_np M) (Nat.le_refl _) (by show (M.I 4).toNatClampNeg < 12; omega)
            have hln : r_echo b0 → 0 ≤ b2.toInt ∧ b2.toInt ≤ 16 := fun he => ⟨by have hh : ¬ b2.toInt < 0 := fun q => n2 ⟨he, q⟩; omega, ok.2.1 he⟩
            have hX : rX a0 M0 (r_plA ad (r_np M) g.sz) (r_plM M b0 b1.toUInt32 b2) E gf := by
              refine h.plug (fun u hu => (hb.1 u hu).1) ⟨h12.1, by omega⟩ hz.1 hz.2.1 hz.2.2 hln (fun t j ht' hj => ?_) ?_ fx ?_ ?_ ?_ ?_
              · by_cases hm : M.A 19 (4 * t + j) = -1
                · exact Or.inl hm
                · have o := ((ht t ht').2.2.2.2.2 j hj).1
                  have hm2 : (M.A 19 (4 * t + j)).toInt ≠ -1 := fun e => hm (Int32.toInt_inj.mp (by rw [ri_m1]; exact e))
                  have h5 := rn (x := M.A 19 (4 * t + j)) (by omega)
                  exact Or.inr (by show _ < (M.I 4).toNatClampNeg; omega)
              · rw [← hgf, ← hge]; exact n6
              · rw [← hgf, zput_ne (Ne.symm hne02), ← hge]; exact zput_at
              · rw [← hgf, zput_ne (by omega), ← hge, zput_ne (by omega)]; exact n3
              · intro he
                rw [← hgf, zput_ne (by omega), ← hge, zput_ne (by omega)]
                exact n4 he
              · intro q hq' d0 d2
                rw [← hgf, zput_ne d0, ← hge, zput_ne d2]
                exact n5 q hq'
            rw [hob, zbj_v, hsr, zbj_v, hgi, zbj_v, hpx, zbj_v, hgi2, zbj_v]
            have e1 : (M.I 4 + 1).toInt = (M.I 4).toInt + 1 := by rw [z32_add (by rw [ri_1]; omega) (by rw [ri_1]; omega), ri_1]
            have hnn1 := rn (x := M.I 4 + 1) (by omega)
            have hnp : r_np (r_plM M b0 b1.toUInt32 b2) = r_np M + 1 := by show (M.I 4 + 1).toNatClampNeg = (M.I 4).toNatClampNeg + 1; omega
            have m5 : (r_plM M b0 b1.toUInt32 b2).A 5 = upd (M.A 5) (r_np M) b0 := by simp [mI, mA, mF, MS.A, va_up]
            have m7 : (r_plM M b0 b1.toUInt32 b2).A 7 = upd (M.A 7) (r_np M) b2 := by simp [mI, mA, mF, MS.A, va_up]
            have m10 : (r_plM M b0 b1.toUInt32 b2).A 10 = upd (M.A 10) (r_np M) (if r_echo b0 then b2 else -1) := by simp [mI, mA, mF, MS.A, va_up]
            have m8 : (r_plM M b0 b1.toUInt32 b2).A 8 = M.A 8 := by simp [mI, mA, mF, MS.A, va_up]
            have m9 : (r_plM M b0 b1.toUInt32 b2).A 9 = M.A 9 := by simp [mI, mA, mF, MS.A, va_up]
            have m6 : (r_plM M b0 b1.toUInt32 b2).F 6 = vf_upd (M.F 6) (r_np M) b1.toUInt32 := by simp [mI, mA, mF, MS.F, va_up]
            have m11 : (r_plM M b0 b1.toUInt32 b2).F 11 = M.F 11 := by simp [mI, mA, mF, MS.F, va_up]
            have m0 : (r_plM M b0 b1.toUInt32 b2).I 4 = M.I 4 + 1 := rfl
            have i0 : (r_plM M b0 b1.toUInt32 b2).I 0 = M.I 0 := rfl
            have hrc2 : gf.rc = g1.rc := by rw [← hgf, ← hge]
            have hrs2 : gf.rs = g1.rs := by rw [← hgf, ← hge]
            refine ⟨_, gf, _, r_plM M b0 b1.toUInt32 b2, E, rfl, rfl, hX, rfl, ⟨by simpa [rI_c, r_nc, mA, mF, mI, MS.A, MS.I, MS.L, va_up] using hc, ⟨?_, fun p hp' => ?_, fun p d1 d2 => ?_⟩, fun t ht' => ?_, by simpa [rI_r, mA, mF, mI, MS.A, MS.I, va_up] using hr, fun q hq' => ?_, by simpa [rI_f, mA, mF, mI, MS.A, MS.I, va_up] using hf, by simpa [rI_b, r_bt, r_pc, r_rows, mA, mF, mI, MS.A, MS.I, MS.F, va_up] using hb⟩, by omega, by omega⟩
            · rw [m0]; omega
            · rw [hnp] at hp'
              unfold r_pl
              rw [m5, m6, m7, m10, m9, m11, i0]
              by_cases ep : p = r_np M
              · rw [show upd (M.A 5) (r_np M) b0 p = b0 from if_pos ep, show upd (M.A 7) (r_np M) b2 p = b2 from if_pos ep, show vf_upd (M.F 6) (r_np M) b1.toUInt32 p = b1.toUInt32 from if_pos ep, show upd (M.A 10) (r_np M) (if r_echo b0 then b2 else -1) p = (if r_echo b0 then b2 else -1) from if_pos ep, ep, hz.2.1]
                refine ⟨⟨h1, h2⟩, q3, ok.1, ok.2.2, fun he => ?_⟩
                rw [if_pos he]
                have := hln he
                refine ⟨this, ⟨by omega, this.2⟩, by decide, fun _ => rfl, fun d => by rw [ri_0]; exact d, fun i hi => ?_⟩
                rw [hz.2.2 i hi]
                exact rs_0
              · rw [show upd (M.A 5) (r_np M) b0 p = M.A 5 p from if_neg ep, show upd (M.A 7) (r_np M) b2 p = M.A 7 p from if_neg ep, show vf_upd (M.F 6) (r_np M) b1.toUInt32 p = M.F 6 p from if_neg ep, show upd (M.A 10) (r_np M) (if r_echo b0 then b2 else -1) p = M.A 10 p from if_neg ep]
                exact hp.2.1 p (by omega)
            · rw [hnp] at d1
              rw [m8, m9, m11]
              exact hp.2.2 p (by omega) d2
            · have o := ht t ht'
              refine ⟨by simpa [mA, mF, mI, MS.A, va_up] using o.1, by simpa [mA, mF, mI, MS.A, va_up] using o.2.1, by simpa [mA, mF, mI, MS.A, va_up] using o.2.2.1, by simpa [mA, mF, mI, MS.A, MS.I, va_up] using o.2.2.2.1, by simpa [mA, mF, mI, MS.F, va_up] using o.2.2.2.2.1, fun j hj => ?_⟩
              have oj := o.2.2.2.2.2 j hj
              have m19 : (r_plM M b0 b1.toUInt32 b2).A 19 = M.A 19 := by simp [mI, mA, mF, MS.A, va_up]
              have m18 : (r_plM M b0 b1.toUInt32 b2).A 18 = M.A 18 := by simp [mI, mA, mF, MS.A, va_up]
              rw [m18, m19, m5, m0]
              refine ⟨⟨oj.1.1, by have := oj.1.2; omega⟩, fun d1 d2 => ?_⟩
              have d3 : (M.A 19 (4 * t + j)).toInt ≠ -1 := fun e => d2 (Int32.toInt_inj.mp (by rw [ri_m1]; exact e))
              have d4 := rn (x := M.A 19 (4 * t + j)) (by omega)
              rw [show upd (M.A 5) (r_np M) b0 (M.A 19 (4 * t + j)).toNatClampNeg = M.A 5 (M.A 19 (4 * t + j)).toNatClampNeg from if_neg (by show ¬ _ = (M.I 4).toNatClampNeg; omega)]
              exact oj.2 d1 d2
            · have o := hq q (by simpa [mA, mF, mI, MS.I, va_up] using hq')
              have m40 : (r_plM M b0 b1.toUInt32 b2).A 40 = M.A 40 := by simp [mI, mA, mF, MS.A, va_up]
              have m41 : (r_plM M b0 b1.toUInt32 b2).A 41 = M.A 41 := by simp [mI, mA, mF, MS.A, va_up]
              have m42 : (r_plM M b0 b1.toUInt32 b2).A 42 = M.A 42 := by simp [mI, mA, mF, MS.A, va_up]
              have m43 : (r_plM M b0 b1.toUInt32 b2).A 43 = M.A 43 := by simp [mI, mA, mF, MS.A, va_up]
              have m44 : (r_plM M b0 b1.toUInt32 b2).A 44 = M.A 44 := by simp [mI, mA, mF, MS.A, va_up]
              rw [m40, m41, m42, m43, m44]
              unfold r_ed at o ⊢
              rw [m0, i0]
              refine ⟨o.1, o.2.1, o.2.2.1, ?_⟩
              rcases o.2.2.2 with o | o | o | o | o | o
              · exact Or.inl o
              · exact Or.inr (Or.inl o)
              · exact Or.inr (Or.inr (Or.inl ⟨o.1, o.2.1, ⟨o.2.2.1.1, by have := o.2.2.1.2; omega⟩, o.2.2.2⟩))
              · exact Or.inr (Or.inr (Or.inr (Or.inl o)))
              · exact Or.inr (Or.inr (Or.inr (Or.inr (Or.inl o))))
              · exact Or.inr (Or.inr (Or.inr (Or.inr (Or.inr ⟨o.1, ⟨o.2.1.1, by have := o.2.1.2; omega⟩, o.2.2⟩))))
          · rw [n1, zbd_v, zsm_rv, if_pos rfl, pm3 ok hfull ⟨n2, n3⟩]
            have hX : rX a0 M0 ad M E (zxg g1) := (h.keep n5 n4).grow 3 300
            obtain ⟨g', w1, w2, w3⟩ := r_met hX (f := 5) (r_in7 (by decide) (by decide))
            have c1 : g'.rc = g1.rc - 3 := congrArg (fun q => q.2.1) w3
            have c2 : g'.rs = g1.rs - 300 := congrArg (fun q => q.2.2) w3
            rw [rd_ob hX, zbj_v, w1, zbd_v, r_finds (r_in7 (f := 5) (by decide) (by decide))]
            exact ⟨_, g', ad, _, E, rfl, rfl, w2, rfl, rInv_fd hI0, by omega, by omega⟩
      · rw [f1, zbd_v, if_pos rfl, pm1 nok]
        exact rOK.id h hI0
    · rw [q1, zbj_v, if_pos rfl]
      have : fX2_plug M b0 b1 b2 = some (-102, M) := by
        unfold fX2_plug
        rw [rin2, rin_y (by rw [ri_0]; exact h1) (by rw [ri_7]; exact h2), zbj_v, if_neg r10, q2, zbj_v, if_pos rfl]
      rw [this]
      exact rOK.id h hI0
  · rw [e, zbj_v, if_pos rfl]
    have : fX2_plug M b0 b1 b2 = some (-102, M) := by
      unfold fX2_plug
      rw [rin2, e, zbj_v, if_pos rfl]
    rw [this]
    exact rOK.id h hI0
end R24

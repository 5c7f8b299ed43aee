/-! clip: the call -/
set_option maxRecDepth 100000
section R18
variable {a0 : Nat} {M0 : MS} {ad ad' : Nat → Nat → Nat} {M M' : MS} {E E' : RE} {g g' : zS}
theorem r_newRow {b0 b1 : Int32} (hl : 0 ≤ b0.toInt ∧ b0.toInt ≤ 4) (hb : 0 ≤ b1.toInt ∧ b1.toInt ≤ 64) (hrc : 1 ≤ g.rc) (hrs : 64 ≤ g.rs) : fX3_newRow g b0 b1 = some (.inl g.sz, znew g (r_row b0 b1.toNatClampNeg (fun _ => 0)) b1.toNatClampNeg) := by
  have hn := rn hb.1
  have h1 : ¬ b1 < 0 := by rw [Int32.lt_iff_toInt_lt, ri_0]; omega
  have hg : 1 ≤ g.rc ∧ b1.toNatClampNeg ≤ g.rs ∧ b1.toNatClampNeg * 8 ≤ 536870912 := ⟨hrc, by omega, by omega⟩
  have z1 : (fun i => if i < b1.toNatClampNeg then ((0 : Int64)).toInt32 else 0) = fun _ => (0 : Int32) := by funext i; split <;> rfl
  have z2 : (fun i => if i < b1.toNatClampNeg then ((0 : Int64)).toInt32.toUInt32 else 0) = fun _ => (0 : UInt32) := by funext i; split <;> rfl
  have z3 : (fun i => if i < b1.toNatClampNeg then ((0 : Int64)).toUInt64 else 0) = fun _ => (0 : UInt64) := by funext i; split <;> rfl
  unfold fX3_newRow
  rcases r_lane5 hl with rfl | rfl | rfl | rfl | rfl
  · rw [if_pos rfl, if_neg h1, zgd_pos hg, zlet_v, r_row0, z1]; rfl
  · rw [if_neg (by decide), if_pos rfl, if_neg h1, zgd_pos hg, zlet_v, r_row1, z1]; rfl
  · rw [if_neg (by decide), if_neg (by decide), if_pos rfl, if_neg h1, zgd_pos hg, zlet_v, r_row2, z1]; rfl
  · rw [if_neg (by decide), if_neg (by decide), if_neg (by decide), if_pos rfl, if_neg h1, zgd_pos hg, zlet_v, r_row3, z2]; rfl
  · rw [if_neg (by decide), if_neg (by decide), if_neg (by decide), if_neg (by decide), if_neg h1, zgd_pos hg, zlet_v, r_row4, z3]; rfl
theorem r_newRowN {b0 b1 : Int32} (hb : b1.toInt < 0) (hrc : 3 ≤ g.rc) (hrs : 300 ≤ g.rs) : fX3_newRow g b0 b1 = some (.inr zNAS, zxg g) := by
  have h1 : b1 < 0 := by rw [Int32.lt_iff_toInt_lt, ri_0]; omega
  unfold fX3_newRow
  rw [if_pos h1, if_pos h1, if_pos h1, if_pos h1, if_pos h1, zgd_pos ⟨hrc, hrs⟩]
  repeat' split
  all_goals rfl
theorem rop_clip (h : rX a0 M0 ad M E g) (hI : rInv M E) (hrc : 700 ≤ g.rc) (hrs : 70000 ≤ g.rs) (b0 b1 : Int32) : rOK a0 M0 ad g 700 70000 (fX0_clip g (ad 0 0) b0 b1) (fX2_clip M b0 b1) := by
  have hI0 := hI
  obtain ⟨hc, hp, ht, hr, hq, hf, hb⟩ := hI
  have h16 := hc.1
  have h0 := rn h16.1
  have e16 : (16 : Int32).toInt = 16 := by decide
  have e64 : (64 : Int32).toInt = 64 := by decide
  unfold fX0_clip fX2_clip
  rw [rin2]
  rcases rin_cases b0 0 4 with ⟨e, h1, h2⟩ | ⟨e, _⟩
  · rw [ri_0] at h1
    rw [ri_4] at h2
    rw [e, zbj_v, zbj_v, if_neg r10, if_neg r10]
    by_cases hl : b1 ≤ 64
    · rw [if_pos hl, if_pos hl, rd_x1 h, zbj_v]
      rw [Int32.le_iff_toInt_le, e64] at hl
      by_cases hfull : M.I 0 = 16
      · rw [if_pos hfull, if_pos hfull]
        exact rOK.id h hI0
      · have hlt : (M.I 0).toInt ≠ 16 := fun e => hfull (Int32.toInt_inj.mp (by rw [e16]; exact e))
        rw [if_neg hfull, if_neg hfull, rd_x0 h, zbj_v, zbj_v, zgd_pos ⟨by omega, by omega⟩, zlet_v]
        have hne0 : ad 0 0 ≠ g.sz := h.fresh (k := 0) (i := 0) rfl
        have hne1 : ad 1 0 ≠ g.sz := h.fresh (k := 1) (i := 0) rfl
        have hlt0 : ad 0 0 < g.sz := (h.1 0 0 _ rfl).2.1
        have hlt1 : ad 1 0 < g.sz := (h.1 1 0 _ rfl).2.1
        have hne01 : ad 0 0 ≠ ad 1 0 := fun e => absurd (h.2.1 0 0 1 0 _ _ rfl rfl e).1 (by decide)
        -- the new object
        have p0 : zpV (znew g (.inr (3, nwX3)) 3) [3] g.sz 0 (.int b0) = some (zput (znew g (.inr (3, nwX3)) 3) g.sz (.inr (3, [.int b0, .int 0, .null]))) := zpV_of (fs := nwX3) znew_at (by decide) (by decide)
        have p1 : zpV (zput (znew g (.inr (3, nwX3)) 3) g.sz (.inr (3, [.int b0, .int 0, .null]))) [3] g.sz 1 (.int b1) = some (zput (znew g (.inr (3, nwX3)) 3) g.sz (.inr (3, [.int b0, .int b1, .null]))) := by
          rw [zpV_of (fs := [.int b0, .int 0, .null]) zput_at (by decide) (Nat.le_of_ble_eq_true rfl), zput_put]
          rfl
        generalize hgb : zput (znew g (.inr (3, nwX3)) 3) g.sz (.inr (3, [.int b0, .int b1, .null])) = gb at p1
        have bsz : gb.sz = g.sz + 1 := by rw [← hgb]
        have brc : gb.rc = g.rc - 1 := by rw [← hgb]
        have brs : gb.rs = g.rs - 3 := by rw [← hgb]
        have bat : gb.h g.sz = some (.inr (3, [.int b0, .int b1, .null])) := by rw [← hgb]; exact zput_at
        have bne : ∀ q, q < g.sz → gb.h q = g.h q := fun q hq => by rw [← hgb, zput_ne (by omega), znew_ne (by omega)]
        by_cases hneg : b1.toInt < 0
        · have hi : fX3_init (znew g (.inr (3, nwX3)) 3) g.sz b0 b1 = some (.inr zNAS, zxg gb) := by
            unfold fX3_init
            rw [p0, zbj_v, p1, zbj_v, r_newRowN hneg (by omega) (by omega), zbd_v, zsm_rv]
          have hX : rX a0 M0 ad M E (zxg gb) := by
            rw [← hgb]
            refine rX.grow ?_ 3 300
            have := h.new (.inr (3, nwX3)) 3
            refine ⟨fun k i y hy => ⟨?_, (this.1 k i y hy).2⟩, this.2.1, fun j hj => ?_, this.2.2.2⟩
            · rw [zput_ne (h.fresh hy)]
              exact this.at hy
            · have hm := h.2.2.2
              rw [zput_ne (by omega)]
              exact this.2.2.1 j hj
          obtain ⟨g', q1, q2, q3⟩ := r_met hX (f := 5) (r_in7 (by decide) (by decide))
          have c1 : g'.rc = gb.rc - 3 := congrArg (fun q => q.2.1) q3
          have c2 : g'.rs = gb.rs - 300 := congrArg (fun q => q.2.2) q3
          rw [hi, zbd_v, zsm_rv, if_pos rfl, rd_ob hX, zbj_v, q1, zbd_v, if_neg (by rw [Int32.le_iff_toInt_le, ri_0]; omega), r_finds (r_in7 (f := 5) (by decide) (by decide)), zbd_v]
          exact ⟨_, g', ad, _, E, rfl, rfl, q2, rfl, rInv_fd hI0, by omega, by omega⟩
        · have hb1 := rn (x := b1) (by omega)
          have hrow := r_newRow (g := gb) ⟨h1, h2⟩ (b1 := b1) ⟨by omega, hl⟩ (by omega) (by omega)
          have hpv : zpV (znew gb (r_row b0 b1.toNatClampNeg (fun _ => 0)) b1.toNatClampNeg) [3] g.sz 2 (va_rf (some gb.sz)) = some (zput (znew gb (r_row b0 b1.toNatClampNeg (fun _ => 0)) b1.toNatClampNeg) g.sz (.inr (3, [.int b0, .int b1, .ref (g.sz + 1)]))) := by
            rw [zpV_of (fs := [.int b0, .int b1, .null]) (by rw [znew_ne (by omega)]; exact bat) (by decide) (Nat.le_of_ble_eq_true rfl), bsz]
            rfl
          generalize hgd : zput (znew gb (r_row b0 b1.toNatClampNeg (fun _ => 0)) b1.toNatClampNeg) g.sz (.inr (3, [.int b0, .int b1, .ref (g.sz + 1)])) = gd at hpv
          have dsz : gd.sz = g.sz + 2 := by rw [← hgd]; show gb.sz + 1 = _; omega
          have drc : gd.rc = g.rc - 2 := by rw [← hgd]; show gb.rc - 1 = _; omega
          have drs : g.rs ≤ gd.rs + 67 := by rw [← hgd]; show g.rs ≤ gb.rs - b1.toNatClampNeg + 67; omega
          have d0 : gd.h g.sz = some (.inr (3, [.int b0, .int b1, .ref (g.sz + 1)])) := by rw [← hgd]; exact zput_at
          have d1 : gd.h (g.sz + 1) = some (r_row b0 b1.toNatClampNeg (fun _ => 0)) := by
            rw [← hgd, zput_ne (by omega), ← bsz]
            exact znew_at
          have dne : ∀ q, q < g.sz → gd.h q = g.h q := fun q hq => by rw [← hgd, zput_ne (by omega), znew_ne (by omega)]; exact bne q hq
          have hi : fX3_init (znew g (.inr (3, nwX3)) 3) g.sz b0 b1 = some (.inl (), gd) := by
            unfold fX3_init
            rw [p0, zbj_v, p1, zbj_v, hrow, zbd_v, zsm_lv, hpv, zbj_v]
          have hv16 : vp_in (M.I 0) 16 := z32_in h16.1 (by omega)
          have hob : zob gd [3] g.sz = some (3, [.int b0, .int b1, .ref (g.sz + 1)]) := zob_of d0 (by decide)
          have hsr : zsR gd 7 (ad 1 0) (M.I 0) (some g.sz) = some (zput gd (ad 1 0) (.inl (7, 16, r_ro (va_up (fun j => if j < r_nc M then some (ad 20 j) else none) (r_nc M) (some g.sz))))) := zsR_mk (by rw [dne _ hlt1]; exact h.at (k := 1) (i := 0) rfl) hv16
          generalize hge : zput gd (ad 1 0) (.inl (7, 16, r_ro (va_up (fun j => if j < r_nc M then some (ad 20 j) else none) (r_nc M) (some g.sz)))) = ge at hsr
          have ex : ge.h (ad 0 0) = some (.inr (0, r_x ad M E)) := by rw [← hge, zput_ne hne01, dne _ hlt0]; exact h.at (k := 0) (i := 0) rfl
          have hgi : zgI ge [0] (ad 0 0) 1 = some (M.I 0) := zgI_of ex (by decide) rfl
          have hpx : zpV ge [0] (ad 0 0) 1 (.int (M.I 0 + 1)) = some (zput ge (ad 0 0) (.inr (0, (r_x ad M E).set 1 (.int (M.I 0 + 1))))) := zpV_of ex (by decide) (Nat.le_of_ble_eq_true rfl)
          generalize hgf : zput ge (ad 0 0) (.inr (0, (r_x ad M E).set 1 (.int (M.I 0 + 1)))) = gf at hpx
          have fx : gf.h (ad 0 0) = some (.inr (0, (r_x ad M E).set 1 (.int (M.I 0 + 1)))) := by rw [← hgf]; exact zput_at
          have hgi2 : zgI gf [0] (ad 0 0) 1 = some (M.I 0 + 1) := zgI_of fx (by decide) rfl
          have hX : rX a0 M0 (r_clA ad (r_nc M) g.sz) (r_clM M b0 b1) E gf := by
            refine h.clip (fun u hu => (hb.1 u hu).1) ⟨h16.1, by omega⟩ (fun p hp' h7 => ?_) hc.2.2 ?_ fx ?_ ?_ ?_ ?_
            · have := (hp.2.1 p hp').2.2.2.1 h7
              have h3 := rn this.1
              show (M.A 7 p).toNatClampNeg < (M.I 0).toNatClampNeg
              omega
            · rw [← hgf, ← hge]; show g.sz + 2 ≤ gd.sz; omega
            · rw [← hgf, zput_ne (Ne.symm hne01), ← hge]; exact zput_at
            · rw [← hgf, zput_ne (Ne.symm hne0), ← hge, zput_ne (Ne.symm hne1)]; exact d0
            · rw [← hgf, zput_ne (by omega), ← hge, zput_ne (by omega)]; exact d1
            · intro q hq n0 n1
              rw [← hgf, zput_ne n0, ← hge, zput_ne n1]
              exact dne q hq
          rw [hi, zbd_v, zsm_lv, hob, zbj_v, hsr, zbj_v, hgi, zbj_v, hpx, zbj_v, hgi2, zbj_v, if_pos (by rw [Int32.le_iff_toInt_le, ri_0]; omega), zgd_pos hv16, zlet_v, zgd_pos (show vp_in _ 16 from hv16), zlet_v, zlet_v]
          have e1 : (M.I 0 + 1).toInt = (M.I 0).toInt + 1 := by rw [z32_add (by rw [ri_1]; omega) (by rw [ri_1]; omega), ri_1]
          have hnn1 := rn (x := M.I 0 + 1) (by omega)
          have hnc : r_nc (r_clM M b0 b1) = r_nc M + 1 := by show (M.I 0 + 1).toNatClampNeg = (M.I 0).toNatClampNeg + 1; omega
          have m1 : (r_clM M b0 b1).A 1 = upd (M.A 1) (r_nc M) b0 := by simp [mI, mA, MS.A, va_up]
          have m2 : (r_clM M b0 b1).A 2 = upd (M.A 2) (r_nc M) b1 := by simp [mI, mA, MS.A, va_up]
          have m0 : (r_clM M b0 b1).I 0 = M.I 0 + 1 := rfl
          refine ⟨_, gf, _, r_clM M b0 b1, E, rfl, rfl, hX, rfl, ⟨⟨?_, fun c hc' => ?_, fun j hj => ?_⟩, ⟨hp.1, fun p hp' => ?_, hp.2.2⟩, fun t ht' => ?_, hr, fun q hq' => ?_, hf, hb⟩, ?_, ?_⟩
          · rw [m0]; omega
          · rw [hnc] at hc'
            rw [m1, m2]
            by_cases ec : c = r_nc M
            · rw [show upd (M.A 1) (r_nc M) b0 c = b0 from if_pos ec, show upd (M.A 2) (r_nc M) b1 c = b1 from if_pos ec]
              refine ⟨⟨h1, h2⟩, ⟨by omega, hl⟩, fun i hi => ?_⟩
              have e0 : M.L (64 * c + i) = 0 := hc.2.2 _ (by rw [ec]; omega)
              show r_word b0 (M.L (64 * c + i))
              rw [e0]
              exact ⟨fun _ => by decide, fun _ => by decide, fun _ => by decide, fun _ => ⟨by decide, by rw [n32_iff]; decide⟩, fun _ => by unfold vf_n64; decide⟩
            · rw [show upd (M.A 1) (r_nc M) b0 c = M.A 1 c from if_neg ec, show upd (M.A 2) (r_nc M) b1 c = M.A 2 c from if_neg ec]
              exact hc.2.1 c (by omega)
          · rw [hnc] at hj
            exact hc.2.2 j (by omega)
          · have o := hp.2.1 p hp'
            refine ⟨o.1, o.2.1, o.2.2.1, fun h7 => ?_, o.2.2.2.2⟩
            have := o.2.2.2.1 h7
            rw [m0]
            exact ⟨this.1, by have h3 : (M.A 7 p).toInt < (M.I 0).toInt := this.2; show (M.A 7 p).toInt < _; omega⟩
          · have o := ht t ht'
            refine ⟨o.1, o.2.1, o.2.2.1, ⟨o.2.2.2.1.1, ?_⟩, o.2.2.2.2⟩
            have h3 : (M.A 14 t).toInt < (M.I 0).toInt := o.2.2.2.1.2
            rw [m0]
            show (M.A 14 t).toInt < _
            omega
          · have o := hq q hq'
            refine ⟨o.1, o.2.1, o.2.2.1, o.2.2.2.imp (fun q1 => ⟨q1.1, q1.2.1, ⟨q1.2.2.1.1, ?_⟩, q1.2.2.2⟩) id⟩
            have h3 := q1.2.2.1.2
            rw [m0]
            omega
          · rw [← hgf, ← hge]; show g.rc ≤ gd.rc + 700; omega
          · rw [← hgf, ← hge]; show g.rs ≤ gd.rs + 70000; omega
    · rw [if_neg hl, if_neg hl]
      exact rOK.id h hI0
  · rw [e, zbj_v, zbj_v, if_pos rfl, if_pos rfl]
    exact rOK.id h hI0
end R18

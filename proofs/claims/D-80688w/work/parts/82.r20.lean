/-! plugged -/
set_option maxRecDepth 100000
section R20
variable {a0 : Nat} {M0 : MS} {ad : Nat → Nat → Nat} {M : MS} {E : RE} {g : zS} {p : Nat}
theorem r_k07 {l : Int32} (h : 0 ≤ l.toInt ∧ l.toInt ≤ 7) : l = 0 ∨ l = 1 ∨ l = 2 ∨ l = 3 ∨ l = 4 ∨ l = 5 ∨ l = 6 ∨ l = 7 := by
  have : l.toInt = 0 ∨ l.toInt = 1 ∨ l.toInt = 2 ∨ l.toInt = 3 ∨ l.toInt = 4 ∨ l.toInt = 5 ∨ l.toInt = 6 ∨ l.toInt = 7 := by omega
  rcases this with e | e | e | e | e | e | e | e
  · exact Or.inl (Int32.toInt_inj.mp e)
  · exact Or.inr (Or.inl (Int32.toInt_inj.mp e))
  · exact Or.inr (Or.inr (Or.inl (Int32.toInt_inj.mp e)))
  · exact Or.inr (Or.inr (Or.inr (Or.inl (Int32.toInt_inj.mp e))))
  · exact Or.inr (Or.inr (Or.inr (Or.inr (Or.inl (Int32.toInt_inj.mp e)))))
  · exact Or.inr (Or.inr (Or.inr (Or.inr (Or.inr (Or.inl (Int32.toInt_inj.mp e))))))
  · exact Or.inr (Or.inr (Or.inr (Or.inr (Or.inr (Or.inr (Or.inl (Int32.toInt_inj.mp e)))))))
  · exact Or.inr (Or.inr (Or.inr (Or.inr (Or.inr (Or.inr (Or.inr (Int32.toInt_inj.mp e)))))))
theorem r_tail (h : rX a0 M0 ad M E g) {b0 : Int32} (hb : 0 ≤ b0.toInt ∧ b0.toInt < 12) (hp : b0.toNatClampNeg < r_np M) (hk : 0 ≤ (M.A 5 b0.toNatClampNeg).toInt ∧ (M.A 5 b0.toNatClampNeg).toInt ≤ 7) : ∃ r, v_tail g (ad 30 b0.toNatClampNeg) = some (r, g) ∧ fX2_tail M b0 = some (r, M) := by
  have hi : vp_in b0 12 := z32_in hb.1 hb.2
  have ob := rp_ob h hp hk
  have at' := rp_at h hp
  have z2 : ∀ cs : List Nat, 4 + (M.A 5 b0.toNatClampNeg).toNatClampNeg ∈ cs → zgI g cs (ad 30 b0.toNatClampNeg) 2 = some (M.A 7 b0.toNatClampNeg) := fun cs hc => rp_2 h hp hc
  have zo : ∀ cs : List Nat, 4 + (M.A 5 b0.toNatClampNeg).toNatClampNeg ∈ cs → zob g cs (ad 30 b0.toNatClampNeg) = some (4 + (M.A 5 b0.toNatClampNeg).toNatClampNeg, r_p ad M b0.toNatClampNeg) := fun cs hc => zob_of at' hc
  unfold v_tail fX2_tail
  rw [ob, zbj_v, zgd_pos hi]
  rcases r_k07 hk with e | e | e | e | e | e | e | e
  · rw [e]; exact ⟨0, rfl, rfl⟩
  · rw [e] at zo ⊢
    refine ⟨1, ?_, rfl⟩
    show fX6_tail g _ = _
    unfold fX6_tail fX4_tail
    rw [zo _ (by decide), zbj_v, zbd_v]
    rfl
  · rw [e] at zo ⊢
    refine ⟨3, ?_, rfl⟩
    show fX7_tail g _ = _
    unfold fX7_tail fX6_tail fX4_tail
    rw [zo _ (by decide), zbj_v, zo _ (by decide), zbj_v, zbd_v, zbd_v]
    rfl
  · rw [e]; exact ⟨0, rfl, rfl⟩
  · rw [e] at z2 ⊢
    refine ⟨M.A 7 b0.toNatClampNeg, ?_, ?_⟩
    · show fX9_tail g _ = _
      unfold fX9_tail
      rw [z2 _ (by decide), zbj_v]
    · rw [if_neg (by decide), if_neg (by decide), if_neg (by decide), if_pos rfl, zgd_pos hi]
  · rw [e] at z2 zo ⊢
    refine ⟨M.A 7 b0.toNatClampNeg + 3, ?_, ?_⟩
    · show fX10_tail g _ = _
      unfold fX10_tail fX9_tail
      rw [zo _ (by decide), zbj_v, z2 _ (by decide), zbj_v, zbd_v]
    · rw [if_neg (by decide), if_neg (by decide), if_neg (by decide), if_neg (by decide), if_pos rfl, zgd_pos hi]
  · rw [e]; exact ⟨0, rfl, rfl⟩
  · rw [e]; exact ⟨0, rfl, rfl⟩
theorem r_uses (h : rX a0 M0 ad M E g) (hp : p < r_np M) (hk : 0 ≤ (M.A 5 p).toInt ∧ (M.A 5 p).toInt ≤ 7) : v_uses g (ad 30 p) = some (M.A 8 p, g) := by
  have e : fX4_uses g (ad 30 p) = some (M.A 8 p, g) := by
    unfold fX4_uses
    rw [rp_3 h hp (r_kn hk), zbj_v]
  unfold v_uses
  rw [rp_ob h hp hk, zbj_v, e]
  have hn := r_kn hk
  simp only [List.mem_cons, List.not_mem_nil, or_false] at hn
  rcases hn with q | q | q | q | q | q | q | q <;> rw [q] <;> rfl
theorem rop_plugged (h : rX a0 M0 ad M E g) (hI : rInv M E) (hrc : 3 ≤ g.rc) (hrs : 300 ≤ g.rs) (b0 b1 : Int32) : rOK a0 M0 ad g 700 70000 (fX0_plugged g (ad 0 0) b0 b1) (fX2_plugged M b0 b1) := by
  have hp := hI.2.1.1
  have h4 := rn hp.1
  unfold fX0_plugged fX2_plugged
  rw [rd_ob h, zbj_v]
  rcases r_isP h hp b0 with ⟨q, h1, h2⟩ | ⟨q, h1⟩
  · have hbn := rn h1
    have hpl : b0.toNatClampNeg < r_np M := by show b0.toNatClampNeg < (M.I 4).toNatClampNeg; omega
    have hi : vp_in b0 12 := z32_in h1 (by omega)
    have pl := hI.2.1.2.1 _ hpl
    rw [q, zbd_v, if_neg r10, r_in2y (by rw [ri_0]; exact h1) h2 (by omega), zbj_v, if_neg r10, rin2]
    rcases rin_cases b1 0 20 with ⟨e, h3, h5⟩ | ⟨e, _⟩
    · rw [ri_0] at h3
      rw [ri_20] at h5
      rw [e, zbj_v, zbj_v, if_neg r10, if_neg r10, rd_x2 h, zbj_v, zbj_v, zbj_v, zbj_v, rd_a2 h hi hpl, zbj_v, zbj_v, zbj_v, zbj_v]
      by_cases h6 : (3 : Int32) ≤ b1
      · rw [if_pos h6, if_pos h6, zgd_pos hi, r_echoF, zbj_v]
        rw [Int32.le_iff_toInt_le, show (3 : Int32).toInt = 3 by decide] at h6
        -- a finding behind an exception of the library's
        have hmx : ∀ (n m : Nat) (f : Int32), n ≤ 3 → m ≤ 300 → vp_in f 7 → rOK a0 M0 ad g 700 70000 (zbj (zob (zgrow g n m) [0] (ad 0 0)) (fun ob18 => zbd (fX0_met (zgrow g n m) (ad 0 0) f) (fun r20 g21 => some (r20, g21)))) (zbd (fX2_finds M f) (fun r21 M22 => some (r21, M22))) := by
          intro n m f hn hm hf7
          have hg : rX a0 M0 ad M E (zgrow g n m) := h.grow n m
          obtain ⟨g', e1, h', e2⟩ := r_met hg hf7
          rw [rd_ob hg, zbj_v, e1, zbd_v, r_finds hf7, zbd_v]
          have c1 : g'.rc = g.rc - n := congrArg (fun q => q.2.1) e2
          have c2 : g'.rs = g.rs - m := congrArg (fun q => q.2.2) e2
          exact ⟨_, g', ad, _, E, rfl, rfl, h', rfl, rInv_fd hI, by omega, by omega⟩
        unfold fX0_ofEcho
        rw [rp_ob h hpl pl.1, zbj_v]
        by_cases he : r_echo (M.A 5 b0.toNatClampNeg)
        · have o := pl.2.2.2.2 he
          rw [if_pos ((r_echo8 pl.1).mpr he), if_pos he, if_neg r10, rp_5 h hpl he, zbj_v, rp_4 h hpl he, zbj_v, zbj_v]
          by_cases c3 : b1 = 3
          · rw [if_pos c3, if_pos c3, zbd_v, zsm_lv, zgd_pos hi]
            exact rOK.id h hI
          · rw [if_neg c3, if_neg c3, zgd_pos hi]
            have d3 : b1.toInt ≠ 3 := fun e => c3 (Int32.toInt_inj.mp e)
            by_cases hz : M.A 10 b0.toNatClampNeg = -1
            · rw [if_pos hz, if_pos hz]
              have key : (if b1 = (4 : Int32) then zcs none (zgd (1 ≤ g.rc ∧ 8 ≤ g.rs) (some ((.inr zNPE : Int32 ⊕ String), (zng g)))) (fun a19 => zbj (zaln g a19) (fun n20 => some (.inl (Int32.ofNat n20), g))) else zcs none (zgd (1 ≤ g.rc ∧ 8 ≤ g.rs) (some (.inr zNPE, (zng g)))) (fun a6 => zbj (zaln g a6) (fun n8 => zgd (n8 < 2 ^ 31) (if zout (b1 - (5 : Int32)) n8 then zgd (3 ≤ g.rc ∧ 300 ≤ g.rs) (some (.inr zAIO, (zxg g))) else zbj (zaF g 1 a6 (b1 - (5 : Int32))) (fun e11 => zbj (fJ8_floatToIntBits e11) (fun r14 => some (.inl r14, g))))))) = some (.inr zNPE, zng g) := by
                rw [zcs_nv, zcs_nv, zgd_pos ⟨by omega, by omega⟩]
                split <;> rfl
              rw [key, zbd_v, zsm_rv, if_neg (by decide), if_neg (by decide), if_pos rfl]
              exact hmx 1 8 1 (by decide) (by decide) (r_in7 (by decide) (by decide))
            · rw [if_neg hz, if_neg hz, zcs_sv, zcs_sv]
              have hz2 : (M.A 10 b0.toNatClampNeg).toInt ≠ -1 := fun e => hz (Int32.toInt_inj.mp (by rw [ri_m1]; exact e))
              have hl := rn (x := M.A 10 b0.toNatClampNeg) (by omega)
              have ln := rp_ln h hpl he hz
              rw [zaln_of ln (by decide), zbj_v, zbj_v]
              by_cases c4 : b1 = 4
              · rw [if_pos c4, if_pos c4, zbd_v, zsm_lv, zgd_pos hi]
                have e5 : Int32.ofNat (M.A 10 b0.toNatClampNeg).toNatClampNeg = M.A 10 b0.toNatClampNeg := Int32.toInt_inj.mp (by rw [z32_nat (by omega)]; exact hl)
                rw [show Int32.ofNat ((M.A 10 b0.toNatClampNeg).toNatClampNeg, r_fl (fun j => if j < (M.A 10 b0.toNatClampNeg).toNatClampNeg then M.F 11 (16 * b0.toNatClampNeg + j) else 0)).1 = M.A 10 b0.toNatClampNeg from e5]
                exact rOK.id h hI
              · have d4 : b1.toInt ≠ 4 := fun e => c4 (Int32.toInt_inj.mp (by rw [ri_4]; exact e))
                have e5 : (b1 - 5).toInt = b1.toInt - 5 := by rw [z32_sub (by rw [ri_5]; omega) (by rw [ri_5]; omega), ri_5]
                have hn5 := rn (x := b1 - 5) (by omega)
                rw [if_neg c4, if_neg c4, zgd_pos (show (M.A 10 b0.toNatClampNeg).toNatClampNeg < 2 ^ 31 by omega), zgd_pos hi]
                by_cases hin : (b1 - 5).toInt < (M.A 10 b0.toNatClampNeg).toInt
                · have v5 : vp_in (b1 - 5) (M.A 10 b0.toNatClampNeg).toNatClampNeg := z32_in (by omega) (by omega)
                  have e16 : (16 : Int32).toInt = 16 := by decide
                  have m1 : ((16 : Int32) * b0).toInt = 16 * b0.toInt := by rw [z32_mul (by rw [e16]; omega) (by rw [e16]; omega), e16]
                  have m2 : ((16 : Int32) * b0 + b1).toInt = 16 * b0.toInt + b1.toInt := by rw [z32_add (by omega) (by omega), m1]
                  have m3 : ((16 : Int32) * b0 + b1 - 5).toInt = 16 * b0.toInt + b1.toInt - 5 := by rw [z32_sub (by rw [ri_5]; omega) (by rw [ri_5]; omega), ri_5, m2]
                  have n3 := rn (x := (16 : Int32) * b0 + b1 - 5) (by omega)
                  have v6 : vp_in ((16 : Int32) * b0 + b1 - 5) 192 := z32_in (by omega) (by omega)
                  obtain ⟨r, er⟩ := r_nan (M.F 11 (16 * b0.toNatClampNeg + (b1 - 5).toNatClampNeg))
                  rw [if_neg (show ¬ zout (b1 - 5) _ from v5), zaF_of ln v5, zbj_v, if_pos (show (b1 - 5).toNatClampNeg < (M.A 10 b0.toNatClampNeg).toNatClampNeg by omega), er, zbj_v, zbd_v, zsm_lv, r_in2y (by rw [ri_0]; omega) hin (by omega), zbj_v, if_neg r10, zgd_pos v6, show ((16 : Int32) * b0 + b1 - 5).toNatClampNeg = 16 * b0.toNatClampNeg + (b1 - 5).toNatClampNeg by omega, er, zbj_v]
                  exact rOK.id h hI
                · rw [if_pos (rd_zout (j := b1 - 5) (n := (M.A 10 b0.toNatClampNeg).toNatClampNeg) (by omega)), zgd_pos ⟨hrc, hrs⟩, zbd_v, zsm_rv, if_pos rfl, r_in2n (by omega) (by omega), zbj_v, if_pos rfl]
                  exact hmx 3 300 2 (by decide) (by decide) (r_in7 (by decide) (by decide))
        · rw [if_neg (fun e => he ((r_echo8 pl.1).mp e)), if_neg he, if_pos rfl, zgd_pos ⟨hrc, hrs⟩, zbd_v, zsm_rv, if_neg (by decide), if_pos rfl]
          exact hmx 3 300 3 (by decide) (by decide) (r_in7 (by decide) (by decide))
      · rw [if_neg h6, if_neg h6]
        by_cases c0 : b1 = 0
        · rw [if_pos c0, if_pos c0, rp_0 h hpl (r_kn pl.1), zbj_v, zgd_pos hi]
          exact rOK.id h hI
        · rw [if_neg c0, if_neg c0, rp_ob h hpl pl.1, zbj_v, zbj_v]
          by_cases c1 : b1 = 1
          · obtain ⟨r, q1, q2⟩ := r_tail h ⟨h1, by omega⟩ hpl pl.1
            rw [if_pos c1, if_pos c1, q1, zbd_v, q2, zbd_v]
            exact rOK.id h hI
          · rw [if_neg c1, if_neg c1, r_uses h hpl pl.1, zbd_v, zgd_pos hi]
            exact rOK.id h hI
    · rw [e, zbj_v, zbj_v, if_pos rfl, if_pos rfl]
      exact rOK.id h hI
  · rw [q, zbd_v, if_pos rfl, r_in2n (by rw [ri_0]; exact h1) (by omega), zbj_v, if_pos rfl]
    exact rOK.id h hI
end R20

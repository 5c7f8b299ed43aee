/-! findings; plugs by their numbers; what is told of a track -/
set_option maxRecDepth 100000
section R4
variable {a0 : Nat} {M0 : MS} {ad : Nat → Nat → Nat} {M : MS} {E : RE} {g : zS}
abbrev r_fd (M : MS) (f : Int32) : MS := mA M 48 f.toNatClampNeg (M.A 48 f.toNatClampNeg + 1)
theorem rInv_fd {f : Int32} (hI : rInv M E) : rInv (r_fd M f) E := ⟨hI.1, hI.2.1, hI.2.2.1, hI.2.2.2.1, hI.2.2.2.2.1, hI.2.2.2.2.2.1, hI.2.2.2.2.2.2⟩
theorem r_finds {f : Int32} (hf : vp_in f 7) : fX2_finds M f = some (-10 - f, r_fd M f) := by
  unfold fX2_finds
  rw [zgd_pos hf, zgd_pos hf, zlet_v]
theorem r_met (h : rX a0 M0 ad M E g) {f : Int32} (hf : vp_in f 7) : ∃ g', fX0_met g (ad 0 0) f = some (-10 - f, g') ∧ rX a0 M0 ad (r_fd M f) E g' ∧ g'.2 = g.2 := by
  obtain ⟨g', e1, h', e2⟩ := wr_a6 h (M.A 48 f.toNatClampNeg + 1) hf
  refine ⟨g', ?_, h', e2⟩
  unfold fX0_met
  rw [rd_x14 h, zbj_v, rd_a6 h hf, zbj_v, e1, zbj_v]
theorem r_in7 {f : Int32} (h1 : 0 ≤ f.toInt) (h2 : f.toInt ≤ 6) : vp_in f 7 := z32_in h1 (by omega)
theorem r_plug_at (h : rX a0 M0 ad M E g) {p : Nat} (hp : p < r_np M) : ∃ x, r_c ad M E 30 p = some x := ⟨_, if_pos hp⟩
/-- the number of a plug, sought from above -/
theorem r_numL (h : rX a0 M0 ad M E g) (hnp : 0 ≤ (M.I 4).toInt ∧ (M.I 4).toInt ≤ 12) {P : Int32} (hP : 0 ≤ P.toInt) : ∀ (n : Nat) (y : Int32), P.toInt ≤ y.toInt → y.toInt < (M.I 4).toInt → y.toInt - P.toInt < (n : Int) → fX0_numberOf_L7 n g (ad 0 0) (ad 30 P.toNatClampNeg) y = some (P, g) := by
  intro n
  induction n with
  | zero => intro y h1 h2 h3; omega
  | succ n ih =>
    intro y h1 h2 h3
    rw [fX0_numberOf_L7]
    have hy := rn (x := y) (by omega)
    have hPn := rn hP
    have h4 := rn hnp.1
    have hi : vp_in y 12 := z32_in (by omega) (by omega)
    rw [if_neg (by rw [Int32.lt_iff_toInt_lt, ri_0]; omega), rd_x2 h, zbj_v, rd_a2 h hi (by show y.toNatClampNeg < (M.I 4).toNatClampNeg; omega), zbj_v]
    by_cases e : y = P
    · subst e
      rw [if_pos rfl]
    · have hne : ¬ (some (ad 30 y.toNatClampNeg) = some (ad 30 P.toNatClampNeg)) := by
        intro e2
        obtain ⟨x1, w1⟩ := r_plug_at h (p := y.toNatClampNeg) (by show y.toNatClampNeg < (M.I 4).toNatClampNeg; omega)
        obtain ⟨x2, w2⟩ := r_plug_at h (p := P.toNatClampNeg) (by show P.toNatClampNeg < (M.I 4).toNatClampNeg; omega)
        have e3 := (h.2.1 _ _ _ _ _ _ w1 w2 (Option.some.inj e2)).2
        exact e (Int32.toInt_inj.mp (by omega))
      have hd : y.toInt ≠ P.toInt := fun e2 => e (Int32.toInt_inj.mp e2)
      rw [if_neg hne]
      have em : (y + (-1 : Int32)).toInt = y.toInt - 1 := by rw [z32_add (by rw [ri_m1]; omega) (by rw [ri_m1]; omega), ri_m1]; omega
      exact ih _ (by omega) (by omega) (by omega)
theorem r_num (h : rX a0 M0 ad M E g) (hnp : 0 ≤ (M.I 4).toInt ∧ (M.I 4).toInt ≤ 12) {P : Int32} (hP : 0 ≤ P.toInt) (hP2 : P.toInt < (M.I 4).toInt) : fX0_numberOf g (ad 0 0) (ad 30 P.toNatClampNeg) = some (P, g) := by
  unfold fX0_numberOf
  rw [rd_x3 h, zbj_v]
  have e := r_sub1 (x := M.I 4) (by omega)
  exact r_numL h hnp hP 1000 _ (by omega) (by omega) (by omega)
/-- a place of a chain -/
theorem r_plugAt_in (h : rX a0 M0 ad M E g) (hI : rInv M E) {t j : Int32} (ht : r_tk t) (hj : 0 ≤ j.toInt ∧ j.toInt ≤ 3) : fX0_plugAt g (ad 0 0) t j = some (M.A 19 (4 * t.toNatClampNeg + j.toNatClampNeg), g) := by
  unfold fX0_plugAt
  have htn := rn ht.1
  have hjn := rn hj.1
  have ht8 : t.toNatClampNeg < 8 := by have := ht.2; omega
  have hi : vp_in t 8 := z32_in ht.1 (by have := ht.2; omega)
  have hij : vp_in j 4 := z32_in hj.1 (by omega)
  have hln : zaln g (ad 11 t.toNatClampNeg) = some 4 := zaln_of (h.at (k := 11) (i := t.toNatClampNeg) (if_pos ht8)) (by split <;> decide)
  rw [rd_x4 h, zbj_v, rd_a3 h hi ht8, zbj_v, rd_t6 h ht8, zbj_v, hln, zbj_v, zgd_pos (by decide), if_neg (show ¬ zout j 4 from hij), rd_a11 h ht8 hij, zbj_v]
  have hch := ((hI.2.2.1 _ ht8).2.2.2.2.2 j.toNatClampNeg (by omega)).1
  unfold r_opt
  by_cases hm : M.A 19 (4 * t.toNatClampNeg + j.toNatClampNeg) = -1
  · rw [if_pos hm, zcs_nv, hm]
  · have hm2 : (M.A 19 (4 * t.toNatClampNeg + j.toNatClampNeg)).toInt ≠ -1 := fun e => hm (Int32.toInt_inj.mp (by rw [ri_m1]; exact e))
    rw [if_neg hm, zcs_sv, rd_ob h, zbj_v, r_num h hI.2.1.1 (by omega) (by omega), zbd_v]
theorem rd_zout {j : Int32} {n : Nat} (h : j.toInt < 0 ∨ (n : Int) ≤ j.toInt) : zout j n := by
  rcases h with h | h
  · exact Or.inl (by rw [Int32.lt_iff_toInt_lt, ri_0]; exact h)
  · exact Or.inr (by have := rn (x := j) (by omega); omega)
theorem r_plugAt_out (h : rX a0 M0 ad M E g) (hrc : 3 ≤ g.rc) (hrs : 300 ≤ g.rs) {t j : Int32} (ht : r_tk t) (hj : j.toInt < 0 ∨ 4 ≤ j.toInt) : ∃ g', fX0_plugAt g (ad 0 0) t j = some (-12, g') ∧ rX a0 M0 ad (r_fd M 2) E g' ∧ g.rc ≤ g'.rc + 3 ∧ g.rs ≤ g'.rs + 300 := by
  unfold fX0_plugAt
  have htn := rn ht.1
  have ht8 : t.toNatClampNeg < 8 := by have := ht.2; omega
  have hi : vp_in t 8 := z32_in ht.1 (by have := ht.2; omega)
  have hln : zaln g (ad 11 t.toNatClampNeg) = some 4 := zaln_of (h.at (k := 11) (i := t.toNatClampNeg) (if_pos ht8)) (by split <;> decide)
  have hg : rX a0 M0 ad M E (zxg g) := h.grow 3 300
  obtain ⟨g', e1, h', e2⟩ := r_met hg (f := 2) (r_in7 (by decide) (by decide))
  refine ⟨g', ?_, h', ?_, ?_⟩
  · rw [rd_x4 h, zbj_v, rd_a3 h hi ht8, zbj_v, rd_t6 h ht8, zbj_v, hln, zbj_v, zgd_pos (by decide), if_pos (rd_zout hj), zgd_pos ⟨hrc, hrs⟩, rd_ob hg, zbj_v, e1, zbd_v]
    rfl
  · have : g'.rc = g.rc - 3 := congrArg (fun q => q.2.1) e2
    omega
  · have : g'.rs = g.rs - 300 := congrArg (fun q => q.2.2) e2
    omega
theorem r_isT (b : Int32) : (fX0_isTrack b = some 1 ∧ fX2_isTrack b = some 1 ∧ r_tk b) ∨ (fX0_isTrack b = some 0 ∧ fX2_isTrack b = some 0) := by
  unfold fX0_isTrack fX2_isTrack
  rw [rin2]
  rcases rin_cases b 0 7 with ⟨e, h1, h2⟩ | ⟨e, _⟩
  · rw [e, zbj_v, zgd_pos zbl_1]
    rw [ri_0] at h1
    rw [ri_7] at h2
    exact Or.inl ⟨rfl, rfl, h1, h2⟩
  · rw [e, zbj_v, zgd_pos zbl_0]
    exact Or.inr ⟨rfl, rfl⟩
/-- the first six things that are told of a track -/
theorem r_of (h : rX a0 M0 ad M E g) {t k : Int32} (ht : r_tk t) (hk : 0 ≤ k.toInt ∧ k.toInt ≤ 5) : ∃ r, fX0_of g (ad 0 0) (ad 10 t.toNatClampNeg) k = some (r, g) ∧ fX2_toldOf M t k = some (r, M) := by
  have htn := rn ht.1
  have ht8 : t.toNatClampNeg < 8 := by have := ht.2; omega
  have hi : vp_in t 8 := z32_in ht.1 (by have := ht.2; omega)
  unfold fX0_of fX2_toldOf
  by_cases c0 : k = 0
  · rw [if_pos c0, if_pos c0, rd_t0 h ht8, zbj_v, zgd_pos hi]
    by_cases hz : M.A 13 t.toNatClampNeg = 0
    · rw [if_pos hz, if_pos hz]; exact ⟨_, rfl, rfl⟩
    · rw [if_neg hz, if_neg hz]; exact ⟨_, rfl, rfl⟩
  rw [if_neg c0, if_neg c0]
  by_cases c1 : k = 1
  · rw [if_pos c1, if_pos c1, rd_t1 h ht8, zbj_v, zgd_pos hi]; exact ⟨_, rfl, rfl⟩
  rw [if_neg c1, if_neg c1]
  by_cases c2 : k = 2
  · rw [if_pos c2, if_pos c2, rd_t2 h ht8, zbj_v, zgd_pos hi]; exact ⟨_, rfl, rfl⟩
  rw [if_neg c2, if_neg c2]
  by_cases c3 : k = 3
  · rw [if_pos c3, if_pos c3, rd_t3 h ht8, zbj_v, zgd_pos hi]
    by_cases hz : M.A 16 t.toNatClampNeg = 0
    · rw [if_pos hz, if_pos hz]; exact ⟨_, rfl, rfl⟩
    · rw [if_neg hz, if_neg hz]; exact ⟨_, rfl, rfl⟩
  rw [if_neg c3, if_neg c3]
  by_cases c4 : k = 4
  · obtain ⟨r, er⟩ := r_nan (M.F 17 t.toNatClampNeg)
    rw [if_pos c4, if_pos c4, rd_t4 h ht8, zbj_v, zgd_pos hi, er, zbj_v, zbj_v]; exact ⟨_, rfl, rfl⟩
  rw [if_neg c4, if_neg c4]
  have c5 : k = 5 := Int32.toInt_inj.mp (by
    have d0 : k.toInt ≠ 0 := fun e => c0 (Int32.toInt_inj.mp e)
    have d1 : k.toInt ≠ 1 := fun e => c1 (Int32.toInt_inj.mp e)
    have d2 : k.toInt ≠ 2 := fun e => c2 (Int32.toInt_inj.mp e)
    have d3 : k.toInt ≠ 3 := fun e => c3 (Int32.toInt_inj.mp e)
    have d4 : k.toInt ≠ 4 := fun e => c4 (Int32.toInt_inj.mp e)
    rw [ri_5]; omega)
  rw [if_pos c5, if_pos c5, rd_t5 h ht8, zbj_v, zgd_pos hi]
  by_cases hz : M.A 18 t.toNatClampNeg = 0
  · rw [if_pos hz, if_pos hz]; exact ⟨_, rfl, rfl⟩
  · rw [if_neg hz, if_neg hz]; exact ⟨_, rfl, rfl⟩
theorem r_ne {x : Int32} {n : Int32} (h : x.toInt ≠ n.toInt) : ¬ x = n := fun e => h (by rw [e])
/-- the places of the chain, as the Model tells them -/
theorem r_toldC (M : MS) {t k : Int32} (ht : r_tk t) (hk : 6 ≤ k.toInt ∧ k.toInt ≤ 9) : fX2_toldOf M t k = some (M.A 19 (4 * t.toNatClampNeg + (k - 6).toNatClampNeg), M) := by
  have htn := rn ht.1
  have ht2 := ht.2
  have e4 : ((4 : Int32) * t).toInt = 4 * t.toInt := by rw [z32_mul (by rw [ri_4]; omega) (by rw [ri_4]; omega), ri_4]
  have e5 : ((4 : Int32) * t + k).toInt = 4 * t.toInt + k.toInt := by rw [z32_add (by omega) (by omega), e4]
  have e6 : ((4 : Int32) * t + k - 6).toInt = 4 * t.toInt + k.toInt - 6 := by rw [z32_sub (by rw [ri_6]; omega) (by rw [ri_6]; omega), ri_6, e5]
  have e7 : (k - 6).toInt = k.toInt - 6 := by rw [z32_sub (by rw [ri_6]; omega) (by rw [ri_6]; omega), ri_6]
  have n6 := rn (x := (4 : Int32) * t + k - 6) (by omega)
  have n7 := rn (x := k - 6) (by omega)
  have hi : vp_in ((4 : Int32) * t + k - 6) 32 := z32_in (by omega) (by omega)
  unfold fX2_toldOf
  rw [if_neg (r_ne (by rw [ri_0]; omega)), if_neg (r_ne (by rw [ri_1]; omega)), if_neg (r_ne (show k.toInt ≠ (2 : Int32).toInt by rw [show (2 : Int32).toInt = 2 by decide]; omega)), if_neg (r_ne (show k.toInt ≠ (3 : Int32).toInt by rw [show (3 : Int32).toInt = 3 by decide]; omega)), if_neg (r_ne (by rw [ri_4]; omega)), if_neg (r_ne (by rw [ri_5]; omega)), zgd_pos hi, show ((4 : Int32) * t + k - 6).toNatClampNeg = 4 * t.toNatClampNeg + (k - 6).toNatClampNeg by omega]
theorem rop_told (h : rX a0 M0 ad M E g) (hI : rInv M E) (hrc : 3 ≤ g.rc) (hrs : 300 ≤ g.rs) (b0 b1 : Int32) : rOK a0 M0 ad g 700 70000 (fX0_told g (ad 0 0) b0 b1) (fX2_told M b0 b1) := by
  have hr := hI.2.2.2.1
  unfold fX0_told fX2_told
  rw [rin2]
  rcases r_isT b0 with ⟨e1, e2, ht⟩ | ⟨e1, e2⟩
  · rw [e1, e2, zbj_v, zbj_v, if_neg r10, if_neg r10]
    have htn := rn ht.1
    have ht8 : b0.toNatClampNeg < 8 := by have := ht.2; omega
    have hi : vp_in b0 8 := z32_in ht.1 (by have := ht.2; omega)
    rcases rin_cases b1 0 20 with ⟨e, h1, h2⟩ | ⟨e, _⟩
    · rw [ri_0] at h1
      rw [ri_20] at h2
      rw [e, zbj_v, zbj_v, if_neg r10, if_neg r10]
      rcases rin_cases b1 6 19 with ⟨e', h3, h4⟩ | ⟨e', h3⟩
      · rw [ri_6] at h3
        rw [show (19 : Int32).toInt = 19 by decide] at h4
        have e7 : (b1 - 6).toInt = b1.toInt - 6 := by rw [z32_sub (by rw [ri_6]; omega) (by rw [ri_6]; omega), ri_6]
        rw [e', zbj_v, if_neg r10, rd_ob h, zbj_v, if_neg (r_ne (by rw [ri_20]; omega))]
        by_cases hb : 10 ≤ b1.toInt
        · rw [if_pos (by rw [Int32.le_iff_toInt_le, ri_10]; exact hb), r_finds (r_in7 (f := 2) (by decide) (by decide)), zbd_v]
          obtain ⟨g', q1, q2, q3, q4⟩ := r_plugAt_out h hrc hrs ht (j := b1 - 6) (Or.inr (by omega))
          rw [q1, zbd_v]
          exact ⟨_, g', ad, _, E, rfl, rfl, q2, rfl, rInv_fd hI, by omega, by omega⟩
        · rw [if_neg (by rw [Int32.le_iff_toInt_le, ri_10]; exact hb), r_plugAt_in h hI ht (j := b1 - 6) (by omega), zbd_v, r_toldC M ht (by omega), zbd_v]
          exact rOK.id h hI
      · rw [ri_6, show (19 : Int32).toInt = 19 by decide] at h3
        rw [e', zbj_v, if_pos rfl, rd_x4 h, zbj_v, rd_a3 h hi ht8, zbj_v, rd_ob h, zbj_v]
        by_cases hk : b1.toInt ≤ 5
        · obtain ⟨r, q1, q2⟩ := r_of h ht (k := b1) ⟨h1, hk⟩
          rw [q1, zbd_v, if_neg (r_ne (by rw [ri_20]; omega)), if_neg (by rw [Int32.le_iff_toInt_le, ri_10]; omega), q2, zbd_v]
          exact rOK.id h hI
        · have c : b1 = 20 := Int32.toInt_inj.mp (by rw [ri_20]; omega)
          subst c
          rw [if_pos rfl]
          have q : fX0_of g (ad 0 0) (ad 10 b0.toNatClampNeg) 20 = some (if M.I 28 = 0 then 0 else M.A 20 b0.toNatClampNeg, g) := by
            unfold fX0_of
            rw [if_neg (by decide), if_neg (by decide), if_neg (by decide), if_neg (by decide), if_neg (by decide), if_neg (by decide), rd_x7 h, zbj_v, hr.2.2.2.1]
            by_cases hz : M.I 28 = 0
            · rw [if_pos hz, if_pos hz]
            · rw [if_neg hz, if_neg hz, rd_t7 h ht8, zbj_v]
          rw [q, zbd_v]
          by_cases hz : M.I 28 = 0
          · rw [if_pos hz, if_pos hz]
            exact rOK.id h hI
          · rw [if_neg hz, if_neg hz, zgd_pos hi]
            exact rOK.id h hI
    · rw [e, zbj_v, zbj_v, if_pos rfl, if_pos rfl]
      exact rOK.id h hI
  · rw [e1, e2, zbj_v, zbj_v, if_pos rfl, if_pos rfl]
    exact rOK.id h hI
end R4

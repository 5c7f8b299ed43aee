/-! the calls that only tell, and those that set one int -/
set_option maxRecDepth 100000
section R3
variable {a0 : Nat} {M0 : MS} {ad : Nat → Nat → Nat} {M : MS} {E : RE} {g : zS}
theorem zbl_0 : zbl 0 := ⟨rfl, rfl⟩
theorem zbl_1 : zbl 1 := ⟨rfl, rfl⟩
theorem rif_ne {α : Type} {c : Prop} [Decidable c] {a b : α} (h : ¬ c) : (if c then a else b) = b := if_neg h
theorem r10 : ¬ (1 : Int32) = 0 := by decide
theorem r_sub1 {x : Int32} (h0 : -2147483647 ≤ x.toInt) : (x - 1).toInt = x.toInt - 1 := by
  have := x.toInt_lt
  rw [z32_sub (by rw [ri_1]; omega) (by rw [ri_1]; omega), ri_1]
theorem r_run {M : MS} (hb : r_bit (M.I 28)) (h : ¬ M.I 28 = 0) : M.I 28 = 1 := hb.resolve_left h
theorem r_isW (h : rX a0 M0 ad M E g) (hw : 1 ≤ (M.I 26).toInt ∧ (M.I 26).toInt ≤ 4) (b0 : Int32) : (fX0_isWorker g (ad 0 0) b0 = some (1, g) ∧ fX2_isWorker M b0 = some (1, M) ∧ 0 ≤ b0.toInt ∧ b0.toInt < (M.I 26).toInt) ∨ (fX0_isWorker g (ad 0 0) b0 = some (0, g) ∧ fX2_isWorker M b0 = some (0, M)) := by
  unfold fX0_isWorker fX2_isWorker
  rw [rin2, rd_x6 h, zbj_v]
  have e1 := r_sub1 (x := M.I 26) (by omega)
  rcases rin_cases b0 0 (M.I 26 - 1) with ⟨e, h1, h2⟩ | ⟨e, _⟩
  · rw [e, zbj_v, zbj_v, zgd_pos zbl_1, zgd_pos zbl_1]
    rw [ri_0] at h1
    exact Or.inl ⟨rfl, rfl, h1, by omega⟩
  · rw [e, zbj_v, zbj_v, zgd_pos zbl_0, zgd_pos zbl_0]
    exact Or.inr ⟨rfl, rfl⟩
theorem rop_hire (h : rX a0 M0 ad M E g) (hI : rInv M E) (b0 : Int32) : rOK a0 M0 ad g 700 70000 (fX0_hire g (ad 0 0) b0) (fX2_hire M b0) := by
  obtain ⟨hc, hp, ht, hr, hq, hf, hb⟩ := hI
  unfold fX0_hire fX2_hire
  rw [rin2]
  rcases rin_cases b0 1 4 with ⟨e, h1, h2⟩ | ⟨e, _⟩
  · rw [e, zbj_v, zbj_v, if_neg r10, if_neg r10, rd_x7 h, zbj_v, hr.2.2.2.1]
    by_cases hz : M.I 28 = 0
    · rw [if_pos hz, if_pos hz, rd_x6 h, zbj_v, zlet_v]
      obtain ⟨g', e1, h', e2⟩ := wr_x6 h b0
      rw [e1, zbj_v]
      rw [ri_1] at h1
      rw [ri_4] at h2
      exact rOK.mk1 h' e2 ⟨hc, hp, ht, ⟨⟨h1, h2⟩, hr.2⟩, hq, hf, ⟨hb.1, fun w hw => (hb.2.1 w hw).imp id (fun h3 => absurd (hz.symm.trans h3.1) (by decide)), hb.2.2⟩⟩
    · rw [if_neg hz, if_neg hz]
      exact rOK.id h ⟨hc, hp, ht, hr, hq, hf, hb⟩
  · rw [e, zbj_v, zbj_v, if_pos rfl, if_pos rfl]
    exact rOK.id h ⟨hc, hp, ht, hr, hq, hf, hb⟩
theorem rop_stop (h : rX a0 M0 ad M E g) (hI : rInv M E) : rOK a0 M0 ad g 700 70000 (fX0_stop g (ad 0 0)) (fX2_stop M) := by
  obtain ⟨hc, hp, ht, hr, hq, hf, hb⟩ := hI
  unfold fX0_stop fX2_stop
  rw [rd_x7 h, zbj_v, hr.2.2.2.1]
  by_cases hz : M.I 28 = 0
  · rw [if_pos hz, if_pos hz]
    exact rOK.id h ⟨hc, hp, ht, hr, hq, hf, hb⟩
  · rw [if_neg hz, if_neg hz, rd_x8 h, zbj_v]
    obtain ⟨g', e1, h', e2⟩ := wr_x8 h 1
    have hI' : rInv (mI M 29 1) E := ⟨hc, hp, ht, ⟨hr.1, hr.2.1, Or.inr rfl, hr.2.2.2⟩, hq, hf, hb⟩
    by_cases hs : M.I 29 = 0
    · rw [if_pos hs, if_pos hs, e1, zbj_v, zlet_v]
      exact rOK.mk1 h' e2 hI'
    · rw [if_neg hs, if_neg hs, e1, zbj_v, zlet_v]
      exact rOK.mk1 h' e2 hI'
theorem rop_about (h : rX a0 M0 ad M E g) (hI : rInv M E) (b0 : Int32) : rOK a0 M0 ad g 700 70000 (fX0_about g (ad 0 0) b0) (fX2_about M b0) := by
  have hr := hI.2.2.2.1
  unfold fX0_about fX2_about
  simp only [rd_x1 h, rd_x3 h, rd_x6 h, rd_x7 h, rd_x9 h, rd_x10 h, rd_x12 h, rd_x13 h, rd_x16 h, rd_x18 h, rd_x19 h, zbj_v, hr.2.2.2.1, hr.2.2.2.2.1]
  by_cases c0 : b0 = 0
  · rw [if_pos c0, if_pos c0]
    exact rOK.id h hI
  rw [if_neg c0, if_neg c0]
  by_cases c1 : b0 = 1
  · rw [if_pos c1, if_pos c1]
    exact rOK.id h hI
  rw [if_neg c1, if_neg c1]
  by_cases c2 : b0 = 2
  · rw [if_pos c2, if_pos c2]
    exact rOK.id h hI
  rw [if_neg c2, if_neg c2]
  by_cases c3 : b0 = 3
  · rw [if_pos c3, if_pos c3]
    exact rOK.id h hI
  rw [if_neg c3, if_neg c3]
  by_cases c4 : b0 = 4
  · rw [if_pos c4, if_pos c4]
    exact rOK.id h hI
  rw [if_neg c4, if_neg c4]
  by_cases c5 : b0 = 5
  · rw [if_pos c5, if_pos c5]
    exact rOK.id h hI
  rw [if_neg c5, if_neg c5]
  by_cases c6 : b0 = 6
  · rw [if_pos c6, if_pos c6]
    exact rOK.id h hI
  rw [if_neg c6, if_neg c6]
  by_cases c7 : b0 = 7
  · rw [if_pos c7, if_pos c7]
    by_cases hz : M.I 28 = 0
    · rw [if_pos hz, if_pos hz]
      exact rOK.id h hI
    · rw [if_neg hz, if_neg hz]
      exact rOK.id h hI
  rw [if_neg c7, if_neg c7]
  by_cases c8 : b0 = 8
  · rw [if_pos c8, if_pos c8]
    by_cases hz : M.I 28 = 0
    · rw [if_pos hz, if_pos hz]
      exact rOK.id h hI
    · rw [if_neg hz, if_neg hz]
      exact rOK.id h hI
  rw [if_neg c8, if_neg c8]
  by_cases c9 : b0 = 9
  · rw [if_pos c9, if_pos c9]
    exact rOK.id h hI
  rw [if_neg c9, if_neg c9]
  by_cases c10 : b0 = 10
  · rw [if_pos c10, if_pos c10]
    exact rOK.id h hI
  rw [if_neg c10, if_neg c10]
  exact rOK.id h hI
theorem rop_worker (h : rX a0 M0 ad M E g) (hI : rInv M E) (b0 : Int32) : rOK a0 M0 ad g 700 70000 (fX0_worker g (ad 0 0) b0) (fX2_worker M b0) := by
  have hr := hI.2.2.2.1
  unfold fX0_worker fX2_worker
  rw [rd_ob h, zbj_v]
  rcases r_isW h hr.1 b0 with ⟨e1, e2, h1, h2⟩ | ⟨e1, e2⟩
  · rw [e1, e2, zbd_v, zbd_v, if_neg r10, if_neg r10]
    have hi : vp_in b0 4 := z32_in h1 (by have := hr.1.2; omega)
    rw [rd_x5 h, zbj_v, rd_a4 h hi, zbj_v, zgd_pos hi]
    exact rOK.id h hI
  · rw [e1, e2, zbd_v, zbd_v, if_pos rfl, if_pos rfl]
    exact rOK.id h hI
theorem rop_found (h : rX a0 M0 ad M E g) (hI : rInv M E) (b0 : Int32) : rOK a0 M0 ad g 700 70000 (fX0_found g (ad 0 0) b0) (fX2_found M b0) := by
  unfold fX0_found fX2_found
  rw [rin2]
  rcases rin_cases b0 1 6 with ⟨e, h1, h2⟩ | ⟨e, _⟩
  · rw [ri_1] at h1
    rw [ri_6] at h2
    have hi : vp_in b0 7 := z32_in (by omega) (by omega)
    rw [e, zbj_v, zbj_v, if_neg r10, if_neg r10, rd_x14 h, zbj_v, rd_a6 h hi, zbj_v, zgd_pos hi]
    exact rOK.id h hI
  · rw [e, zbj_v, zbj_v, if_pos rfl, if_pos rfl]
    exact rOK.id h hI
theorem r_mul8 {x : Int32} (h0 : 0 ≤ x.toInt) (h1 : x.toInt ≤ 1000000) : ((8 : Int32) * x).toInt = 8 * x.toInt := by
  rw [z32_mul (by rw [ri_8]; omega) (by rw [ri_8]; omega), ri_8]
theorem rop_out (h : rX a0 M0 ad M E g) (hI : rInv M E) (b0 : Int32) : rOK a0 M0 ad g 700 70000 (fX0_out g (ad 0 0) b0) (fX2_out M b0) := by
  have hr := hI.2.2.2.1
  unfold fX0_out fX2_out
  rw [rin2, rd_x10 h, zbj_v]
  have hb := hr.2.2.2.2.2.1
  have e8 := r_mul8 (x := M.I 31) (by omega) (by omega)
  have es := r_sub1 (x := 8 * M.I 31) (by omega)
  rcases rin_cases b0 0 ((8 : Int32) * M.I 31 - 1) with ⟨e, h1, h2⟩ | ⟨e, _⟩
  · rw [ri_0] at h1
    have hi : vp_in b0 512 := z32_in h1 (by omega)
    obtain ⟨r, er⟩ := r_nan (M.F 32 b0.toNatClampNeg)
    rw [e, zbj_v, zbj_v, if_neg r10, if_neg r10, rd_x11 h, zbj_v, rd_a5 h hi, zbj_v, zgd_pos hi, er, zbj_v, zbj_v]
    exact rOK.id h hI
  · rw [e, zbj_v, zbj_v, if_pos rfl, if_pos rfl]
    exact rOK.id h hI
theorem r_min (x : Int32) : fJ11_min x 100 = some (if (100 : Int32) ≤ x then 100 else x) := by
  unfold fJ11_min
  by_cases h1 : (100 : Int32) < x
  · rw [if_pos h1, if_pos (by rw [Int32.lt_iff_toInt_lt] at h1; rw [Int32.le_iff_toInt_le]; omega)]
  · rw [if_neg h1]
    by_cases h2 : (100 : Int32) ≤ x
    · rw [if_pos h2]
      congr 1
      rw [Int32.lt_iff_toInt_lt] at h1
      rw [Int32.le_iff_toInt_le] at h2
      exact Int32.toInt_inj.mp (by omega)
    · rw [if_neg h2]
theorem r_noted (M : MS) : fX2_noted M = some (if (100 : Int32) ≤ M.I 33 then 100 else M.I 33, M) := by
  unfold fX2_noted
  split <;> rfl
theorem rop_fault (h : rX a0 M0 ad M E g) (hI : rInv M E) (b0 b1 : Int32) : rOK a0 M0 ad g 700 70000 (fX0_fault g (ad 0 0) b0 b1) (fX2_fault M b0 b1) := by
  have hr := hI.2.2.2.1
  have hf := hI.2.2.2.2.2.1
  unfold fX0_fault fX2_fault
  rw [rin2]
  rcases rin_cases b1 0 4 with ⟨e, h1, h2⟩ | ⟨e, _⟩
  · rw [ri_0] at h1
    rw [ri_4] at h2
    rw [e, zbj_v, zbj_v, if_neg r10, if_neg r10, rd_x16 h, zbj_v, r_min, zbj_v, r_noted, zbd_v, rin2]
    generalize hm : (if (100 : Int32) ≤ M.I 33 then (100 : Int32) else M.I 33) = mm
    have hmm : 0 ≤ mm.toInt ∧ mm.toInt ≤ 100 ∧ mm.toInt ≤ (M.I 33).toInt := by
      have h33 := hr.2.2.2.2.2.2.2.1
      rw [← hm]
      by_cases hx : (100 : Int32) ≤ M.I 33
      · rw [if_pos hx]
        rw [Int32.le_iff_toInt_le, ri_100] at hx
        rw [ri_100]
        omega
      · rw [if_neg hx]
        rw [Int32.le_iff_toInt_le, ri_100] at hx
        omega
    have es := r_sub1 (x := mm) (by omega)
    rcases rin_cases b0 0 (mm - 1) with ⟨e', h3, h4⟩ | ⟨e', _⟩
    · rw [ri_0] at h3
      have hb0 := rn h3
      have h33 := rn (x := M.I 33) (by omega)
      obtain ⟨q0, q1, q2, q3, q4⟩ := hf b0.toNatClampNeg (by omega) (by omega)
      have e5 : ((5 : Int32) * b0).toInt = 5 * b0.toInt := by rw [z32_mul (by rw [ri_5]; omega) (by rw [ri_5]; omega), ri_5]
      have e6 : ((5 : Int32) * b0 + b1).toInt = 5 * b0.toInt + b1.toInt := by rw [z32_add (by omega) (by omega), e5]
      have hi : vp_in ((5 : Int32) * b0 + b1) 500 := z32_in (by omega) (by omega)
      have hi2 : vp_in b0 100 := z32_in (by omega) (by omega)
      have hn := rn (x := (5 : Int32) * b0 + b1) (by omega)
      rw [e', zbj_v, zbj_v, if_neg r10, if_neg r10, rd_x15 h, zbj_v, rd_a7 h hi, zbj_v]
      unfold fX2_faultOf
      have key : ∀ k : Nat, b1.toInt = (k : Int) → ((5 : Int32) * b0 + b1).toNatClampNeg = 5 * b0.toNatClampNeg + k := by
        intro k hk
        omega
      by_cases c0 : b1 = 0
      · rw [if_pos c0, zgd_pos hi2, zbd_v, key 0 (by rw [c0]; decide), Nat.add_zero, q0]
        exact rOK.id h hI
      rw [if_neg c0]
      by_cases c1 : b1 = 1
      · rw [if_pos c1, zgd_pos hi2, zbd_v, key 1 (by rw [c1]; decide), q1]
        exact rOK.id h hI
      rw [if_neg c1]
      by_cases c2 : b1 = 2
      · rw [if_pos c2, zgd_pos hi2, zbd_v, key 2 (by rw [c2]; decide), q2]
        exact rOK.id h hI
      rw [if_neg c2]
      by_cases c3 : b1 = 3
      · rw [if_pos c3, zgd_pos hi2, zbd_v, key 3 (by rw [c3]; decide), q3]
        exact rOK.id h hI
      rw [if_neg c3]
      have d0 : b1.toInt ≠ 0 := fun e => c0 (Int32.toInt_inj.mp e)
      have d1 : b1.toInt ≠ 1 := fun e => c1 (Int32.toInt_inj.mp e)
      have d2 : b1.toInt ≠ 2 := fun e => c2 (Int32.toInt_inj.mp e)
      have d3 : b1.toInt ≠ 3 := fun e => c3 (Int32.toInt_inj.mp e)
      rw [zgd_pos hi2, zbd_v, key 4 (by omega), q4]
      exact rOK.id h hI
    · rw [e', zbj_v, zbj_v, if_pos rfl, if_pos rfl]
      exact rOK.id h hI
  · rw [e, zbj_v, zbj_v, if_pos rfl, if_pos rfl]
    exact rOK.id h hI
end R3

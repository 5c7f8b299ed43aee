/-! edits: done, or queued -/
set_option maxRecDepth 100000
section R12
variable {a0 : Nat} {M0 : MS} {ad ad' : Nat → Nat → Nat} {M M' : MS} {E : RE} {g g1 : zS} {k t x y s w a b c d : Int32}
abbrev r_RR (E : RE) : Prop := ∀ u, u < 8 → ((E.R 9 u = 12 ∧ E.R 10 u = 13) ∨ (E.R 9 u = 13 ∧ E.R 10 u = 12))
theorem r_does (h : rX a0 M0 ad M E g) (hS : rS M) (hR : r_RR E) (hrc : 3 ≤ g.rc) (hrs : 300 ≤ g.rs) (ed : r_ed M k t x y s w a b c d) : r_dn a0 M0 ad M E g (fX0_does g (ad 0 0) k t x y s) (fX2_does M w a b c d) := by
  obtain ⟨rfl, rfl, hs, ed⟩ := ed
  rcases ed with ⟨rfl, ht, hx, rfl, rfl, rfl⟩ | ⟨rfl, ht, rfl⟩ | ⟨rfl, ht, hy, rfl, rfl⟩ | ⟨rfl, ht, hx, rfl⟩ | ⟨rfl, ht, rfl⟩ | ⟨rfl, ht, hx, rfl⟩
  · exact r_dn0 h hS ht hx hs
  · exact r_dn1 h hS hR hrc hrs ht hs c d
  · exact r_dn2 h hS hrc hrs ht hy d
  · exact r_dn3 h hS ht hx c d
  · exact r_dn4 h hS ht hs c d
  · exact r_dn5 h hS hR hrc hrs ht hx c d
theorem rInv_fr (hI : rInv M E) (hz : M.I 28 = 0) (hS : rS M') (hF : r_fr M M') : rInv M' E := by
  obtain ⟨hc, hp, ht, hr, hq, hf, hb⟩ := hI
  have e26 := hF.1 26 (by decide)
  have e28 := hF.1 28 (by decide)
  have e29 := hF.1 29 (by decide)
  have e30 := hF.1 30 (by decide)
  have e31 := hF.1 31 (by decide)
  have e33 := hF.1 33 (by decide)
  have e39 := hF.1 39 (by decide)
  refine ⟨hS.1, hS.2.1, hS.2.2, ?_, ?_, ?_, ?_⟩
  · unfold rI_r
    rw [e26, e28, e29, e30, e31, e33, e39]
    exact hr
  · intro q hlt
    rw [e39, hr.2.2.2.2.2.2.2.2.2 hz] at hlt
    exact absurd hlt (Nat.not_lt_zero _)
  · intro i h1 h2
    rw [e33] at h1
    rw [hF.2.1 34 (by decide) (by decide) (by decide) (by decide) (by decide) (by decide) (by decide) (by decide) (by decide), hF.2.1 35 (by decide) (by decide) (by decide) (by decide) (by decide) (by decide) (by decide) (by decide) (by decide), hF.2.1 36 (by decide) (by decide) (by decide) (by decide) (by decide) (by decide) (by decide) (by decide) (by decide), hF.2.1 37 (by decide) (by decide) (by decide) (by decide) (by decide) (by decide) (by decide) (by decide) (by decide), hF.2.1 38 (by decide) (by decide) (by decide) (by decide) (by decide) (by decide) (by decide) (by decide) (by decide)]
    exact hf i h1 h2
  · have e27 := hF.2.1 27 (by decide) (by decide) (by decide) (by decide) (by decide) (by decide) (by decide) (by decide) (by decide)
    unfold rI_b
    rw [e27, e28]
    exact ⟨fun t ht => ⟨(hb.1 t ht).1, fun h1 => absurd (hz.symm.trans h1) (by decide)⟩, fun w hw => (hb.2.1 w hw).imp id (fun h1 => absurd (hz.symm.trans h1.1) (by decide)), hb.2.2.1, fun h1 => absurd (hz.symm.trans h1) (by decide)⟩
abbrev r_qM (M : MS) (w a b c d : Int32) : MS := mI (mA (mA (mA (mA (mA M 40 (M.I 39).toNatClampNeg w) 41 (M.I 39).toNatClampNeg a) 42 (M.I 39).toNatClampNeg b) 43 (M.I 39).toNatClampNeg c) 44 (M.I 39).toNatClampNeg d) 39 (M.I 39 + 1)
abbrev r_qE (E : RE) (q : Nat) (k t x y s : Int32) : RE := eQ (eQ (eQ (eQ (eQ E 8 (5 * q) k) 8 (5 * q + 1) t) 8 (5 * q + 2) x) 8 (5 * q + 3) y) 8 (5 * q + 4) s
theorem r_qE8 (E : RE) (q : Nat) (k t x y s : Int32) (i : Nat) : (r_qE E q k t x y s).Q 8 i = if i = 5 * q + 4 then s else if i = 5 * q + 3 then y else if i = 5 * q + 2 then x else if i = 5 * q + 1 then t else if i = 5 * q then k else E.Q 8 i := by
  have e : (r_qE E q k t x y s).Q 8 = upd (upd (upd (upd (upd (E.Q 8) (5 * q) k) (5 * q + 1) t) (5 * q + 2) x) (5 * q + 3) y) (5 * q + 4) s := by simp [RE.Q, eQ, va_up]
  rw [e]
  rfl
theorem r_edit (h : rX a0 M0 ad M E g) (hI : rInv M E) (hrc : 3 ≤ g.rc) (hrs : 300 ≤ g.rs) (ed : r_ed M k t x y s w a b c d) : rOK a0 M0 ad g 700 70000 (fX0_edit g (ad 0 0) k t x y s) (fX2_edit M w a b c d) := by
  have hI0 := hI
  obtain ⟨hc, hp, ht, hr, hq, hf, hb⟩ := hI
  have hs : r_bit s := ed.2.2.1
  have hRR : r_RR E := fun u hu => (hb.1 u hu).1
  unfold fX0_edit fX2_edit
  rw [rd_x7 h, zbj_v, hr.2.2.2.1]
  by_cases hz : M.I 28 = 0
  · rw [if_pos hz, if_pos hz, rd_ob h, zbj_v]
    obtain ⟨f, g', ad', r, M', q1, q2, q3, q4, q5, q6, q7, q8, q9⟩ := r_does h ⟨hc, hp, ht⟩ hRR hrc hrs ed
    rw [q1, q2, zbd_v, zbd_v]
    have hI' := rInv_fr hI0 hz q6 q7
    rcases q5 with ⟨rfl, rfl⟩ | ⟨hne, rfl⟩
    · rw [if_pos rfl]
      exact ⟨1, g', ad', M', E, rfl, rfl, q3, q4, hI', by omega, by omega⟩
    · rw [if_neg hne]
      exact ⟨_, g', ad', M', E, rfl, rfl, q3, q4, hI', by omega, by omega⟩
  · rw [if_neg hz, if_neg hz, rd_x18 h, zbj_v]
    have hqd := hr.2.2.2.2.2.2.2.2.1
    have e30 : (30 : Int32).toInt = 30 := by decide
    by_cases h30 : M.I 39 = 30
    · rw [if_pos h30, if_pos h30]
      exact rOK.id h hI0
    · rw [if_neg h30, if_neg h30]
      have hlt : (M.I 39).toInt ≠ 30 := fun e => h30 (Int32.toInt_inj.mp (by rw [e30]; exact e))
      have hn := rn hqd.1
      have hin : vp_in (M.I 39) 30 := z32_in hqd.1 (by omega)
      have e5 : ((5 : Int32) * M.I 39).toInt = 5 * (M.I 39).toInt := by rw [z32_mul (by rw [ri_5]; omega) (by rw [ri_5]; omega), ri_5]
      have n5 := rn (x := (5 : Int32) * M.I 39) (by omega)
      have ea : ∀ j : Int32, 0 ≤ j.toInt ∧ j.toInt ≤ 4 → ((5 : Int32) * M.I 39 + j).toInt = 5 * (M.I 39).toInt + j.toInt := fun j hj => by rw [z32_add (by omega) (by omega), e5]
      have i0 : vp_in ((5 : Int32) * M.I 39) 150 := z32_in (by omega) (by omega)
      have ii : ∀ j : Int32, 0 ≤ j.toInt ∧ j.toInt ≤ 4 → vp_in ((5 : Int32) * M.I 39 + j) 150 := fun j hj => z32_in (by rw [ea j hj]; omega) (by rw [ea j hj]; omega)
      have nn : ∀ (j : Int32) (m : Nat), j.toInt = (m : Int) → m ≤ 4 → ((5 : Int32) * M.I 39 + j).toNatClampNeg = 5 * (M.I 39).toNatClampNeg + m := fun j m hj hm => by
        have h1 := ea j ⟨by omega, by omega⟩
        have h2 := rn (x := (5 : Int32) * M.I 39 + j) (by omega)
        omega
      have n0 : ((5 : Int32) * M.I 39).toNatClampNeg = 5 * (M.I 39).toNatClampNeg := by omega
      obtain ⟨g1, e1, h1, q1⟩ := wr_a8 h k i0
      obtain ⟨g2, e2, h2, q2⟩ := wr_a8 h1 t (ii 1 (by decide))
      obtain ⟨g3, e3, h3, q3⟩ := wr_a8 h2 x (ii 2 (by decide))
      obtain ⟨g4, e4, h4, q4⟩ := wr_a8 h3 y (ii 3 (by decide))
      obtain ⟨g5, e5', h5, q5⟩ := wr_a8 h4 s (ii 4 (by decide))
      obtain ⟨g6, e6, h6, q6⟩ := wr_x18 h5 (M.I 39 + 1)
      rw [n0, nn 1 1 (by decide) (by decide), nn 2 2 (by decide) (by decide), nn 3 3 (by decide) (by decide), nn 4 4 (by decide) (by decide)] at h6
      have hb4 : (if s = 0 then (fun (g33 : zS) (v34 : Nat) (v35 : Int32) (v36 : Int32) (v37 : Nat) => zbj (zsI g33 0 v37 v36 v35) (fun g38 => zbj (zgI g38 [0] v34 18) (fun i40 => zbj (zpV g38 [0] v34 18 (.int (i40 + (1 : Int32)))) (fun g42 => some ((0 : Int32), g42))))) g4 (ad 0 0) (0 : Int32) (((5 : Int32) * M.I 39) + (4 : Int32)) (ad 8 0) else (fun (g33 : zS) (v34 : Nat) (v35 : Int32) (v36 : Int32) (v37 : Nat) => zbj (zsI g33 0 v37 v36 v35) (fun g38 => zbj (zgI g38 [0] v34 18) (fun i40 => zbj (zpV g38 [0] v34 18 (.int (i40 + (1 : Int32)))) (fun g42 => some ((0 : Int32), g42))))) g4 (ad 0 0) (1 : Int32) (((5 : Int32) * M.I 39) + (4 : Int32)) (ad 8 0)) = some (0, g6) := by
        rcases hs with rfl | rfl
        · rw [if_pos rfl]
          show zbj (zsI g4 0 (ad 8 0) (((5 : Int32) * M.I 39) + (4 : Int32)) 0) _ = _
          rw [e5', zbj_v, rd_x18 h5, zbj_v, e6, zbj_v]
        · rw [if_neg (by decide)]
          show zbj (zsI g4 0 (ad 8 0) (((5 : Int32) * M.I 39) + (4 : Int32)) 1) _ = _
          rw [e5', zbj_v, rd_x18 h5, zbj_v, e6, zbj_v]
      rw [rd_x17 h, zbj_v, zbj_v, e1, zbj_v, rd_x17 h1, zbj_v, rd_x18 h1, zbj_v, e2, zbj_v, rd_x17 h2, zbj_v, rd_x18 h2, zbj_v, e3, zbj_v, rd_x17 h3, zbj_v, rd_x18 h3, zbj_v, e4, zbj_v, rd_x17 h4, zbj_v, rd_x18 h4, zbj_v, zjoin_v, hb4]
      rw [zgd_pos hin, zlet_v, zgd_pos (show vp_in _ 30 from hin), zlet_v, zgd_pos (show vp_in _ 30 from hin), zlet_v, zgd_pos (show vp_in _ 30 from hin), zlet_v, zgd_pos (show vp_in _ 30 from hin), zlet_v, zlet_v]
      have hX : rX a0 M0 ad (r_qM M w a b c d) (r_qE E (M.I 39).toNatClampNeg k t x y s) g6 := h6.same (fun k' => by rcases r_split k' with rfl | rfl | rfl | rfl | rfl | rfl | rfl | rfl | rfl | rfl | rfl | rfl | rfl | rfl | rfl | rfl | rfl | rfl | rfl | hr <;> first | (funext i'; simp [r_c, r_x, r_t, r_p, mA, mF, mI, MS.I, MS.A, MS.F, MS.L, va_up]; done) | (rw [hr, hr]))
      have qq : g6.2 = g.2 := q6.trans (q5.trans (q4.trans (q3.trans (q2.trans q1))))
      refine rOK.mk1 (M' := r_qM M w a b c d) hX qq ⟨hc, hp, ht, ?_, ?_, ?_, ?_⟩
      · have e1' : (M.I 39 + 1).toInt = (M.I 39).toInt + 1 := by rw [z32_add (by rw [ri_1]; omega) (by rw [ri_1]; omega), ri_1]
        refine ⟨hr.1, hr.2.1, hr.2.2.1, hr.2.2.2.1, hr.2.2.2.2.1, hr.2.2.2.2.2.1, hr.2.2.2.2.2.2.1, hr.2.2.2.2.2.2.2.1, ?_, fun h0 => absurd h0 hz⟩
        show 0 ≤ (M.I 39 + 1).toInt ∧ (M.I 39 + 1).toInt ≤ 30
        omega
      · have e1' : (M.I 39 + 1).toInt = (M.I 39).toInt + 1 := by rw [z32_add (by rw [ri_1]; omega) (by rw [ri_1]; omega), ri_1]
        have hn1 := rn (x := M.I 39 + 1) (by omega)
        intro q hq1
        have hq2 : q < (M.I 39 + 1).toNatClampNeg := hq1
        have m40 : (r_qM M w a b c d).A 40 = upd (M.A 40) (M.I 39).toNatClampNeg w := by simp [mI, mA, MS.A, va_up]
        have m41 : (r_qM M w a b c d).A 41 = upd (M.A 41) (M.I 39).toNatClampNeg a := by simp [mI, mA, MS.A, va_up]
        have m42 : (r_qM M w a b c d).A 42 = upd (M.A 42) (M.I 39).toNatClampNeg b := by simp [mI, mA, MS.A, va_up]
        have m43 : (r_qM M w a b c d).A 43 = upd (M.A 43) (M.I 39).toNatClampNeg c := by simp [mI, mA, MS.A, va_up]
        have m44 : (r_qM M w a b c d).A 44 = upd (M.A 44) (M.I 39).toNatClampNeg d := by simp [mI, mA, MS.A, va_up]
        rw [m40, m41, m42, m43, m44, r_qE8, r_qE8, r_qE8, r_qE8, r_qE8]
        unfold upd
        by_cases he : q = (M.I 39).toNatClampNeg
        · subst he
          simp only [if_pos, show ¬ (5 * (M.I 39).toNatClampNeg = 5 * (M.I 39).toNatClampNeg + 4) by omega, show ¬ (5 * (M.I 39).toNatClampNeg = 5 * (M.I 39).toNatClampNeg + 3) by omega, show ¬ (5 * (M.I 39).toNatClampNeg = 5 * (M.I 39).toNatClampNeg + 2) by omega, show ¬ (5 * (M.I 39).toNatClampNeg = 5 * (M.I 39).toNatClampNeg + 1) by omega, show ¬ (5 * (M.I 39).toNatClampNeg + 1 = 5 * (M.I 39).toNatClampNeg + 4) by omega, show ¬ (5 * (M.I 39).toNatClampNeg + 1 = 5 * (M.I 39).toNatClampNeg + 3) by omega, show ¬ (5 * (M.I 39).toNatClampNeg + 1 = 5 * (M.I 39).toNatClampNeg + 2) by omega, show ¬ (5 * (M.I 39).toNatClampNeg + 2 = 5 * (M.I 39).toNatClampNeg + 4) by omega, show ¬ (5 * (M.I 39).toNatClampNeg + 2 = 5 * (M.I 39).toNatClampNeg + 3) by omega, show ¬ (5 * (M.I 39).toNatClampNeg + 3 = 5 * (M.I 39).toNatClampNeg + 4) by omega, if_false]
          exact ed
        · have hlt2 : q < (M.I 39).toNatClampNeg := by omega
          simp only [if_neg he]
          rw [if_neg (by omega), if_neg (by omega), if_neg (by omega), if_neg (by omega), if_neg (by omega), if_neg (by omega), if_neg (by omega), if_neg (by omega), if_neg (by omega), if_neg (by omega), if_neg (by omega), if_neg (by omega), if_neg (by omega), if_neg (by omega), if_neg (by omega), if_neg (by omega), if_neg (by omega), if_neg (by omega), if_neg (by omega), if_neg (by omega), if_neg (by omega), if_neg (by omega), if_neg (by omega), if_neg (by omega), if_neg (by omega)]
          exact hq q hlt2
      · exact hf
      · exact hb
end R12

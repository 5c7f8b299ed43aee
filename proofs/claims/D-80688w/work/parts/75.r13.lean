/-! the calls that edit -/
set_option maxRecDepth 100000
section R13
variable {a0 : Nat} {M0 : MS} {ad : Nat → Nat → Nat} {M : MS} {E : RE} {g : zS}
theorem zbd_id {α β : Type} (o : Option (α × β)) : zbd o (fun r x => some (r, x)) = o := by cases o <;> rfl
theorem r_isC (h : rX a0 M0 ad M E g) (hc : 0 ≤ (M.I 0).toInt ∧ (M.I 0).toInt ≤ 16) (b : Int32) : (fX0_isClip g (ad 0 0) b = some (1, g) ∧ 0 ≤ b.toInt ∧ b.toInt < (M.I 0).toInt) ∨ (fX0_isClip g (ad 0 0) b = some (0, g) ∧ (b.toInt < 0 ∨ (M.I 0).toInt ≤ b.toInt)) := by
  unfold fX0_isClip
  rw [rd_x1 h, zbj_v]
  have e1 := r_sub1 (x := M.I 0) (by omega)
  rcases rin_cases b 0 (M.I 0 - 1) with ⟨e, h1, h2⟩ | ⟨e, h1⟩
  · rw [e, zbj_v, zgd_pos zbl_1]
    rw [ri_0] at h1
    exact Or.inl ⟨rfl, h1, by omega⟩
  · rw [e, zbj_v, zgd_pos zbl_0]
    rw [ri_0] at h1
    exact Or.inr ⟨rfl, by omega⟩
theorem r_isP (h : rX a0 M0 ad M E g) (hc : 0 ≤ (M.I 4).toInt ∧ (M.I 4).toInt ≤ 12) (b : Int32) : (fX0_isPlug g (ad 0 0) b = some (1, g) ∧ 0 ≤ b.toInt ∧ b.toInt < (M.I 4).toInt) ∨ (fX0_isPlug g (ad 0 0) b = some (0, g) ∧ (b.toInt < 0 ∨ (M.I 4).toInt ≤ b.toInt)) := by
  unfold fX0_isPlug
  rw [rd_x3 h, zbj_v]
  have e1 := r_sub1 (x := M.I 4) (by omega)
  rcases rin_cases b 0 (M.I 4 - 1) with ⟨e, h1, h2⟩ | ⟨e, h1⟩
  · rw [e, zbj_v, zgd_pos zbl_1]
    rw [ri_0] at h1
    exact Or.inl ⟨rfl, h1, by omega⟩
  · rw [e, zbj_v, zgd_pos zbl_0]
    rw [ri_0] at h1
    exact Or.inr ⟨rfl, by omega⟩
theorem r_in2y {v : Int32} {n : Int32} {lo : Int32} (h1 : lo.toInt ≤ v.toInt) (h2 : v.toInt < n.toInt) (h3 : -2147483647 ≤ n.toInt) : fX2_in v lo (n - 1) = some 1 := by
  rw [rin2]
  have e := r_sub1 h3
  exact rin_y h1 (by omega)
theorem r_in2n {v : Int32} {n : Int32} {lo : Int32} (h : v.toInt < lo.toInt ∨ n.toInt ≤ v.toInt) (h3 : -2147483647 ≤ n.toInt) : fX2_in v lo (n - 1) = some 0 := by
  rw [rin2]
  have e := r_sub1 h3
  exact rin_n (by omega)
theorem r_ifz {b : Int32} (h : r_bit b) {α : Type} (f : Int32 → α) : (if b = 0 then f 0 else f 1) = f b := by rcases h with rfl | rfl <;> rfl
theorem rop_track (h : rX a0 M0 ad M E g) (hI : rInv M E) (hrc : 3 ≤ g.rc) (hrs : 300 ≤ g.rs) (b0 b1 b2 b3 : Int32) (hb : b3 = 0 ∨ b3 = 1) : rOK a0 M0 ad g 700 70000 (fX0_track g (ad 0 0) b0 b1 b2 b3) (fX2_track M b0 b1 b2 b3) := by
  have hc := hI.1.1
  unfold fX0_track fX2_track
  rcases r_isT b0 with ⟨e1, e2, ht⟩ | ⟨e1, e2⟩
  · rw [e1, e2, zbj_v, zbj_v, if_neg r10, if_neg r10, zjoin_v]
    have go : (-1 ≤ b1.toInt ∧ b1.toInt < (M.I 0).toInt) → rOK a0 M0 ad g 700 70000 (zbj (zob g [0] (ad 0 0)) (fun ob10 => zbd (fX0_edit g (ad 0 0) (0 : Int32) b0 b1 b2 b3) (fun r12 g13 => some (r12, g13)))) (zbj (fX2_in b1 (-1 : Int32) ((M.I 0) - (1 : Int32))) (fun r3 => if r3 = 0 then some ((-101 : Int32), M) else zjoin (fun (M5 : MS) (v6 : Int32) (v7 : Int32) (v8 : Int32) (v9 : Int32) (v10 : Int32) => zbd (fX2_edit M5 v10 v9 v8 v7 v6) (fun r11 M12 => some (r11, M12))) (fun j13 => if b3 = 0 then j13 M (0 : Int32) b2 b1 b0 (0 : Int32) else j13 M (1 : Int32) b2 b1 b0 (0 : Int32)))) := by
      intro hr
      rw [r_in2y (by rw [ri_m1]; exact hr.1) hr.2 (by omega), zbj_v, if_neg r10, zjoin_v, r_ifz hb (fun v => zbd (fX2_edit M (0 : Int32) b0 b1 b2 v) (fun r11 M12 => some (r11, M12))), rd_ob h, zbj_v, zbd_id, zbd_id]
      exact r_edit h hI hrc hrs ⟨rfl, rfl, hb, Or.inl ⟨rfl, ht, hr, rfl, rfl, rfl⟩⟩
    by_cases hz : b1 = -1
    · rw [if_pos hz]
      exact go (by rw [hz, ri_m1]; omega)
    · rw [if_neg hz, rd_ob h, zbj_v]
      rcases r_isC h hc b1 with ⟨q, h1, h2⟩ | ⟨q, h1⟩
      · rw [q, zbd_v, if_neg r10]
        exact go ⟨by omega, h2⟩
      · have hz2 : b1.toInt ≠ -1 := fun e => hz (Int32.toInt_inj.mp (by rw [ri_m1]; exact e))
        rw [q, zbd_v, if_pos rfl, r_in2n (by rw [ri_m1]; omega) (by omega), zbj_v, if_pos rfl]
        exact rOK.id h hI
  · rw [e1, e2, zbj_v, zbj_v, if_pos rfl, if_pos rfl]
    exact rOK.id h hI
theorem rop_pure (h : rX a0 M0 ad M E g) (hI : rInv M E) (hrc : 3 ≤ g.rc) (hrs : 300 ≤ g.rs) (b0 b1 : Int32) (hb : b1 = 0 ∨ b1 = 1) : rOK a0 M0 ad g 700 70000 (fX0_pure g (ad 0 0) b0 b1) (fX2_pure M b0 b1) := by
  unfold fX0_pure fX2_pure
  rcases r_isT b0 with ⟨e1, e2, ht⟩ | ⟨e1, e2⟩
  · rw [e1, e2, zbj_v, zbj_v, if_neg r10, if_neg r10, zjoin_v, r_ifz hb (fun v => zbd (fX2_edit M (1 : Int32) b0 v (0 : Int32) (0 : Int32)) (fun r11 M12 => some (r11, M12))), rd_ob h, zbj_v, zbd_id, zbd_id]
    exact r_edit h hI hrc hrs ⟨rfl, rfl, hb, Or.inr (Or.inl ⟨rfl, ht, rfl⟩)⟩
  · rw [e1, e2, zbj_v, zbj_v, if_pos rfl, if_pos rfl]
    exact rOK.id h hI
theorem rop_on (h : rX a0 M0 ad M E g) (hI : rInv M E) (hrc : 3 ≤ g.rc) (hrs : 300 ≤ g.rs) (b0 b1 : Int32) (hb : b1 = 0 ∨ b1 = 1) : rOK a0 M0 ad g 700 70000 (fX0_on g (ad 0 0) b0 b1) (fX2_on M b0 b1) := by
  unfold fX0_on fX2_on
  rcases r_isT b0 with ⟨e1, e2, ht⟩ | ⟨e1, e2⟩
  · rw [e1, e2, zbj_v, zbj_v, if_neg r10, if_neg r10, zjoin_v, r_ifz hb (fun v => zbd (fX2_edit M (4 : Int32) b0 v (0 : Int32) (0 : Int32)) (fun r11 M12 => some (r11, M12))), rd_ob h, zbj_v, zbd_id, zbd_id]
    exact r_edit h hI hrc hrs ⟨rfl, rfl, hb, Or.inr (Or.inr (Or.inr (Or.inr (Or.inl ⟨rfl, ht, rfl⟩))))⟩
  · rw [e1, e2, zbj_v, zbj_v, if_pos rfl, if_pos rfl]
    exact rOK.id h hI
theorem rop_chain (h : rX a0 M0 ad M E g) (hI : rInv M E) (hrc : 3 ≤ g.rc) (hrs : 300 ≤ g.rs) (b0 b1 b2 : Int32) : rOK a0 M0 ad g 700 70000 (fX0_chain g (ad 0 0) b0 b1 b2) (fX2_chain M b0 b1 b2) := by
  have hp := hI.2.1.1
  unfold fX0_chain fX2_chain
  rcases r_isT b0 with ⟨e1, e2, ht⟩ | ⟨e1, e2⟩
  · rw [e1, e2, zbj_v, zbj_v, if_neg r10, if_neg r10, zjoin_v]
    have go : (-1 ≤ b2.toInt ∧ b2.toInt < (M.I 4).toInt) → rOK a0 M0 ad g 700 70000 (zbj (zob g [0] (ad 0 0)) (fun ob10 => zbd (fX0_edit g (ad 0 0) (2 : Int32) b0 b1 b2 (0 : Int32)) (fun r12 g13 => some (r12, g13)))) (zbj (fX2_in b2 (-1 : Int32) ((M.I 4) - (1 : Int32))) (fun r3 => if r3 = 0 then some ((-101 : Int32), M) else zbd (fX2_edit M (2 : Int32) b0 b1 b2 (0 : Int32)) (fun r5 M6 => some (r5, M6)))) := by
      intro hr
      rw [r_in2y (by rw [ri_m1]; exact hr.1) hr.2 (by omega), zbj_v, if_neg r10, rd_ob h, zbj_v, zbd_id, zbd_id]
      exact r_edit h hI hrc hrs ⟨rfl, rfl, Or.inl rfl, Or.inr (Or.inr (Or.inl ⟨rfl, ht, hr, rfl, rfl⟩))⟩
    by_cases hz : b2 = -1
    · rw [if_pos hz]
      exact go (by rw [hz, ri_m1]; omega)
    · rw [if_neg hz, rd_ob h, zbj_v]
      rcases r_isP h hp b2 with ⟨q, h1, h2⟩ | ⟨q, h1⟩
      · rw [q, zbd_v, if_neg r10]
        exact go ⟨by omega, h2⟩
      · have hz2 : b2.toInt ≠ -1 := fun e => hz (Int32.toInt_inj.mp (by rw [ri_m1]; exact e))
        rw [q, zbd_v, if_pos rfl, r_in2n (by rw [ri_m1]; omega) (by omega), zbj_v, if_pos rfl]
        exact rOK.id h hI
  · rw [e1, e2, zbj_v, zbj_v, if_pos rfl, if_pos rfl]
    exact rOK.id h hI
theorem rop_level (h : rX a0 M0 ad M E g) (hI : rInv M E) (hrc : 3 ≤ g.rc) (hrs : 300 ≤ g.rs) (b0 b1 : Int32) : rOK a0 M0 ad g 700 70000 (fX0_level g (ad 0 0) b0 b1) (fX2_level M b0 b1) := by
  unfold fX0_level fX2_level
  rcases r_isT b0 with ⟨e1, e2, ht⟩ | ⟨e1, e2⟩
  · rw [e1, e2, zbj_v, zbj_v, if_neg r10, if_neg r10]
    rcases r_level b1 (low := FP.fconst0) (by rw [n32_iff]; decide) (by decide +kernel) with ⟨q1, q2, q3⟩ | ⟨q1, q2⟩
    · rw [q1, q2, zbj_v, zbj_v, if_neg r10, if_neg r10, rd_ob h, zbj_v, zbd_id, zbd_id]
      exact r_edit h hI hrc hrs ⟨rfl, rfl, Or.inl rfl, Or.inr (Or.inr (Or.inr (Or.inl ⟨rfl, ht, q3, rfl⟩)))⟩
    · rw [q1, q2, zbj_v, zbj_v, if_pos rfl, if_pos rfl]
      exact rOK.id h hI
  · rw [e1, e2, zbj_v, zbj_v, if_pos rfl, if_pos rfl]
    exact rOK.id h hI
theorem rop_line (h : rX a0 M0 ad M E g) (hI : rInv M E) (hrc : 3 ≤ g.rc) (hrs : 300 ≤ g.rs) (b0 b1 : Int32) : rOK a0 M0 ad g 700 70000 (fX0_line g (ad 0 0) b0 b1) (fX2_line M b0 b1) := by
  have hp := hI.2.1.1
  unfold fX0_line fX2_line
  rw [rd_ob h, zbj_v]
  rcases r_isP h hp b0 with ⟨q, h1, h2⟩ | ⟨q, h1⟩
  · rw [q, zbd_v, if_neg r10, r_in2y (by rw [ri_0]; exact h1) h2 (by omega), zbj_v, if_neg r10]
    by_cases hx : b1 ≤ 16
    · rw [if_pos hx, if_pos hx, rd_ob h, zbj_v, zbd_id, zbd_id]
      rw [Int32.le_iff_toInt_le, show (16 : Int32).toInt = 16 by decide] at hx
      exact r_edit h hI hrc hrs ⟨rfl, rfl, Or.inl rfl, Or.inr (Or.inr (Or.inr (Or.inr (Or.inr ⟨rfl, ⟨h1, h2⟩, hx, rfl⟩))))⟩
    · rw [if_neg hx, if_neg hx]
      exact rOK.id h hI
  · rw [q, zbd_v, if_pos rfl, r_in2n (by rw [ri_0]; exact h1) (by omega), zbj_v, if_pos rfl]
    exact rOK.id h hI
end R13

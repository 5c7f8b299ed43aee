/-! a block begins; render -/
set_option maxRecDepth 100000
section R19
variable {a0 : Nat} {M0 : MS} {ad : Nat → Nat → Nat} {M : MS} {E : RE} {g : zS}
/-- what a block's beginning has done to the tracks from y on -/
def r_op (M : MS) (E : RE) (y : Nat) (M' : MS) (E' : RE) : Prop := M'.1 = M.1 ∧ (∀ k, k ≠ 20 → k ≠ 21 → k ≠ 22 → M'.A k = M.A k) ∧ M'.2.2 = M.2.2 ∧ E'.1 = E.1 ∧ E'.2.2 = E.2.2 ∧ (∀ t, t < 8 → y ≤ t → M'.A 20 t = (if M.A 13 t = 0 then 0 else 1) ∧ M'.A 21 t = 0 ∧ M'.A 22 t = 0 ∧ E'.P t = -1) ∧ ∀ t, t < y → M'.A 20 t = M.A 20 t ∧ M'.A 21 t = M.A 21 t ∧ M'.A 22 t = M.A 22 t ∧ E'.P t = E.P t
abbrev r_o1 (M : MS) (y : Nat) (v : Int32) : MS := mA (mA (mA M 20 y v) 21 y 0) 22 y 0
theorem rX.o1 {y : Nat} {v : Int32} (h : rX a0 M0 ad (mA (mA M 20 y v) 22 y 0) E g) : rX a0 M0 ad (r_o1 M y v) E g := h.same (fun k' => by
  rcases r_split k' with rfl | rfl | rfl | rfl | rfl | rfl | rfl | rfl | rfl | rfl | rfl | rfl | rfl | rfl | rfl | rfl | rfl | rfl | rfl | hrr <;> first | (funext i'; simp [r_c, r_x, r_t, r_p, r_nc, r_np, mA, mF, mI, MS.I, MS.A, MS.F, MS.L, va_up]; done) | (rw [hrr, hrr]))
theorem r_openL : ∀ (n : Nat) (f : Nat) (y : Nat) (g : zS) (M : MS) (E : RE), y + n = 8 → n < f → rX a0 M0 ad M E g → ∃ g' M' E', fX0_open_L2 f g (ad 0 0) (Int32.ofNat y) = some ((), g') ∧ fX2_beginBlock_L2 f M (Int32.ofNat y) = some ((), M') ∧ rX a0 M0 ad M' E' g' ∧ g'.2 = g.2 ∧ r_op M E y M' E' := by
  intro n
  induction n with
  | zero =>
    intro f y g M E hy hf h
    obtain ⟨f', rfl⟩ : ∃ f', f = f' + 1 := ⟨f - 1, by omega⟩
    have hy' : y = 8 := by omega
    subst hy'
    refine ⟨g, M, E, ?_, ?_, h, rfl, rfl, fun _ _ _ _ => rfl, rfl, rfl, rfl, fun t h1 h2 => absurd h1 (by omega), fun t _ => ⟨rfl, rfl, rfl, rfl⟩⟩
    · rw [fX0_open_L2, if_pos (by decide)]
    · rw [fX2_beginBlock_L2, if_pos (by decide)]
  | succ n ih =>
    intro f y g M E hy hf h
    obtain ⟨f', rfl⟩ : ∃ f', f = f' + 1 := ⟨f - 1, by omega⟩
    have e0 : (Int32.ofNat y).toInt = y := z32_nat (by omega)
    have en : (Int32.ofNat y).toNatClampNeg = y := by have := rn (x := Int32.ofNat y) (by omega); omega
    have hy8 : y < 8 := by omega
    have hi : vp_in (Int32.ofNat y) 8 := z32_in (by omega) (by omega)
    have e1 : Int32.ofNat y + 1 = Int32.ofNat (y + 1) := Int32.toInt_inj.mp (by rw [z32_add (by rw [ri_1]; omega) (by rw [ri_1]; omega), e0, ri_1, z32_nat (by omega)]; push_cast; rfl)
    have hle : ¬ (8 : Int32) ≤ Int32.ofNat y := by rw [Int32.le_iff_toInt_le, ri_8, e0]; omega
    have key : ∀ v : Int32, ∃ g', zbj (zpV g [1] (ad 10 y) 7 (.int v)) (fun g13 => zbj (zpV g13 [1] (ad 10 y) 8 (.int (-1 : Int32))) (fun g15 => zbj (zpV g15 [1] (ad 10 y) 11 (.int (0 : Int32))) (fun g17 => fX0_open_L2 f' g17 (ad 0 0) (Int32.ofNat y + (1 : Int32))))) = fX0_open_L2 f' g' (ad 0 0) (Int32.ofNat (y + 1)) ∧ rX a0 M0 ad (r_o1 M y v) (eP E y (-1)) g' ∧ g'.2 = g.2 := by
      intro v
      obtain ⟨g1, q1, h1, s1⟩ := wr_t7 h hy8 v
      obtain ⟨g2, q2, h2, s2⟩ := wr_t8 h1 hy8 (-1)
      obtain ⟨g3, q3, h3, s3⟩ := wr_t11 h2 hy8 0
      refine ⟨g3, ?_, h3.o1, s3.trans (s2.trans s1)⟩
      rw [q1, zbj_v, q2, zbj_v, q3, zbj_v, e1]
    have fin : ∀ v : Int32, v = (if M.A 13 y = 0 then 0 else 1) → ∃ g' M' E', zbj (zpV g [1] (ad 10 y) 7 (.int v)) (fun g13 => zbj (zpV g13 [1] (ad 10 y) 8 (.int (-1 : Int32))) (fun g15 => zbj (zpV g15 [1] (ad 10 y) 11 (.int (0 : Int32))) (fun g17 => fX0_open_L2 f' g17 (ad 0 0) (Int32.ofNat y + (1 : Int32))))) = some ((), g') ∧ fX2_beginBlock_L2 f' (r_o1 M y v) (Int32.ofNat (y + 1)) = some ((), M') ∧ rX a0 M0 ad M' E' g' ∧ g'.2 = g.2 ∧ r_op M E y M' E' := by
      intro v hv
      obtain ⟨g1, q1, h1, s1⟩ := key v
      obtain ⟨g', M', E', w1, w2, w3, w4, o1, o2, o3, o4, o5, o6, o7⟩ := ih f' (y + 1) g1 (r_o1 M y v) (eP E y (-1)) (by omega) (by omega) h1
      refine ⟨g', M', E', q1.trans w1, w2, w3, w4.trans s1, o1, fun k k20 k21 k22 => ?_, o3, o4, o5, fun t t8 ty => ?_, fun t ty => ?_⟩
      · rw [o2 k k20 k21 k22]
        simp [mA, MS.A, va_up, k20, k21, k22]
      · by_cases et : t = y
        · subst et
          obtain ⟨p1, p2, p3, p4⟩ := o7 t (by omega)
          rw [p1, p2, p3, p4]
          refine ⟨?_, ?_, ?_, ?_⟩
          · simp [mA, MS.A, va_up, upd]
            exact hv
          · simp [mA, MS.A, va_up, upd]
          · simp [mA, MS.A, va_up, upd]
          · simp [eP, RE.P, va_up]
        · obtain ⟨p1, p2, p3, p4⟩ := o6 t t8 (by omega)
          refine ⟨?_, p2, p3, p4⟩
          rw [p1]
          simp [mA, MS.A, va_up]
      · obtain ⟨p1, p2, p3, p4⟩ := o7 t (by omega)
        have et : t ≠ y := by omega
        rw [p1, p2, p3, p4]
        refine ⟨?_, ?_, ?_, ?_⟩
        · simp [mA, MS.A, va_up, upd, et]
        · simp [mA, MS.A, va_up, upd, et]
        · simp [mA, MS.A, va_up, upd, et]
        · simp [eP, RE.P, va_up, et]
    rw [fX0_open_L2, if_neg hle, rd_x4 h, zbj_v, rd_a3 h hi (by rw [en]; exact hy8), zbj_v, en, rd_t0 h hy8, zbj_v, zjoin_v, fX2_beginBlock_L2, if_neg hle, zgd_pos hi, zjoin_v, en]
    by_cases hz : M.A 13 y = 0
    · rw [if_pos hz, if_pos hz]
      obtain ⟨g', M', E', w1, w2, w3⟩ := fin 0 (by rw [if_pos hz])
      refine ⟨g', M', E', w1, ?_, w3⟩
      show zgd (vp_in (Int32.ofNat y) 8) (zlet (mA M 20 (Int32.ofNat y).toNatClampNeg 0) _) = _
      rw [zgd_pos hi, zlet_v, zgd_pos hi, zlet_v, zgd_pos hi, zlet_v, en, e1]
      exact w2
    · rw [if_neg hz, if_neg hz]
      obtain ⟨g', M', E', w1, w2, w3⟩ := fin 1 (by rw [if_neg hz])
      refine ⟨g', M', E', w1, ?_, w3⟩
      show zgd (vp_in (Int32.ofNat y) 8) (zlet (mA M 20 (Int32.ofNat y).toNatClampNeg 1) _) = _
      rw [zgd_pos hi, zlet_v, zgd_pos hi, zlet_v, zgd_pos hi, zlet_v, en, e1]
      exact w2
theorem r_open (h : rX a0 M0 ad M E g) : ∃ g' M' E', fX0_open g (ad 0 0) = some ((), g') ∧ fX2_beginBlock M = some ((), M') ∧ rX a0 M0 ad M' E' g' ∧ g'.2 = g.2 ∧ r_op M E 0 M' E' := r_openL 8 1000 0 g M E rfl (by decide) h
/-- a new block's state is right, where no worker has a track -/
theorem r_opI {M M' : MS} {E E' : RE} (ho : r_op M E 0 M' E') (hc : rI_c M) (hp : rI_p M) (ht : rI_t M) (hr : rI_r M E) (hq : rI_q M E) (hf : rI_f M E) (hR : r_RR E) (hw : ∀ w, w < 4 → M.A 27 w = -1) (h28 : M.I 28 = 1) : rInv M' E' := by
  obtain ⟨o1, o2, o3, o4, o5, o6, -⟩ := ho
  have eI : M'.I = M.I := o1
  have eF : M'.F = M.F := congrArg (fun q => q.1) o3
  have eL : M'.L = M.L := congrArg (fun q => q.2.1) o3
  have a := fun k h1 h2 h3 => o2 k h1 h2 h3
  have eEI : E'.I = E.I := o4
  have eQ : E'.Q = E.Q := congrArg (fun q => q.2.2) o5
  have eR : E'.R = E.R := congrArg (fun q => q.1) o5
  refine ⟨?_, ?_, ?_, ?_, ?_, ?_, ?_⟩
  · unfold rI_c r_nc
    rw [eI, eL, a 1 (by decide) (by decide) (by decide), a 2 (by decide) (by decide) (by decide)]
    exact hc
  · unfold rI_p r_pl r_np
    rw [eI, eF, a 5 (by decide) (by decide) (by decide), a 7 (by decide) (by decide) (by decide), a 8 (by decide) (by decide) (by decide), a 9 (by decide) (by decide) (by decide), a 10 (by decide) (by decide) (by decide)]
    exact hp
  · unfold rI_t
    rw [eI, eF, a 5 (by decide) (by decide) (by decide), a 13 (by decide) (by decide) (by decide), a 14 (by decide) (by decide) (by decide), a 16 (by decide) (by decide) (by decide), a 18 (by decide) (by decide) (by decide), a 19 (by decide) (by decide) (by decide)]
    exact ht
  · unfold rI_r
    rw [eI, eEI]
    exact hr
  · unfold rI_q r_ed
    rw [eI, eQ, a 40 (by decide) (by decide) (by decide), a 41 (by decide) (by decide) (by decide), a 42 (by decide) (by decide) (by decide), a 43 (by decide) (by decide) (by decide), a 44 (by decide) (by decide) (by decide)]
    exact hq
  · unfold rI_f
    rw [eI, eQ, a 34 (by decide) (by decide) (by decide), a 35 (by decide) (by decide) (by decide), a 36 (by decide) (by decide) (by decide), a 37 (by decide) (by decide) (by decide), a 38 (by decide) (by decide) (by decide)]
    exact hf
  · have a27 := a 27 (by decide) (by decide) (by decide)
    refine ⟨fun t ht' => ⟨by rw [eR]; exact hR t ht', fun _ => ?_⟩, fun w hw' => Or.inl (by rw [a27]; exact hw w hw'), fun w w' h1 h2 h3 => absurd (by rw [a27]; exact hw w h1) h3, fun _ t ht' h2 => ?_⟩
    · obtain ⟨q1, q2, q3, q4⟩ := o6 t ht' (Nat.zero_le _)
      have hb := (ht t ht').1
      by_cases hz : M.A 13 t = 0
      · rw [if_pos hz] at q1
        exact Or.inl ⟨q1, by rw [a 13 (by decide) (by decide) (by decide)]; exact hz, q3⟩
      · rw [if_neg hz] at q1
        exact Or.inr ⟨by rw [a 13 (by decide) (by decide) (by decide)]; exact hb.resolve_left hz, Or.inl ⟨q1, q2, q4, q3⟩⟩
    · obtain ⟨q1, -⟩ := o6 t ht' (Nat.zero_le _)
      rw [q1] at h2
      split at h2 <;> exact absurd h2 (by decide)
theorem rop_render (h : rX a0 M0 ad M E g) (hI : rInv M E) (b0 : Int32) : rOK a0 M0 ad g 700 70000 (fX0_render g (ad 0 0) b0) (fX2_render M b0) := by
  have hI0 := hI
  obtain ⟨hc, hp, ht, hr, hq, hf, hb⟩ := hI
  have e64 : (64 : Int32).toInt = 64 := by decide
  unfold fX0_render fX2_render
  rw [rin2]
  rcases rin_cases b0 1 8 with ⟨e, h1, h2⟩ | ⟨e, _⟩
  · rw [ri_1] at h1
    rw [ri_8] at h2
    rw [e, zbj_v, zbj_v, if_neg r10, if_neg r10, rd_x7 h, zbj_v, hr.2.2.2.1]
    by_cases hz : M.I 28 = 0
    · rw [if_pos hz, if_pos hz, rd_x10 h, zbj_v]
      have hbk := hr.2.2.2.2.2.1
      have es : (M.I 31 + b0).toInt = (M.I 31).toInt + b0.toInt := z32_add (by omega) (by omega)
      by_cases hle : M.I 31 + b0 ≤ 64
      · rw [if_pos hle, if_pos hle]
        rw [Int32.le_iff_toInt_le, e64, es] at hle
        obtain ⟨g1, q1, k1, s1⟩ := wr_x7 h 1
        obtain ⟨g2, q2, k2, s2⟩ := wr_x8 k1 0
        obtain ⟨g3, q3, k3, s3⟩ := wr_x9 k2 b0
        rw [q1, zbj_v, q2, zbj_v, q3, zbj_v, rd_ob k3, zbj_v, zlet_v, zlet_v, zlet_v]
        have k4 : rX a0 M0 ad (mI (mI (mI M 28 1) 29 0) 30 b0) (eI (eI E 7 1) 9 b0) g3 := k3.same (fun k' => by
          rcases r_split k' with rfl | rfl | rfl | rfl | rfl | rfl | rfl | rfl | rfl | rfl | rfl | rfl | rfl | rfl | rfl | rfl | rfl | rfl | rfl | hrr <;> first | (funext i'; simp [r_c, r_x, r_t, r_p, r_nc, r_np, mA, mF, mI, MS.I, MS.A, MS.F, MS.L, va_up]; done) | (rw [hrr, hrr]))
        obtain ⟨g', M', E', w1, w2, w3, w4, w5⟩ := r_open k4
        rw [w1, zbd_v, w2, zbd_v, rd_x10 w3, zbj_v]
        refine rOK.mk1 w3 (w4.trans (s3.trans (s2.trans s1))) (r_opI w5 hc hp ht ?_ ?_ hf (fun u hu => (hb.1 u hu).1) (fun w hw => ?_) rfl)
        · refine ⟨hr.1, Or.inr rfl, Or.inl rfl, rfl, ?_, hbk, fun _ => ⟨h1, hle⟩, hr.2.2.2.2.2.2.2.1, hr.2.2.2.2.2.2.2.2.1, fun h0 => absurd (show (1 : Int32) = 0 from h0) (by decide)⟩
          rfl
        · intro q hq'
          have h39 : M.I 39 = 0 := hr.2.2.2.2.2.2.2.2.2 hz
          have : q < (M.I 39).toNatClampNeg := hq'
          rw [h39] at this
          exact absurd this (Nat.not_lt_zero _)
        · exact (hb.2.1 w hw).resolve_right (fun h3 => absurd (hz.symm.trans h3.1) (by decide))
      · rw [if_neg hle, if_neg hle]
        exact rOK.id h hI0
    · rw [if_neg hz, if_neg hz]
      exact rOK.id h hI0
  · rw [e, zbj_v, zbj_v, if_pos rfl, if_pos rfl]
    exact rOK.id h hI0
end R19

/-! edits, one by one -/
set_option maxRecDepth 100000
section R6
variable {a0 : Nat} {M0 : MS} {ad : Nat → Nat → Nat} {M M' : MS} {E : RE} {g : zS}
theorem rX.fresh (h : rX a0 M0 ad M E g) {k i : Nat} {y : zE} (hy : r_c ad M E k i = some y) : ad k i ≠ g.sz := Nat.ne_of_lt (h.1 _ _ _ hy).2.1
/-- the same, before the last write -/
theorem rX.re' (h : rX a0 M0 ad M E g) {x2 : zE} {n k i k2 i2 : Nat} {x x' : zE} (hs : r_c ad M E k i = some x) (hne : k ≠ k2)
    (hx : r_c (r_ad ad k2 i2 g.sz) M' E k i = some x') (hx2 : r_c (r_ad ad k2 i2 g.sz) M' E k2 i2 = some x2) (ho : ∀ k' i' y, ¬ (k' = k ∧ i' = i) → ¬ (k' = k2 ∧ i' = i2) → r_c (r_ad ad k2 i2 g.sz) M' E k' i' = some y → r_c ad M E k' i' = some y) : rX a0 M0 (r_ad ad k2 i2 g.sz) M' E (zput (znew g x2 n) (ad k i) x') := by
  have hm := h.2.2.2
  exact (h.new x2 n).re hs (va_up_self _ _ _) (Nat.lt_succ_self _) (by omega) (fun k' i' y hy => h.fresh hy) hne hx hx2 ho
theorem r_setset (l : List Value) (i : Nat) (a b : Value) : (l.set i a).set i b = l.set i b := by simp
theorem zput_new {x x2 : zE} {a n : Nat} (h : a ≠ g.sz) : znew (zput g a x) x2 n = zput (znew g x2 n) a x := by
  refine Prod.ext ?_ rfl
  funext q
  show va_up (va_up g.1 a (some x)) g.sz (some x2) q = va_up (va_up g.1 g.sz (some x2)) a (some x) q
  unfold va_up
  by_cases h1 : q = a
  · rw [if_pos h1, if_neg (fun e => h (h1.symm.trans e)), if_pos h1]
  · rw [if_neg h1, if_neg h1]
theorem zput_put {x y : zE} {a : Nat} : zput (zput g a x) a y = zput g a y := by
  refine Prod.ext ?_ rfl
  funext q
  show va_up (va_up g.1 a (some x)) a (some y) q = va_up g.1 a (some y) q
  unfold va_up
  by_cases h1 : q = a
  · rw [if_pos h1, if_pos h1]
  · rw [if_neg h1, if_neg h1, if_neg h1]
/-- pure: the flag, a new chain -/
theorem rX.pure (h : rX a0 M0 ad M E g) {t : Nat} (ht : t < 8) (hR : ∀ u, u < 8 → E.R 9 u ≠ 11 ∧ E.R 10 u ≠ 11) {v : Int32} : rX a0 M0 (r_ad ad 11 t g.sz) (r_pu M t v) E (zput (znew g (.inl (if v = 0 then 8 else 10, 4, r_ro fun _ => none)) 4) (ad 10 t) (.inr (1, ((r_t ad M E t).set 5 (.int v)).set 6 (.ref g.sz)))) := by
  have e19 := r_pu19 M t v
  have e18 : (r_pu M t v).A 18 = upd (M.A 18) t v := by simp [mA, MS.A, va_up]
  refine h.re' (k := 10) (i := t) (k2 := 11) (i2 := t) (if_pos ht) (by decide) ?_ ?_ ?_
  · have h9 : ¬ E.2.2.1 9 t = 11 := (hR t ht).1
    have h10 : ¬ E.2.2.1 10 t = 11 := (hR t ht).2
    simp [r_c, r_t, ht, h9, h10, mA, mF, mI, MS.A, MS.F, MS.I, MS.L, eP, eR, eF, RE.P, RE.R, RE.F, RE.I, RE.Q, va_up, upd, vf_upd]
  · have ef : (fun j => if j < 4 then r_opt (r_ad ad 11 t g.sz) ((r_pu M t v).A 19 (4 * t + j)) else none) = fun _ => none := by
      funext j
      by_cases h4 : j < 4
      · rw [if_pos h4, e19, if_pos ⟨by omega, by omega⟩]
        rfl
      · rw [if_neg h4]
    unfold r_c
    simp only [if_pos ht, e18, ef]
    simp [upd]
  · intro k' i' y n1 n2 hy
    rcases r_split k' with rfl | rfl | rfl | rfl | rfl | rfl | rfl | rfl | rfl | rfl | rfl | rfl | rfl | rfl | rfl | rfl | rfl | rfl | rfl | hr
    · (simp [r_c, r_x, r_t, r_p, mA, mF, mI, MS.I, MS.A, MS.F, MS.L, va_up] at hy ⊢; exact hy)
    · (simp [r_c, r_x, r_t, r_p, mA, mF, mI, MS.I, MS.A, MS.F, MS.L, va_up] at hy ⊢; exact hy)
    · (simp [r_c, r_x, r_t, r_p, mA, mF, mI, MS.I, MS.A, MS.F, MS.L, va_up] at hy ⊢; exact hy)
    · (simp [r_c, r_x, r_t, r_p, mA, mF, mI, MS.I, MS.A, MS.F, MS.L, va_up] at hy ⊢; exact hy)
    · (simp [r_c, r_x, r_t, r_p, mA, mF, mI, MS.I, MS.A, MS.F, MS.L, va_up] at hy ⊢; exact hy)
    · (simp [r_c, r_x, r_t, r_p, mA, mF, mI, MS.I, MS.A, MS.F, MS.L, va_up] at hy ⊢; exact hy)
    · (simp [r_c, r_x, r_t, r_p, mA, mF, mI, MS.I, MS.A, MS.F, MS.L, va_up] at hy ⊢; exact hy)
    · (simp [r_c, r_x, r_t, r_p, mA, mF, mI, MS.I, MS.A, MS.F, MS.L, va_up] at hy ⊢; exact hy)
    · (simp [r_c, r_x, r_t, r_p, mA, mF, mI, MS.I, MS.A, MS.F, MS.L, va_up] at hy ⊢; exact hy)
    · unfold r_c at hy ⊢
      by_cases h8 : i' < 8
      · have hne : i' ≠ t := fun e => n1 ⟨rfl, e⟩
        have h9 : ¬ E.2.2.1 9 i' = 11 := (hR i' h8).1
        have h10 : ¬ E.2.2.1 10 i' = 11 := (hR i' h8).2
        simp only [if_pos h8] at hy ⊢
        rw [← hy]
        simp [r_t, h9, h10, hne, mA, mF, mI, MS.A, MS.F, MS.I, MS.L, eP, eR, eF, RE.P, RE.R, RE.F, RE.I, RE.Q, va_up, upd, vf_upd]
      · simp only [if_neg h8] at hy
        cases hy
    · unfold r_c at hy ⊢
      by_cases h8 : i' < 8
      · have hne : i' ≠ t := fun e => n2 ⟨rfl, e⟩
        have ef : (fun j => if j < 4 then r_opt (r_ad ad 11 t g.sz) ((r_pu M t v).A 19 (4 * i' + j)) else none) = fun j => if j < 4 then r_opt ad (M.A 19 (4 * i' + j)) else none := by
          funext j
          by_cases h4 : j < 4
          · rw [if_pos h4, if_pos h4, e19, if_neg (by omega)]
            rfl
          · rw [if_neg h4, if_neg h4]
        simp only [if_pos h8, e18, ef] at hy ⊢
        simp only [upd, if_neg hne] at hy
        exact hy
      · simp only [if_neg h8] at hy
        cases hy
    · (simp [r_c, r_x, r_t, r_p, mA, mF, mI, MS.I, MS.A, MS.F, MS.L, va_up] at hy ⊢; exact hy)
    · (simp [r_c, r_x, r_t, r_p, mA, mF, mI, MS.I, MS.A, MS.F, MS.L, va_up] at hy ⊢; exact hy)
    · (simp [r_c, r_x, r_t, r_p, mA, mF, mI, MS.I, MS.A, MS.F, MS.L, va_up] at hy ⊢; exact hy)
    · (simp [r_c, r_x, r_t, r_p, mA, mF, mI, MS.I, MS.A, MS.F, MS.L, va_up] at hy ⊢; exact hy)
    · (simp [r_c, r_x, r_t, r_p, mA, mF, mI, MS.I, MS.A, MS.F, MS.L, va_up] at hy ⊢; exact hy)
    · (simp [r_c, r_x, r_t, r_p, mA, mF, mI, MS.I, MS.A, MS.F, MS.L, va_up] at hy ⊢; exact hy)
    · (simp [r_c, r_x, r_t, r_p, mA, mF, mI, MS.I, MS.A, MS.F, MS.L, va_up] at hy ⊢; exact hy)
    · (simp [r_c, r_x, r_t, r_p, mA, mF, mI, MS.I, MS.A, MS.F, MS.L, va_up] at hy ⊢; exact hy)
    · rw [hr] at hy; cases hy


end R6

/-! clip -/
set_option maxRecDepth 100000
section R17
variable {a0 : Nat} {M0 : MS} {ad ad' : Nat → Nat → Nat} {M M' : MS} {E E' : RE} {g g' : zS}
/-- cells are new, others are changed -/
theorem rX.gen (h : rX a0 M0 ad M E g) (new : Nat → Nat → Prop) (hsz : g.sz ≤ g'.sz) (hold : ∀ k i x, r_c ad' M' E' k i = some x → (ad' k i = ad k i ∧ (∃ y, r_c ad M E k i = some y) ∧ g'.h (ad k i) = some x) ∨ (new k i ∧ g.sz ≤ ad' k i ∧ ad' k i < g'.sz ∧ g'.h (ad' k i) = some x)) (hinj : ∀ k i k' i', new k i → new k' i' → ad' k i = ad' k' i' → k = k' ∧ i = i') (hmod : ∀ j, j ≤ 39 → g'.h (a0 + j) = g.h (a0 + j)) : rX a0 M0 ad' M' E' g' := by
  have hm := h.2.2.2
  refine ⟨fun k i x hx => ?_, fun k i k' i' x x' hx hx' e => ?_, fun j hj => by rw [hmod j hj]; exact h.2.2.1 j hj, Nat.lt_of_lt_of_le hm hsz⟩
  · rcases hold k i x hx with ⟨e1, ⟨y, hy⟩, e3⟩ | ⟨_, e1, e2, e3⟩
    · rw [e1]
      exact ⟨e3, Nat.lt_of_lt_of_le (h.1 _ _ _ hy).2.1 hsz, (h.1 _ _ _ hy).2.2⟩
    · exact ⟨e3, e2, by omega⟩
  · rcases hold k i x hx with ⟨e1, ⟨y, hy⟩, e3⟩ | ⟨n1, e1, e2, e3⟩
    · rcases hold k' i' x' hx' with ⟨f1, ⟨y', hy'⟩, f3⟩ | ⟨n2, f1, f2, f3⟩
      · rw [e1, f1] at e
        exact h.2.1 _ _ _ _ _ _ hy hy' e
      · have := (h.1 _ _ _ hy).2.1
        rw [e1] at e
        omega
    · rcases hold k' i' x' hx' with ⟨f1, ⟨y', hy'⟩, f3⟩ | ⟨n2, f1, f2, f3⟩
      · have := (h.1 _ _ _ hy').2.1
        rw [f1] at e
        omega
      · exact hinj _ _ _ _ n1 n2 e
theorem zput_at {a : Nat} {x : zE} : (zput g a x).h a = some x := va_up_self _ _ _
theorem zput_ne {a q : Nat} {x : zE} (hq : q ≠ a) : (zput g a x).h q = g.h q := va_up_ne _ _ hq
theorem znew_at {x : zE} {n : Nat} : (znew g x n).h g.sz = some x := va_up_self _ _ _
theorem znew_ne {q : Nat} {x : zE} {n : Nat} (hq : q ≠ g.sz) : (znew g x n).h q = g.h q := va_up_ne _ _ hq
abbrev r_clM (M : MS) (b0 b1 : Int32) : MS := mI (mA (mA M 1 (r_nc M) b0) 2 (r_nc M) b1) 0 (M.I 0 + 1)
abbrev r_clA (ad : Nat → Nat → Nat) (n sz : Nat) : Nat → Nat → Nat := r_ad (r_ad ad 20 n sz) 21 n (sz + 1)
theorem rX.clip (h : rX a0 M0 ad M E g) (hR : r_RR E) (hn : 0 ≤ (M.I 0).toInt ∧ (M.I 0).toInt < 16) (hpl : ∀ p, p < r_np M → M.A 5 p = 7 → (M.A 7 p).toNatClampNeg < r_nc M) {b0 b1 : Int32} (hz : ∀ j, 64 * r_nc M ≤ j → M.L j = 0) (hs : g.sz + 2 ≤ g'.sz)
    (F0 : g'.h (ad 0 0) = some (.inr (0, (r_x ad M E).set 1 (.int (M.I 0 + 1))))) (F1 : g'.h (ad 1 0) = some (.inl (7, 16, r_ro (va_up (fun j => if j < r_nc M then some (ad 20 j) else none) (r_nc M) (some g.sz))))) (F2 : g'.h g.sz = some (.inr (3, [.int b0, .int b1, .ref (g.sz + 1)]))) (F3 : g'.h (g.sz + 1) = some (r_row b0 b1.toNatClampNeg (fun _ => 0))) (F4 : ∀ q, q < g.sz → q ≠ ad 0 0 → q ≠ ad 1 0 → g'.h q = g.h q) : rX a0 M0 (r_clA ad (r_nc M) g.sz) (r_clM M b0 b1) E g' := by
  have hnn := rn hn.1
  have e1 : (M.I 0 + 1).toInt = (M.I 0).toInt + 1 := by rw [z32_add (by rw [ri_1]; omega) (by rw [ri_1]; omega), ri_1]
  have hnn1 := rn (x := M.I 0 + 1) (by omega)
  have hnc : r_nc (r_clM M b0 b1) = r_nc M + 1 := by show (M.I 0 + 1).toNatClampNeg = (M.I 0).toNatClampNeg + 1; omega
  have hnp : r_np (r_clM M b0 b1) = r_np M := rfl
  -- where a cell is unchanged
  have old : ∀ k i x, r_c ad M E k i = some x → k ≠ 0 → k ≠ 1 → g'.h (ad k i) = some x := by
    intro k i x hx h0 h1
    rw [F4 _ (h.1 _ _ _ hx).2.1 (fun e => h0 (h.2.1 _ _ 0 0 _ _ hx rfl e).1) (fun e => h1 (h.2.1 _ _ 1 0 _ _ hx rfl e).1)]
    exact h.at hx
  have hA : ∀ k i, k ≠ 20 → k ≠ 21 → r_clA ad (r_nc M) g.sz k i = ad k i := by
    intro k i h20 h21
    show va_up (va_up ad 20 (va_up (ad 20) (r_nc M) g.sz)) 21 _ k i = _
    rw [va_up_ne _ _ h21, va_up_ne _ _ h20]
  have hA20 : ∀ i, r_clA ad (r_nc M) g.sz 20 i = if i = r_nc M then g.sz else ad 20 i := fun i => rfl
  have hA21 : ∀ i, r_clA ad (r_nc M) g.sz 21 i = if i = r_nc M then g.sz + 1 else ad 21 i := fun i => rfl
  have hf20 : (fun j => if j < r_nc (r_clM M b0 b1) then some (r_clA ad (r_nc M) g.sz 20 j) else none) = va_up (fun j => if j < r_nc M then some (ad 20 j) else none) (r_nc M) (some g.sz) := by
    funext j
    rw [hnc, hA20]
    unfold va_up
    by_cases ej : j = r_nc M
    · rw [if_pos ej, if_pos ej, if_pos (by omega)]
    · rw [if_neg ej, if_neg ej]
      show _ = (if j < r_nc M then _ else _)
      by_cases hj : j < r_nc M
      · rw [if_pos hj, if_pos (show j < r_nc M + 1 by omega)]
      · rw [if_neg hj, if_neg (show ¬ j < r_nc M + 1 by omega)]
  refine h.gen (fun k i => (k = 20 ∨ k = 21) ∧ i = r_nc M) (by omega) (fun k i x hx => ?_) ?_ ?_
  · rcases r_split k with rfl | rfl | rfl | rfl | rfl | rfl | rfl | rfl | rfl | rfl | rfl | rfl | rfl | rfl | rfl | rfl | rfl | rfl | rfl | hr
    · by_cases hi : i = 0
      · subst hi
        refine Or.inl ⟨hA _ _ (by decide) (by decide), ⟨_, rfl⟩, ?_⟩
        rw [F0, ← hx]
        rfl
      · rw [show r_c (r_clA ad (r_nc M) g.sz) (r_clM M b0 b1) E 0 i = none from if_neg hi] at hx
        cases hx
    · by_cases hi : i = 0
      · subst hi
        refine Or.inl ⟨hA _ _ (by decide) (by decide), ⟨_, rfl⟩, ?_⟩
        have hx' : some (Sum.inl (7, 16, r_ro (fun j => if j < r_nc (r_clM M b0 b1) then some (r_clA ad (r_nc M) g.sz 20 j) else none))) = some x := hx
        rw [F1, ← hx', hf20]
      · rw [show r_c (r_clA ad (r_nc M) g.sz) (r_clM M b0 b1) E 1 i = none from if_neg hi] at hx
        cases hx
    · have hx2 : r_c ad M E 2 i = some x := by
        simp [r_c, r_t, r_p, mA, mI, MS.I, MS.A, MS.F, MS.L, va_up] at hx ⊢
        exact hx
      exact Or.inl ⟨hA _ _ (by decide) (by decide), ⟨x, hx2⟩, old _ _ _ hx2 (by decide) (by decide)⟩
    · have hx2 : r_c ad M E 3 i = some x := by
        simp [r_c, r_t, r_p, mA, mI, MS.I, MS.A, MS.F, MS.L, va_up] at hx ⊢
        exact hx
      exact Or.inl ⟨hA _ _ (by decide) (by decide), ⟨x, hx2⟩, old _ _ _ hx2 (by decide) (by decide)⟩
    · have hx2 : r_c ad M E 4 i = some x := by
        simp [r_c, r_t, r_p, mA, mI, MS.I, MS.A, MS.F, MS.L, va_up] at hx ⊢
        exact hx
      exact Or.inl ⟨hA _ _ (by decide) (by decide), ⟨x, hx2⟩, old _ _ _ hx2 (by decide) (by decide)⟩
    · have hx2 : r_c ad M E 5 i = some x := by
        simp [r_c, r_t, r_p, mA, mI, MS.I, MS.A, MS.F, MS.L, va_up] at hx ⊢
        exact hx
      exact Or.inl ⟨hA _ _ (by decide) (by decide), ⟨x, hx2⟩, old _ _ _ hx2 (by decide) (by decide)⟩
    · have hx2 : r_c ad M E 6 i = some x := by
        simp [r_c, r_t, r_p, mA, mI, MS.I, MS.A, MS.F, MS.L, va_up] at hx ⊢
        exact hx
      exact Or.inl ⟨hA _ _ (by decide) (by decide), ⟨x, hx2⟩, old _ _ _ hx2 (by decide) (by decide)⟩
    · have hx2 : r_c ad M E 7 i = some x := by
        simp [r_c, r_t, r_p, mA, mI, MS.I, MS.A, MS.F, MS.L, va_up] at hx ⊢
        exact hx
      exact Or.inl ⟨hA _ _ (by decide) (by decide), ⟨x, hx2⟩, old _ _ _ hx2 (by decide) (by decide)⟩
    · have hx2 : r_c ad M E 8 i = some x := by
        simp [r_c, r_t, r_p, mA, mI, MS.I, MS.A, MS.F, MS.L, va_up] at hx ⊢
        exact hx
      exact Or.inl ⟨hA _ _ (by decide) (by decide), ⟨x, hx2⟩, old _ _ _ hx2 (by decide) (by decide)⟩
    · by_cases h8 : i < 8
      · have hx2 : r_c ad M E 10 i = some x := by
          rcases hR i h8 with ⟨r1, r2⟩ | ⟨r1, r2⟩ <;> (have r1' : E.2.2.1 9 i = _ := r1; have r2' : E.2.2.1 10 i = _ := r2; simp [r_c, r_t, h8, mA, mI, MS.I, MS.A, MS.F, MS.L, va_up, RE.R, r1', r2'] at hx ⊢; exact hx)
        exact Or.inl ⟨hA _ _ (by decide) (by decide), ⟨x, hx2⟩, old _ _ _ hx2 (by decide) (by decide)⟩
      · rw [show r_c (r_clA ad (r_nc M) g.sz) (r_clM M b0 b1) E 10 i = none from if_neg h8] at hx
        cases hx
    · have hx2 : r_c ad M E 11 i = some x := by
        simp [r_c, r_t, r_p, mA, mI, MS.I, MS.A, MS.F, MS.L, va_up] at hx ⊢
        exact hx
      exact Or.inl ⟨hA _ _ (by decide) (by decide), ⟨x, hx2⟩, old _ _ _ hx2 (by decide) (by decide)⟩
    · have hx2 : r_c ad M E 12 i = some x := by
        simp [r_c, r_t, r_p, mA, mI, MS.I, MS.A, MS.F, MS.L, va_up] at hx ⊢
        exact hx
      exact Or.inl ⟨hA _ _ (by decide) (by decide), ⟨x, hx2⟩, old _ _ _ hx2 (by decide) (by decide)⟩
    · have hx2 : r_c ad M E 13 i = some x := by
        simp [r_c, r_t, r_p, mA, mI, MS.I, MS.A, MS.F, MS.L, va_up] at hx ⊢
        exact hx
      exact Or.inl ⟨hA _ _ (by decide) (by decide), ⟨x, hx2⟩, old _ _ _ hx2 (by decide) (by decide)⟩
    · have hx2 : r_c ad M E 14 i = some x := by
        simp [r_c, r_t, r_p, mA, mI, MS.I, MS.A, MS.F, MS.L, va_up] at hx ⊢
        exact hx
      exact Or.inl ⟨hA _ _ (by decide) (by decide), ⟨x, hx2⟩, old _ _ _ hx2 (by decide) (by decide)⟩
    · have hx2 : r_c ad M E 15 i = some x := by
        simp [r_c, r_t, r_p, mA, mI, MS.I, MS.A, MS.F, MS.L, va_up] at hx ⊢
        exact hx
      exact Or.inl ⟨hA _ _ (by decide) (by decide), ⟨x, hx2⟩, old _ _ _ hx2 (by decide) (by decide)⟩
    · have hx' : (if i < r_nc (r_clM M b0 b1) then some (Sum.inr (3, [Value.int ((r_clM M b0 b1).A 1 i), .int ((r_clM M b0 b1).A 2 i), .ref (r_clA ad (r_nc M) g.sz 21 i)])) else none) = some x := hx
      have m1 : (r_clM M b0 b1).A 1 = upd (M.A 1) (r_nc M) b0 := by simp [mI, mA, MS.A, va_up]
      have m2 : (r_clM M b0 b1).A 2 = upd (M.A 2) (r_nc M) b1 := by simp [mI, mA, MS.A, va_up]
      rw [hnc, m1, m2, hA21] at hx'
      by_cases hi : i = r_nc M
      · refine Or.inr ⟨⟨Or.inl rfl, hi⟩, ?_, ?_, ?_⟩
        · rw [hA20, if_pos hi]; exact Nat.le_refl _
        · rw [hA20, if_pos hi]; omega
        · rw [hA20, if_pos hi, F2, ← hx', if_pos (by omega), if_pos hi]
          simp [upd, hi]
      · by_cases hlt : i < r_nc M
        · have hx2 : r_c ad M E 20 i = some x := by
            show (if i < r_nc M then _ else _) = _
            rw [if_pos hlt, ← hx', if_pos (by omega), if_neg hi]
            simp [upd, hi]
          exact Or.inl ⟨by rw [hA20, if_neg hi], ⟨x, hx2⟩, old _ _ _ hx2 (by decide) (by decide)⟩
        · rw [if_neg (by omega)] at hx'
          cases hx'
    · have hx' : (if i < r_nc (r_clM M b0 b1) then some (r_row ((r_clM M b0 b1).A 1 i) ((r_clM M b0 b1).A 2 i).toNatClampNeg (fun j => M.L (64 * i + j))) else none) = some x := hx
      have m1 : (r_clM M b0 b1).A 1 = upd (M.A 1) (r_nc M) b0 := by simp [mI, mA, MS.A, va_up]
      have m2 : (r_clM M b0 b1).A 2 = upd (M.A 2) (r_nc M) b1 := by simp [mI, mA, MS.A, va_up]
      rw [hnc, m1, m2] at hx'
      by_cases hi : i = r_nc M
      · refine Or.inr ⟨⟨Or.inr rfl, hi⟩, ?_, ?_, ?_⟩
        · rw [hA21, if_pos hi]; omega
        · rw [hA21, if_pos hi]; omega
        · rw [hA21, if_pos hi, F3, ← hx', if_pos (by omega)]
          rw [show upd (M.A 1) (r_nc M) b0 i = b0 from if_pos hi, show upd (M.A 2) (r_nc M) b1 i = b1 from if_pos hi]
          refine congrArg some (r_row_congr (fun j _ => ?_))
          rw [hz _ (by rw [hi]; omega)]
      · by_cases hlt : i < r_nc M
        · have hx2 : r_c ad M E 21 i = some x := by
            show (if i < r_nc M then _ else _) = _
            rw [if_pos hlt, ← hx', if_pos (by omega), show upd (M.A 1) (r_nc M) b0 i = M.A 1 i from if_neg hi, show upd (M.A 2) (r_nc M) b1 i = M.A 2 i from if_neg hi]
          exact Or.inl ⟨by rw [hA21, if_neg hi], ⟨x, hx2⟩, old _ _ _ hx2 (by decide) (by decide)⟩
        · rw [if_neg (by omega)] at hx'
          cases hx'
    · have hx2 : r_c ad M E 30 i = some x := by
        have hx' : (if i < r_np M then some (Sum.inr (4 + ((r_clM M b0 b1).A 5 i).toNatClampNeg, r_p (r_clA ad (r_nc M) g.sz) (r_clM M b0 b1) i)) else none) = some x := hx
        show (if i < r_np M then _ else _) = _
        by_cases hi : i < r_np M
        · rw [if_pos hi] at hx' ⊢
          rw [← hx']
          have m5 : (r_clM M b0 b1).A 5 = M.A 5 := by simp [mI, mA, MS.A, va_up]
          have m7 : (r_clM M b0 b1).A 7 = M.A 7 := by simp [mI, mA, MS.A, va_up]
          have m8 : (r_clM M b0 b1).A 8 = M.A 8 := by simp [mI, mA, MS.A, va_up]
          have m9 : (r_clM M b0 b1).A 9 = M.A 9 := by simp [mI, mA, MS.A, va_up]
          have m10 : (r_clM M b0 b1).A 10 = M.A 10 := by simp [mI, mA, MS.A, va_up]
          have hp : r_p (r_clA ad (r_nc M) g.sz) (r_clM M b0 b1) i = r_p ad M i := by
            unfold r_p
            rw [m5, m7, m8, m9, m10, hA 31 i (by decide) (by decide)]
            by_cases h7 : M.A 5 i = 7
            · have := hpl i hi h7
              rw [hA20, if_neg (show ¬ (M.A 7 i).toNatClampNeg = r_nc M by omega)]
            · rw [if_neg h7, if_neg h7]
          rw [m5, hp]
        · rw [if_neg hi] at hx'
          cases hx'
      exact Or.inl ⟨hA _ _ (by decide) (by decide), ⟨x, hx2⟩, old _ _ _ hx2 (by decide) (by decide)⟩
    · have hx2 : r_c ad M E 31 i = some x := by
        simp [r_c, r_t, r_p, mA, mI, MS.I, MS.A, MS.F, MS.L, va_up] at hx ⊢
        exact hx
      exact Or.inl ⟨hA _ _ (by decide) (by decide), ⟨x, hx2⟩, old _ _ _ hx2 (by decide) (by decide)⟩
    · rw [hr] at hx; cases hx
  · rintro k i k' i' ⟨e1, e2⟩ ⟨e3, e4⟩ e
    subst e2
    subst e4
    rcases e1 with rfl | rfl <;> rcases e3 with rfl | rfl
    · exact ⟨rfl, rfl⟩
    · rw [hA20, hA21, if_pos rfl, if_pos rfl] at e
      omega
    · rw [hA20, hA21, if_pos rfl, if_pos rfl] at e
      omega
    · exact ⟨rfl, rfl⟩
  · intro j hj
    have hm := h.2.2.2
    have q0 := (h.1 0 0 _ rfl).2.2
    have q1 := (h.1 1 0 _ rfl).2.2
    exact F4 _ (by omega) (fun e => q0 (by omega)) (fun e => q1 (by omega))
end R17

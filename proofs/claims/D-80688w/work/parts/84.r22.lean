/-! plug: cells, call -/
set_option maxRecDepth 100000
section R22
variable {a0 : Nat} {M0 : MS} {ad ad' : Nat → Nat → Nat} {M M' : MS} {E E' : RE} {g g' : zS}
abbrev r_plM (M : MS) (k : Int32) (a : UInt32) (n : Int32) : MS := mI (mA (mA (mF (mA M 5 (r_np M) k) 6 (r_np M) a) 7 (r_np M) n) 10 (r_np M) (if r_echo k then n else -1)) 4 (M.I 4 + 1)
abbrev r_plA (ad : Nat → Nat → Nat) (n sz : Nat) : Nat → Nat → Nat := r_ad (r_ad ad 30 n sz) 31 n (sz + 1)
theorem rX.plug (h : rX a0 M0 ad M E g) (hR : r_RR E) (hn : 0 ≤ (M.I 4).toInt ∧ (M.I 4).toInt < 12) {k n : Int32} {a : UInt32} (hz8 : M.A 8 (r_np M) = 0) (hz9 : M.A 9 (r_np M) = 0) (hzl : ∀ i, i < 16 → M.F 11 (16 * r_np M + i) = 0) (hl : r_echo k → 0 ≤ n.toInt ∧ n.toInt ≤ 16) (hch : ∀ t j, t < 8 → j < 4 → M.A 19 (4 * t + j) = -1 ∨ (M.A 19 (4 * t + j)).toNatClampNeg < r_np M) (hs : g.sz + 1 ≤ g'.sz)
    (F0 : g'.h (ad 0 0) = some (.inr (0, (r_x ad M E).set 3 (.int (M.I 4 + 1))))) (F1 : g'.h (ad 2 0) = some (.inl (8, 12, r_ro (va_up (fun j => if j < r_np M then some (ad 30 j) else none) (r_np M) (some g.sz))))) (F2 : g'.h g.sz = some (.inr (4 + k.toNatClampNeg, r_pf ad k a n g.sz))) (F3 : r_echo k → g'.h (g.sz + 1) = some (.inl (1, za0 1 n.toNatClampNeg)) ∧ g.sz + 2 ≤ g'.sz) (F4 : ∀ q, q < g.sz → q ≠ ad 0 0 → q ≠ ad 2 0 → g'.h q = g.h q) : rX a0 M0 (r_plA ad (r_np M) g.sz) (r_plM M k a n) E g' := by
  have hnn := rn hn.1
  have e1 : (M.I 4 + 1).toInt = (M.I 4).toInt + 1 := by rw [z32_add (by rw [ri_1]; omega) (by rw [ri_1]; omega), ri_1]
  have hnn1 := rn (x := M.I 4 + 1) (by omega)
  have hnp : r_np (r_plM M k a n) = r_np M + 1 := by show (M.I 4 + 1).toNatClampNeg = (M.I 4).toNatClampNeg + 1; omega
  have old : ∀ k i x, r_c ad M E k i = some x → k ≠ 0 → k ≠ 2 → g'.h (ad k i) = some x := by
    intro k i x hx h0 h1
    rw [F4 _ (h.1 _ _ _ hx).2.1 (fun e => h0 (h.2.1 _ _ 0 0 _ _ hx rfl e).1) (fun e => h1 (h.2.1 _ _ 2 0 _ _ hx rfl e).1)]
    exact h.at hx
  have hA : ∀ k i, k ≠ 30 → k ≠ 31 → r_plA ad (r_np M) g.sz k i = ad k i := by
    intro k i h30 h31
    show va_up (va_up ad 30 (va_up (ad 30) (r_np M) g.sz)) 31 _ k i = _
    rw [va_up_ne _ _ h31, va_up_ne _ _ h30]
  have hA30 : ∀ i, r_plA ad (r_np M) g.sz 30 i = if i = r_np M then g.sz else ad 30 i := fun i => rfl
  have hA31 : ∀ i, r_plA ad (r_np M) g.sz 31 i = if i = r_np M then g.sz + 1 else ad 31 i := fun i => rfl
  have m5 : (r_plM M k a n).A 5 = upd (M.A 5) (r_np M) k := by simp [mI, mA, mF, MS.A, va_up]
  have m7 : (r_plM M k a n).A 7 = upd (M.A 7) (r_np M) n := by simp [mI, mA, mF, MS.A, va_up]
  have m10 : (r_plM M k a n).A 10 = upd (M.A 10) (r_np M) (if r_echo k then n else -1) := by simp [mI, mA, mF, MS.A, va_up]
  have m8 : (r_plM M k a n).A 8 = M.A 8 := by simp [mI, mA, mF, MS.A, va_up]
  have m9 : (r_plM M k a n).A 9 = M.A 9 := by simp [mI, mA, mF, MS.A, va_up]
  have m6 : (r_plM M k a n).F 6 = vf_upd (M.F 6) (r_np M) a := by simp [mI, mA, mF, MS.F, va_up]
  have m11 : (r_plM M k a n).F 11 = M.F 11 := by simp [mI, mA, mF, MS.F, va_up]
  have hf30 : (fun j => if j < r_np (r_plM M k a n) then some (r_plA ad (r_np M) g.sz 30 j) else none) = va_up (fun j => if j < r_np M then some (ad 30 j) else none) (r_np M) (some g.sz) := by
    funext j
    rw [hnp, hA30]
    unfold va_up
    by_cases ej : j = r_np M
    · rw [if_pos ej, if_pos ej, if_pos (by omega)]
    · rw [if_neg ej, if_neg ej]
      show _ = (if j < r_np M then _ else _)
      by_cases hj : j < r_np M
      · rw [if_pos hj, if_pos (show j < r_np M + 1 by omega)]
      · rw [if_neg hj, if_neg (show ¬ j < r_np M + 1 by omega)]
  refine h.gen (fun k' i => (k' = 30 ∨ k' = 31) ∧ i = r_np M) (by omega) (fun k' i x hx => ?_) ?_ ?_
  · rcases r_split k' with rfl | rfl | rfl | rfl | rfl | rfl | rfl | rfl | rfl | rfl | rfl | rfl | rfl | rfl | rfl | rfl | rfl | rfl | rfl | hr
    · by_cases hi : i = 0
      · subst hi
        refine Or.inl ⟨hA _ _ (by decide) (by decide), ⟨_, rfl⟩, ?_⟩
        rw [F0, ← hx]
        rfl
      · rw [show r_c (r_plA ad (r_np M) g.sz) (r_plM M k a n) E 0 i = none from if_neg hi] at hx
        cases hx
    · have hx2 : r_c ad M E 1 i = some x := by
        simp [r_c, r_t, r_nc, mA, mI, mF, MS.I, MS.A, MS.F, MS.L, va_up] at hx ⊢
        exact hx
      exact Or.inl ⟨hA _ _ (by decide) (by decide), ⟨x, hx2⟩, old _ _ _ hx2 (by decide) (by decide)⟩
    · by_cases hi : i = 0
      · subst hi
        refine Or.inl ⟨hA _ _ (by decide) (by decide), ⟨_, rfl⟩, ?_⟩
        have hx' : some (Sum.inl (8, 12, r_ro (fun j => if j < r_np (r_plM M k a n) then some (r_plA ad (r_np M) g.sz 30 j) else none))) = some x := hx
        rw [F1, ← hx', hf30]
      · rw [show r_c (r_plA ad (r_np M) g.sz) (r_plM M k a n) E 2 i = none from if_neg hi] at hx
        cases hx
    · have hx2 : r_c ad M E 3 i = some x := by
        simp [r_c, r_t, r_nc, mA, mI, mF, MS.I, MS.A, MS.F, MS.L, va_up] at hx ⊢
        exact hx
      exact Or.inl ⟨hA _ _ (by decide) (by decide), ⟨x, hx2⟩, old _ _ _ hx2 (by decide) (by decide)⟩
    · have hx2 : r_c ad M E 4 i = some x := by
        simp [r_c, r_t, r_nc, mA, mI, mF, MS.I, MS.A, MS.F, MS.L, va_up] at hx ⊢
        exact hx
      exact Or.inl ⟨hA _ _ (by decide) (by decide), ⟨x, hx2⟩, old _ _ _ hx2 (by decide) (by decide)⟩
    · have hx2 : r_c ad M E 5 i = some x := by
        simp [r_c, r_t, r_nc, mA, mI, mF, MS.I, MS.A, MS.F, MS.L, va_up] at hx ⊢
        exact hx
      exact Or.inl ⟨hA _ _ (by decide) (by decide), ⟨x, hx2⟩, old _ _ _ hx2 (by decide) (by decide)⟩
    · have hx2 : r_c ad M E 6 i = some x := by
        simp [r_c, r_t, r_nc, mA, mI, mF, MS.I, MS.A, MS.F, MS.L, va_up] at hx ⊢
        exact hx
      exact Or.inl ⟨hA _ _ (by decide) (by decide), ⟨x, hx2⟩, old _ _ _ hx2 (by decide) (by decide)⟩
    · have hx2 : r_c ad M E 7 i = some x := by
        simp [r_c, r_t, r_nc, mA, mI, mF, MS.I, MS.A, MS.F, MS.L, va_up] at hx ⊢
        exact hx
      exact Or.inl ⟨hA _ _ (by decide) (by decide), ⟨x, hx2⟩, old _ _ _ hx2 (by decide) (by decide)⟩
    · have hx2 : r_c ad M E 8 i = some x := by
        simp [r_c, r_t, r_nc, mA, mI, mF, MS.I, MS.A, MS.F, MS.L, va_up] at hx ⊢
        exact hx
      exact Or.inl ⟨hA _ _ (by decide) (by decide), ⟨x, hx2⟩, old _ _ _ hx2 (by decide) (by decide)⟩
    · by_cases h8 : i < 8
      · have hx2 : r_c ad M E 10 i = some x := by
          rcases hR i h8 with ⟨r1, r2⟩ | ⟨r1, r2⟩ <;> (have r1' : E.2.2.1 9 i = _ := r1; have r2' : E.2.2.1 10 i = _ := r2; simp [r_c, r_t, h8, mA, mI, mF, MS.I, MS.A, MS.F, MS.L, va_up, RE.R, r1', r2'] at hx ⊢; exact hx)
        exact Or.inl ⟨hA _ _ (by decide) (by decide), ⟨x, hx2⟩, old _ _ _ hx2 (by decide) (by decide)⟩
      · rw [show r_c (r_plA ad (r_np M) g.sz) (r_plM M k a n) E 10 i = none from if_neg h8] at hx
        cases hx
    · by_cases h8 : i < 8
      · have m19 : (r_plM M k a n).A 19 = M.A 19 := by simp [mI, mA, mF, MS.A, va_up]
        have m18 : (r_plM M k a n).A 18 = M.A 18 := by simp [mI, mA, mF, MS.A, va_up]
        have hx' : (if i < 8 then some (Sum.inl (if (r_plM M k a n).A 18 i = 0 then 8 else 10, 4, r_ro (fun j => if j < 4 then r_opt (r_plA ad (r_np M) g.sz) ((r_plM M k a n).A 19 (4 * i + j)) else none))) else none) = some x := hx
        have ef : (fun j => if j < 4 then r_opt (r_plA ad (r_np M) g.sz) (M.A 19 (4 * i + j)) else none) = fun j => if j < 4 then r_opt ad (M.A 19 (4 * i + j)) else none := by
          funext j
          by_cases h4 : j < 4
          · rw [if_pos h4, if_pos h4]
            unfold r_opt
            by_cases hm : M.A 19 (4 * i + j) = -1
            · rw [if_pos hm, if_pos hm]
            · have := (hch i j h8 h4).resolve_left hm
              rw [if_neg hm, if_neg hm, hA30, if_neg (by omega)]
          · rw [if_neg h4, if_neg h4]
        rw [m18, m19, ef] at hx'
        have hx2 : r_c ad M E 11 i = some x := hx'
        exact Or.inl ⟨hA _ _ (by decide) (by decide), ⟨x, hx2⟩, old _ _ _ hx2 (by decide) (by decide)⟩
      · rw [show r_c (r_plA ad (r_np M) g.sz) (r_plM M k a n) E 11 i = none from if_neg h8] at hx
        cases hx
    · have hx2 : r_c ad M E 12 i = some x := by
        simp [r_c, r_t, r_nc, mA, mI, mF, MS.I, MS.A, MS.F, MS.L, va_up] at hx ⊢
        exact hx
      exact Or.inl ⟨hA _ _ (by decide) (by decide), ⟨x, hx2⟩, old _ _ _ hx2 (by decide) (by decide)⟩
    · have hx2 : r_c ad M E 13 i = some x := by
        simp [r_c, r_t, r_nc, mA, mI, mF, MS.I, MS.A, MS.F, MS.L, va_up] at hx ⊢
        exact hx
      exact Or.inl ⟨hA _ _ (by decide) (by decide), ⟨x, hx2⟩, old _ _ _ hx2 (by decide) (by decide)⟩
    · have hx2 : r_c ad M E 14 i = some x := by
        simp [r_c, r_t, r_nc, mA, mI, mF, MS.I, MS.A, MS.F, MS.L, va_up] at hx ⊢
        exact hx
      exact Or.inl ⟨hA _ _ (by decide) (by decide), ⟨x, hx2⟩, old _ _ _ hx2 (by decide) (by decide)⟩
    · have hx2 : r_c ad M E 15 i = some x := by
        simp [r_c, r_t, r_nc, mA, mI, mF, MS.I, MS.A, MS.F, MS.L, va_up] at hx ⊢
        exact hx
      exact Or.inl ⟨hA _ _ (by decide) (by decide), ⟨x, hx2⟩, old _ _ _ hx2 (by decide) (by decide)⟩
    · have hx2 : r_c ad M E 20 i = some x := by
        simp [r_c, r_t, r_nc, mA, mI, mF, MS.I, MS.A, MS.F, MS.L, va_up] at hx ⊢
        exact hx
      exact Or.inl ⟨hA _ _ (by decide) (by decide), ⟨x, hx2⟩, old _ _ _ hx2 (by decide) (by decide)⟩
    · have hx2 : r_c ad M E 21 i = some x := by
        simp [r_c, r_t, r_nc, mA, mI, mF, MS.I, MS.A, MS.F, MS.L, va_up] at hx ⊢
        exact hx
      exact Or.inl ⟨hA _ _ (by decide) (by decide), ⟨x, hx2⟩, old _ _ _ hx2 (by decide) (by decide)⟩
    · have hx' : (if i < r_np (r_plM M k a n) then some (Sum.inr (4 + ((r_plM M k a n).A 5 i).toNatClampNeg, r_p (r_plA ad (r_np M) g.sz) (r_plM M k a n) i)) else none) = some x := hx
      unfold r_p at hx'
      rw [hnp, m5, m6, m7, m8, m9, m10, hA31] at hx'
      by_cases hi : i = r_np M
      · refine Or.inr ⟨⟨Or.inl rfl, hi⟩, ?_, ?_, ?_⟩
        · rw [hA30, if_pos hi]; exact Nat.le_refl _
        · rw [hA30, if_pos hi]; omega
        · rw [if_pos (by omega), if_pos hi, show upd (M.A 5) (r_np M) k i = k from if_pos hi, show upd (M.A 7) (r_np M) n i = n from if_pos hi, show vf_upd (M.F 6) (r_np M) a i = a from if_pos hi, show upd (M.A 10) (r_np M) (if r_echo k then n else -1) i = (if r_echo k then n else -1) from if_pos hi, hA 20 _ (by decide) (by decide), hi, hz8, hz9] at hx'
          rw [hA30, if_pos hi, F2, ← hx']
          unfold r_pf
          by_cases he : r_echo k
          · have hne : n ≠ -1 := fun e => by have := (hl he).1; rw [e, ri_m1] at this; omega
            rw [if_pos he, if_pos he, if_pos he, if_neg hne]
          · rw [if_neg he, if_neg he]
      · by_cases hlt : i < r_np M
        · rw [if_pos (by omega), if_neg hi, show upd (M.A 5) (r_np M) k i = M.A 5 i from if_neg hi, show upd (M.A 7) (r_np M) n i = M.A 7 i from if_neg hi, show vf_upd (M.F 6) (r_np M) a i = M.F 6 i from if_neg hi, show upd (M.A 10) (r_np M) (if r_echo k then n else -1) i = M.A 10 i from if_neg hi, hA 20 _ (by decide) (by decide)] at hx'
          have hx2 : r_c ad M E 30 i = some x := by
            show (if i < r_np M then some (Sum.inr (4 + (M.A 5 i).toNatClampNeg, r_p ad M i)) else none) = _
            rw [if_pos hlt]
            exact hx'
          exact Or.inl ⟨by rw [hA30, if_neg hi], ⟨x, hx2⟩, old _ _ _ hx2 (by decide) (by decide)⟩
        · rw [if_neg (by omega)] at hx'
          cases hx'
    · have hx' : (if i < r_np (r_plM M k a n) ∧ r_echo ((r_plM M k a n).A 5 i) ∧ (r_plM M k a n).A 10 i ≠ -1 then some (Sum.inl (1, ((r_plM M k a n).A 10 i).toNatClampNeg, r_fl (fun j => if j < ((r_plM M k a n).A 10 i).toNatClampNeg then (r_plM M k a n).F 11 (16 * i + j) else 0))) else none) = some x := hx
      rw [hnp, m5, m10, m11] at hx'
      by_cases hi : i = r_np M
      · rw [show upd (M.A 5) (r_np M) k i = k from if_pos hi, show upd (M.A 10) (r_np M) (if r_echo k then n else -1) i = (if r_echo k then n else -1) from if_pos hi] at hx'
        by_cases he : r_echo k
        · obtain ⟨f1, f2⟩ := F3 he
          have h16 := hl he
          have hnn2 := rn h16.1
          rw [if_pos he] at hx'
          have hne : n ≠ -1 := fun e => by have := h16.1; rw [e, ri_m1] at this; omega
          rw [if_pos ⟨by omega, he, hne⟩] at hx'
          refine Or.inr ⟨⟨Or.inr rfl, hi⟩, ?_, ?_, ?_⟩
          · rw [hA31, if_pos hi]; omega
          · rw [hA31, if_pos hi]; omega
          · rw [hA31, if_pos hi, f1, ← hx']
            have ef : (fun j => if j < n.toNatClampNeg then M.F 11 (16 * i + j) else 0) = fun _ => 0 := by
              funext j
              by_cases hj : j < n.toNatClampNeg
              · rw [if_pos hj, hi, hzl j (by omega)]
              · rw [if_neg hj]
            rw [ef]
            rfl
        · rw [if_neg (fun e => he e.2.1)] at hx'
          cases hx'
      · rw [show upd (M.A 5) (r_np M) k i = M.A 5 i from if_neg hi, show upd (M.A 10) (r_np M) (if r_echo k then n else -1) i = M.A 10 i from if_neg hi] at hx'
        by_cases hc : i < r_np M + 1 ∧ r_echo (M.A 5 i) ∧ M.A 10 i ≠ -1
        · rw [if_pos hc] at hx'
          have hx2 : r_c ad M E 31 i = some x := by
            show (if i < r_np M ∧ r_echo (M.A 5 i) ∧ M.A 10 i ≠ -1 then _ else _) = _
            rw [if_pos ⟨by omega, hc.2⟩]
            exact hx'
          exact Or.inl ⟨by rw [hA31, if_neg hi], ⟨x, hx2⟩, old _ _ _ hx2 (by decide) (by decide)⟩
        · rw [if_neg hc] at hx'
          cases hx'
    · rw [hr] at hx; cases hx
  · rintro k i k' i' ⟨e1, e2⟩ ⟨e3, e4⟩ e
    subst e2
    subst e4
    rcases e1 with rfl | rfl <;> rcases e3 with rfl | rfl
    · exact ⟨rfl, rfl⟩
    · rw [hA30, hA31, if_pos rfl, if_pos rfl] at e
      omega
    · rw [hA30, hA31, if_pos rfl, if_pos rfl] at e
      omega
    · exact ⟨rfl, rfl⟩
  · intro j hj
    have hm := h.2.2.2
    have q0 := (h.1 0 0 _ rfl).2.2
    have q1 := (h.1 2 0 _ rfl).2.2
    exact F4 _ (by omega) (fun e => q0 (by omega)) (fun e => q1 (by omega))
end R22

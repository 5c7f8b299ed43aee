/-! what edits write -/
set_option maxRecDepth 100000
abbrev r_ad (ad : Nat → Nat → Nat) (k i q : Nat) : Nat → Nat → Nat := va_up ad k (va_up (ad k) i q)
section R5
variable {a0 : Nat} {M0 : MS} {ad : Nat → Nat → Nat} {M M' : MS} {E E' : RE} {g : zS}
/-- a cell gets another content, with a new cell in it -/
theorem rX.re (h : rX a0 M0 ad M E g) {k i k2 i2 q : Nat} {x x' x2 : zE} (hs : r_c ad M E k i = some x) (hq : g.h q = some x2) (hqs : q < g.sz) (hqm : ¬ (a0 ≤ q ∧ q ≤ a0 + 39)) (hfr : ∀ k' i' y, r_c ad M E k' i' = some y → ad k' i' ≠ q) (hne : k ≠ k2)
    (hx : r_c (r_ad ad k2 i2 q) M' E' k i = some x') (hx2 : r_c (r_ad ad k2 i2 q) M' E' k2 i2 = some x2) (ho : ∀ k' i' y, ¬ (k' = k ∧ i' = i) → ¬ (k' = k2 ∧ i' = i2) → r_c (r_ad ad k2 i2 q) M' E' k' i' = some y → r_c ad M E k' i' = some y) : rX a0 M0 (r_ad ad k2 i2 q) M' E' (zput g (ad k i) x') := by
  have ead : ∀ k' i', ¬ (k' = k2 ∧ i' = i2) → r_ad ad k2 i2 q k' i' = ad k' i' := by
    intro k' i' hn
    by_cases e1 : k' = k2
    · subst e1
      have e2 : i' ≠ i2 := fun e => hn ⟨rfl, e⟩
      show va_up ad k' (va_up (ad k') i2 q) k' i' = _
      rw [va_up_self, va_up_ne _ _ e2]
    · show va_up ad k2 _ k' i' = _
      rw [va_up_ne _ _ e1]
  have eq2 : r_ad ad k2 i2 q k2 i2 = q := by
    show va_up ad k2 (va_up (ad k2) i2 q) k2 i2 = _
    rw [va_up_self, va_up_self]
  have hqk : ad k i ≠ q := hfr _ _ _ hs
  have key : ∀ k' i' y, r_c (r_ad ad k2 i2 q) M' E' k' i' = some y → (k' = k ∧ i' = i ∧ y = x') ∨ (k' = k2 ∧ i' = i2 ∧ y = x2) ∨ (¬ (k' = k ∧ i' = i) ∧ ¬ (k' = k2 ∧ i' = i2) ∧ r_c ad M E k' i' = some y) := by
    intro k' i' y hy
    by_cases c1 : k' = k ∧ i' = i
    · obtain ⟨rfl, rfl⟩ := c1
      exact Or.inl ⟨rfl, rfl, Option.some.inj (hy.symm.trans hx)⟩
    · by_cases c2 : k' = k2 ∧ i' = i2
      · obtain ⟨rfl, rfl⟩ := c2
        exact Or.inr (Or.inl ⟨rfl, rfl, Option.some.inj (hy.symm.trans hx2)⟩)
      · exact Or.inr (Or.inr ⟨c1, c2, ho k' i' y c1 c2 hy⟩)
  refine ⟨fun k' i' y hy => ?_, fun k1 i1 k3 i3 y1 y3 h1 h3 e => ?_, fun j hj => ?_, h.2.2.2⟩
  · rcases key k' i' y hy with ⟨rfl, rfl, rfl⟩ | ⟨rfl, rfl, rfl⟩ | ⟨n1, n2, hz⟩
    · rw [ead k' i' (fun e => hne e.1)]
      obtain ⟨_, b, c⟩ := h.1 _ _ _ hs
      exact ⟨va_up_self _ _ _, b, c⟩
    · rw [eq2]
      refine ⟨?_, hqs, hqm⟩
      show va_up g.1 (ad k i) (some x') q = _
      rw [va_up_ne _ _ (Ne.symm hqk)]
      exact hq
    · rw [ead k' i' n2]
      obtain ⟨a, b, c⟩ := h.1 _ _ _ hz
      refine ⟨?_, b, c⟩
      show va_up g.1 (ad k i) (some x') (ad k' i') = some y
      rw [va_up_ne _ _ (fun e => n1 (h.2.1 _ _ _ _ _ _ hz hs e))]
      exact a
  · have back : ∀ k' i' y, r_c (r_ad ad k2 i2 q) M' E' k' i' = some y → ¬ (k' = k2 ∧ i' = i2) → ∃ z, r_c ad M E k' i' = some z := by
      intro k' i' y hy hn
      rcases key k' i' y hy with ⟨rfl, rfl, _⟩ | ⟨rfl, rfl, _⟩ | ⟨_, _, hz⟩
      · exact ⟨_, hs⟩
      · exact absurd ⟨rfl, rfl⟩ hn
      · exact ⟨_, hz⟩
    by_cases c1 : k1 = k2 ∧ i1 = i2
    · by_cases c3 : k3 = k2 ∧ i3 = i2
      · exact ⟨c1.1.trans c3.1.symm, c1.2.trans c3.2.symm⟩
      · obtain ⟨z, hz⟩ := back k3 i3 y3 h3 c3
        rw [ead k3 i3 c3, c1.1, c1.2, eq2] at e
        exact absurd e.symm (hfr _ _ _ hz)
    · obtain ⟨z1, hz1⟩ := back k1 i1 y1 h1 c1
      by_cases c3 : k3 = k2 ∧ i3 = i2
      · rw [ead k1 i1 c1, c3.1, c3.2, eq2] at e
        exact absurd e (hfr _ _ _ hz1)
      · obtain ⟨z3, hz3⟩ := back k3 i3 y3 h3 c3
        rw [ead k1 i1 c1, ead k3 i3 c3] at e
        exact h.2.1 _ _ _ _ _ _ hz1 hz3 e
  · obtain ⟨_, _, c⟩ := h.1 _ _ _ hs
    show va_up g.1 (ad k i) (some x') (a0 + j) = _
    rw [va_up_ne _ _ (fun e => c (by omega))]
    exact h.2.2.1 j hj
/-- one place of a chain is set -/
theorem rX.chain (h : rX a0 M0 ad M E g) {t j : Nat} (ht : t < 8) (hj : j < 4) (c : Int32) : rX a0 M0 ad (mA M 19 (4 * t + j) c) E (zput g (ad 11 t) (.inl (if M.A 18 t = 0 then 8 else 10, 4, r_ro (va_up (fun j => if j < 4 then r_opt ad (M.A 19 (4 * t + j)) else none) j (r_opt ad c))))) := by
  refine h.put (k := 11) (i := t) (if_pos ht) ?_ (fun k' hk' => by rcases r_split k' with rfl | rfl | rfl | rfl | rfl | rfl | rfl | rfl | rfl | rfl | rfl | rfl | rfl | rfl | rfl | rfl | rfl | rfl | rfl | hr <;> first | exact absurd rfl hk' | (funext i'; simp [r_c, r_x, r_t, r_p, mA, MS.I, MS.A, MS.F, MS.L, va_up]; done) | (rw [hr, hr])) (fun i' hi' => ?_)
  · have e19 : (mA M 19 (4 * t + j) c).A 19 = upd (M.A 19) (4 * t + j) c := by simp [mA, MS.A, va_up]
    have e18 : (mA M 19 (4 * t + j) c).A 18 = M.A 18 := by simp [mA, MS.A, va_up]
    unfold r_c
    simp only [if_pos ht, e18, e19]
    have ef : (fun j' => if j' < 4 then r_opt ad (upd (M.A 19) (4 * t + j) c (4 * t + j')) else none) = va_up (fun j => if j < 4 then r_opt ad (M.A 19 (4 * t + j)) else none) j (r_opt ad c) := by
      funext j'
      unfold upd va_up
      by_cases h5 : j' = j
      · rw [if_pos h5, if_pos (show j' < 4 by omega), if_pos (show 4 * t + j' = 4 * t + j by omega)]
      · rw [if_neg h5, if_neg (show ¬ 4 * t + j' = 4 * t + j by omega)]
    rw [ef]
  · have e19 : (mA M 19 (4 * t + j) c).A 19 = upd (M.A 19) (4 * t + j) c := by simp [mA, MS.A, va_up]
    have e18 : (mA M 19 (4 * t + j) c).A 18 = M.A 18 := by simp [mA, MS.A, va_up]
    unfold r_c
    simp only [e18, e19]
    by_cases h8 : i' < 8
    · simp only [if_pos h8]
      have ef : (fun j' => if j' < 4 then r_opt ad (upd (M.A 19) (4 * t + j) c (4 * i' + j')) else none) = fun j' => if j' < 4 then r_opt ad (M.A 19 (4 * i' + j')) else none := by
        funext j'
        unfold upd
        by_cases h4 : j' < 4
        · rw [if_pos h4, if_pos h4, if_neg (show ¬ 4 * i' + j' = 4 * t + j by omega)]
        · rw [if_neg h4, if_neg h4]
      rw [ef]
    · simp only [if_neg h8]
/-- the Model's state with a chain emptied -/
abbrev r_pu (M : MS) (t : Nat) (v : Int32) : MS := mA (mA (mA (mA (mA M 19 (4 * t) (-1)) 19 (4 * t + 1) (-1)) 19 (4 * t + 2) (-1)) 19 (4 * t + 3) (-1)) 18 t v
theorem r_pu19 (M : MS) (t : Nat) (v : Int32) (i : Nat) : (r_pu M t v).A 19 i = if 4 * t ≤ i ∧ i < 4 * t + 4 then -1 else M.A 19 i := by
  have e : (r_pu M t v).A 19 = upd (upd (upd (upd (M.A 19) (4 * t) (-1)) (4 * t + 1) (-1)) (4 * t + 2) (-1)) (4 * t + 3) (-1) := by simp [mA, MS.A, va_up]
  rw [e]
  unfold upd
  by_cases h : 4 * t ≤ i ∧ i < 4 * t + 4
  · rw [if_pos h]
    by_cases h3 : i = 4 * t + 3
    · rw [if_pos h3]
    rw [if_neg h3]
    by_cases h2 : i = 4 * t + 2
    · rw [if_pos h2]
    rw [if_neg h2]
    by_cases h1 : i = 4 * t + 1
    · rw [if_pos h1]
    rw [if_neg h1, if_pos (show i = 4 * t by omega)]
  · rw [if_neg h, if_neg (show ¬ i = 4 * t + 3 by omega), if_neg (show ¬ i = 4 * t + 2 by omega), if_neg (show ¬ i = 4 * t + 1 by omega), if_neg (show ¬ i = 4 * t by omega)]
end R5

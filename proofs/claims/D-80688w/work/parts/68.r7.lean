/-! plugs' cells, lines -/
set_option maxRecDepth 100000
section R7
variable {a0 : Nat} {M0 : MS} {ad : Nat → Nat → Nat} {M M' : MS} {E E' : RE} {g : zS}
/-- a cell gets another content; others may fall away -/
theorem rX.put' (h : rX a0 M0 ad M E g) {k i : Nat} {x x' : zE} (hs : r_c ad M E k i = some x) (hx : r_c ad M' E' k i = some x') (ho : ∀ k' i' y, ¬ (k' = k ∧ i' = i) → r_c ad M' E' k' i' = some y → r_c ad M E k' i' = some y) : rX a0 M0 ad M' E' (zput g (ad k i) x') := by
  have key : ∀ k' i' y, r_c ad M' E' k' i' = some y → (k' = k ∧ i' = i ∧ y = x') ∨ (¬ (k' = k ∧ i' = i) ∧ r_c ad M E k' i' = some y) := by
    intro k' i' y hy
    by_cases c : k' = k ∧ i' = i
    · obtain ⟨rfl, rfl⟩ := c
      exact Or.inl ⟨rfl, rfl, Option.some.inj (hy.symm.trans hx)⟩
    · exact Or.inr ⟨c, ho k' i' y c hy⟩
  have key2 : ∀ k' i' y, r_c ad M' E' k' i' = some y → ∃ z, r_c ad M E k' i' = some z := by
    intro k' i' y hy
    rcases key k' i' y hy with ⟨rfl, rfl, _⟩ | ⟨_, hz⟩
    · exact ⟨_, hs⟩
    · exact ⟨_, hz⟩
  refine ⟨fun k' i' y hy => ?_, fun k1 i1 k2 i2 y1 y2 h1 h2 e => ?_, fun j hj => ?_, h.2.2.2⟩
  · rcases key k' i' y hy with ⟨rfl, rfl, rfl⟩ | ⟨hn, hz⟩
    · obtain ⟨_, b, c⟩ := h.1 _ _ _ hs
      exact ⟨va_up_self _ _ _, b, c⟩
    · obtain ⟨a, b, c⟩ := h.1 _ _ _ hz
      refine ⟨?_, b, c⟩
      show va_up g.1 (ad k i) (some x') (ad k' i') = some y
      rw [va_up_ne _ _ (fun e => hn (h.2.1 _ _ _ _ _ _ hz hs e))]
      exact a
  · obtain ⟨z1, w1⟩ := key2 _ _ _ h1
    obtain ⟨z2, w2⟩ := key2 _ _ _ h2
    exact h.2.1 _ _ _ _ _ _ w1 w2 e
  · obtain ⟨_, _, c⟩ := h.1 _ _ _ hs
    show va_up g.1 (ad k i) (some x') (a0 + j) = _
    rw [va_up_ne _ _ (fun e => c (by omega))]
    exact h.2.2.1 j hj
theorem r_pn (ad : Nat → Nat → Nat) (M : MS) (p : Nat) : (r_p ad M p)[0]? = some (.int (M.A 5 p)) ∧ (r_p ad M p)[1]? = some (.float (M.F 6 p)) ∧ (r_p ad M p)[2]? = some (.int (M.A 7 p)) ∧ (r_p ad M p)[3]? = some (.int (M.A 8 p)) ∧ 4 ≤ (r_p ad M p).length := by
  unfold r_p
  split
  · exact ⟨rfl, rfl, rfl, rfl, Nat.le_of_ble_eq_true rfl⟩
  · split <;> exact ⟨rfl, rfl, rfl, rfl, Nat.le_of_ble_eq_true rfl⟩
theorem r_kn {k : Int32} (h : 0 ≤ k.toInt ∧ k.toInt ≤ 7) : 4 + k.toNatClampNeg ∈ [4, 5, 6, 7, 8, 9, 10, 11] := by
  have := rn h.1
  simp only [List.mem_cons, List.not_mem_nil, or_false]
  omega
variable {p : Nat}
theorem rp_at (h : rX a0 M0 ad M E g) (hp : p < r_np M) : g.h (ad 30 p) = some (.inr (4 + (M.A 5 p).toNatClampNeg, r_p ad M p)) := h.at (k := 30) (i := p) (if_pos hp)
theorem rp_ob (h : rX a0 M0 ad M E g) (hp : p < r_np M) (hk : 0 ≤ (M.A 5 p).toInt ∧ (M.A 5 p).toInt ≤ 7) : zob g [4, 5, 6, 7, 8, 9, 10, 11] (ad 30 p) = some (4 + (M.A 5 p).toNatClampNeg, r_p ad M p) := zob_of (rp_at h hp) (r_kn hk)
theorem rp_0 (h : rX a0 M0 ad M E g) (hp : p < r_np M) {cs : List Nat} (hk : 4 + (M.A 5 p).toNatClampNeg ∈ cs) : zgI g cs (ad 30 p) 0 = some (M.A 5 p) := zgI_of (rp_at h hp) hk (r_pn ad M p).1
theorem rp_1 (h : rX a0 M0 ad M E g) (hp : p < r_np M) {cs : List Nat} (hk : 4 + (M.A 5 p).toNatClampNeg ∈ cs) : zgF g cs (ad 30 p) 1 = some (M.F 6 p) := zgF_of (rp_at h hp) hk (r_pn ad M p).2.1
theorem rp_2 (h : rX a0 M0 ad M E g) (hp : p < r_np M) {cs : List Nat} (hk : 4 + (M.A 5 p).toNatClampNeg ∈ cs) : zgI g cs (ad 30 p) 2 = some (M.A 7 p) := zgI_of (rp_at h hp) hk (r_pn ad M p).2.2.1
theorem rp_3 (h : rX a0 M0 ad M E g) (hp : p < r_np M) {cs : List Nat} (hk : 4 + (M.A 5 p).toNatClampNeg ∈ cs) : zgI g cs (ad 30 p) 3 = some (M.A 8 p) := zgI_of (rp_at h hp) hk (r_pn ad M p).2.2.2.1
theorem r_pe (he : r_echo (M.A 5 p)) : r_p ad M p = [.int (M.A 5 p), .float (M.F 6 p), .int (M.A 7 p), .int (M.A 8 p), if M.A 10 p = -1 then .null else .ref (ad 31 p), .int (M.A 9 p)] := if_pos he
theorem r_ek {k : Int32} (he : r_echo k) : 4 + k.toNatClampNeg ∈ [8, 9] := by rcases he with rfl | rfl <;> decide
theorem rp_4 (h : rX a0 M0 ad M E g) (hp : p < r_np M) (he : r_echo (M.A 5 p)) : zgR g [8, 9] (ad 30 p) 4 = some (if M.A 10 p = -1 then none else some (ad 31 p)) := by
  refine zgR_of (rp_at h hp) (r_ek he) ?_
  rw [r_pe he]
  by_cases hz : M.A 10 p = -1
  · simp [hz, va_rf]
  · simp [hz, va_rf]
theorem rp_5 (h : rX a0 M0 ad M E g) (hp : p < r_np M) (he : r_echo (M.A 5 p)) : zgI g [8, 9] (ad 30 p) 5 = some (M.A 9 p) := zgI_of (rp_at h hp) (r_ek he) (by rw [r_pe he]; rfl)
theorem rp_ln (h : rX a0 M0 ad M E g) (hp : p < r_np M) (he : r_echo (M.A 5 p)) (hz : M.A 10 p ≠ -1) : g.h (ad 31 p) = some (.inl (1, (M.A 10 p).toNatClampNeg, r_fl (fun j => if j < (M.A 10 p).toNatClampNeg then M.F 11 (16 * p + j) else 0))) := h.at (k := 31) (i := p) (if_pos ⟨hp, he, hz⟩)
/-- the Model's state with p's line made anew -/
abbrev r_lz (f : Nat → UInt32) (p n : Nat) : Nat → UInt32 := fun i => if 16 * p ≤ i ∧ i < 16 * p + n then 0 else f i
abbrev r_lf (M : MS) (p n : Nat) : MS := (M.1, M.2.1, va_up M.2.2.1 11 (r_lz (M.2.2.1 11) p n), M.2.2.2)
abbrev r_li (M : MS) (p : Nat) (b : Int32) : MS := r_lf (mA (mA M 10 p b) 9 p 0) p 16
/-- a line taken away -/
theorem rX.noline (h : rX a0 M0 ad M E g) (hp : p < r_np M) (he : r_echo (M.A 5 p)) (hl : ∀ i, i < r_np M → r_echo (M.A 5 i) → (M.A 10 i).toNatClampNeg ≤ 16) : rX a0 M0 ad (r_li M p (-1)) E (zput g (ad 30 p) (.inr (4 + (M.A 5 p).toNatClampNeg, ((r_p ad M p).set 4 .null).set 5 (.int 0)))) := by
  generalize hb : (-1 : Int32) = b
  have he' : r_echo ((r_li M p b).A 5 p) := he
  refine h.put' (k := 30) (i := p) (if_pos hp) ?_ ?_
  · unfold r_c
    have hn' : p < r_np (r_li M p b) := hp
    simp only [if_pos hn', r_pe he, r_pe he']
    simp [MS.I, MS.A, MS.F, mA, va_up, upd, ← hb]
  · intro k' i' y n1 hy
    rcases r_split k' with rfl | rfl | rfl | rfl | rfl | rfl | rfl | rfl | rfl | rfl | rfl | rfl | rfl | rfl | rfl | rfl | rfl | rfl | rfl | hr
    · (simp [r_c, r_x, r_t, r_p, mA, mF, mI, MS.I, MS.A, MS.F, MS.L, va_up] at hy ⊢; exact hy)
    · (simp [r_c, r_x, r_t, r_p, mA, mF, mI, MS.I, MS.A, MS.F, MS.L, va_up] at hy ⊢; exact hy)
    · (simp [r_c, r_x, r_t, r_p, mA, mF, mI, MS.I, MS.A, MS.F, MS.L, va_up] at hy ⊢; exact hy)
    · (simp [r_c, r_x, r_t, r_p, mA, mF, mI, MS.I, MS.A, MS.F, MS.L, va_up] at hy ⊢; exact hy)
    · (simp [r_c, r_x, r_t, r_p, mA, mF, mI, MS.I, MS.A, MS.F, MS.L, va_up] at hy ⊢; exact hy)
    · (simp [r_c, r_x, r_t, r_p, mA, mF, mI, MS.I, MS.A, MS.F, MS.L, va_up] at hy ⊢; exact hy)
    · (simp [r_c, r_x, r_t, r_p, mA, mF, mI, MS.I, MS.A, MS.F, MS.L, va_up] at hy ⊢; exact hy)
    · (simp [r_c, r_x, r_t, r_p, mA, mF, mI, MS.I, MS.A, MS.F, MS.L, va_up] at hy ⊢; exact hy)
    · (simp [r_c, r_x, r_t, r_p, mA, mF, mI, MS.I, MS.A, MS.F, MS.L, va_up] at hy ⊢; exact hy)
    · (simp [r_c, r_x, r_t, r_p, mA, mF, mI, MS.I, MS.A, MS.F, MS.L, va_up] at hy ⊢; exact hy)
    · (simp [r_c, r_x, r_t, r_p, mA, mF, mI, MS.I, MS.A, MS.F, MS.L, va_up] at hy ⊢; exact hy)
    · (simp [r_c, r_x, r_t, r_p, mA, mF, mI, MS.I, MS.A, MS.F, MS.L, va_up] at hy ⊢; exact hy)
    · (simp [r_c, r_x, r_t, r_p, mA, mF, mI, MS.I, MS.A, MS.F, MS.L, va_up] at hy ⊢; exact hy)
    · (simp [r_c, r_x, r_t, r_p, mA, mF, mI, MS.I, MS.A, MS.F, MS.L, va_up] at hy ⊢; exact hy)
    · (simp [r_c, r_x, r_t, r_p, mA, mF, mI, MS.I, MS.A, MS.F, MS.L, va_up] at hy ⊢; exact hy)
    · (simp [r_c, r_x, r_t, r_p, mA, mF, mI, MS.I, MS.A, MS.F, MS.L, va_up] at hy ⊢; exact hy)
    · (simp [r_c, r_x, r_t, r_p, mA, mF, mI, MS.I, MS.A, MS.F, MS.L, va_up] at hy ⊢; exact hy)
    · unfold r_c at hy ⊢
      by_cases hn : i' < r_np M
      · have hne : i' ≠ p := fun e => n1 ⟨rfl, e⟩
        have hn' : i' < r_np (r_li M p b) := hn
        simp only [if_pos hn, if_pos hn'] at hy ⊢
        rw [← hy]
        simp [r_p, hne, MS.I, MS.A, MS.F, mA, va_up, upd]
      · have hn' : ¬ i' < r_np (r_li M p b) := hn
        simp only [if_neg hn'] at hy
        cases hy
    · unfold r_c at hy ⊢
      by_cases hi : i' = p
      · exfalso
        subst hi
        simp [MS.I, MS.A, MS.F, mA, va_up, upd, ← hb] at hy
      · simp [MS.I, MS.A, MS.F, mA, va_up, upd, hi] at hy ⊢
        obtain ⟨c1, c2⟩ := hy
        refine ⟨c1, ?_⟩
        rw [← c2]
        have e : ∀ j, j < (M.2.1 10 i').toNatClampNeg → (M.2.1 10 i').toNatClampNeg ≤ 16 → ¬ (16 * p ≤ 16 * i' + j ∧ 16 * i' + j < 16 * p + 16) := by intro j h1 h2; omega
        have ef : (fun j => if j < (M.2.1 10 i').toNatClampNeg then M.2.2.1 11 (16 * i' + j) else 0) = fun j => if j < (M.2.1 10 i').toNatClampNeg then (if 16 * p ≤ 16 * i' + j ∧ 16 * i' + j < 16 * p + 16 then 0 else M.2.2.1 11 (16 * i' + j)) else 0 := by
          funext j
          by_cases hj : j < (M.2.1 10 i').toNatClampNeg
          · rw [if_pos hj, if_pos hj, if_neg (e j hj (hl i' c1.1 c1.2.1))]
          · rw [if_neg hj, if_neg hj]
        rw [ef]
    · rw [hr] at hy; cases hy
/-- a line made anew -/
theorem rX.line (h : rX a0 M0 ad M E g) (hp : p < r_np M) (he : r_echo (M.A 5 p)) (hl : ∀ i, i < r_np M → r_echo (M.A 5 i) → (M.A 10 i).toNatClampNeg ≤ 16) (hR : ∀ u, u < 8 → E.R 9 u ≠ 31 ∧ E.R 10 u ≠ 31) {b : Int32} (hb : b ≠ -1) (hb2 : b.toNatClampNeg ≤ 16) : rX a0 M0 (r_ad ad 31 p g.sz) (r_li M p b) E (zput (znew g (.inl (1, za0 1 b.toNatClampNeg)) b.toNatClampNeg) (ad 30 p) (.inr (4 + (M.A 5 p).toNatClampNeg, ((r_p ad M p).set 4 (.ref g.sz)).set 5 (.int 0)))) := by
  have he' : r_echo ((r_li M p b).A 5 p) := he
  have hn' : p < r_np (r_li M p b) := hp
  refine h.re' (k := 30) (i := p) (k2 := 31) (i2 := p) (if_pos hp) (by decide) ?_ ?_ ?_
  · unfold r_c
    simp only [if_pos hn', r_pe he, r_pe he']
    simp [MS.I, MS.A, MS.F, mA, va_up, upd, hb]
  · show (if p < r_np (r_li M p b) ∧ r_echo ((r_li M p b).A 5 p) ∧ (r_li M p b).A 10 p ≠ -1 then some (Sum.inl (1, ((r_li M p b).A 10 p).toNatClampNeg, r_fl (fun j => if j < ((r_li M p b).A 10 p).toNatClampNeg then (r_li M p b).F 11 (16 * p + j) else 0))) else none) = _
    have e10 : (r_li M p b).A 10 p = b := by simp [MS.A, mA, va_up, upd]
    have e11 : ∀ j, j < 16 → (r_li M p b).F 11 (16 * p + j) = 0 := by
      intro j hj
      have : (r_li M p b).F 11 = r_lz (M.2.2.1 11) p 16 := by simp [MS.F, va_up]
      rw [this]
      exact if_pos ⟨by omega, by omega⟩
    rw [if_pos ⟨hn', he', by rw [e10]; exact hb⟩, e10]
    have ef : (fun j => if j < b.toNatClampNeg then (r_li M p b).F 11 (16 * p + j) else 0) = fun _ => 0 := by
      funext j
      by_cases hj : j < b.toNatClampNeg
      · rw [if_pos hj, e11 j (by omega)]
      · rw [if_neg hj]
    rw [ef]
    rfl
  · intro k' i' y n1 n2 hy
    rcases r_split k' with rfl | rfl | rfl | rfl | rfl | rfl | rfl | rfl | rfl | rfl | rfl | rfl | rfl | rfl | rfl | rfl | rfl | rfl | rfl | hr
    · (simp [r_c, r_x, r_t, r_p, mA, mF, mI, MS.I, MS.A, MS.F, MS.L, va_up] at hy ⊢; exact hy)
    · (simp [r_c, r_x, r_t, r_p, mA, mF, mI, MS.I, MS.A, MS.F, MS.L, va_up] at hy ⊢; exact hy)
    · (simp [r_c, r_x, r_t, r_p, mA, mF, mI, MS.I, MS.A, MS.F, MS.L, va_up] at hy ⊢; exact hy)
    · (simp [r_c, r_x, r_t, r_p, mA, mF, mI, MS.I, MS.A, MS.F, MS.L, va_up] at hy ⊢; exact hy)
    · (simp [r_c, r_x, r_t, r_p, mA, mF, mI, MS.I, MS.A, MS.F, MS.L, va_up] at hy ⊢; exact hy)
    · (simp [r_c, r_x, r_t, r_p, mA, mF, mI, MS.I, MS.A, MS.F, MS.L, va_up] at hy ⊢; exact hy)
    · (simp [r_c, r_x, r_t, r_p, mA, mF, mI, MS.I, MS.A, MS.F, MS.L, va_up] at hy ⊢; exact hy)
    · (simp [r_c, r_x, r_t, r_p, mA, mF, mI, MS.I, MS.A, MS.F, MS.L, va_up] at hy ⊢; exact hy)
    · (simp [r_c, r_x, r_t, r_p, mA, mF, mI, MS.I, MS.A, MS.F, MS.L, va_up] at hy ⊢; exact hy)
    · unfold r_c at hy ⊢
      by_cases h8 : i' < 8
      · have h9 : ¬ E.2.2.1 9 i' = 31 := (hR i' h8).1
        have h10 : ¬ E.2.2.1 10 i' = 31 := (hR i' h8).2
        simp only [if_pos h8] at hy ⊢
        rw [← hy]
        simp [r_t, h9, h10, MS.A, MS.F, mA, va_up, RE.R]
      · simp only [if_neg h8] at hy
        cases hy
    · (simp [r_c, r_x, r_t, r_p, mA, mF, mI, MS.I, MS.A, MS.F, MS.L, va_up] at hy ⊢; exact hy)
    · (simp [r_c, r_x, r_t, r_p, mA, mF, mI, MS.I, MS.A, MS.F, MS.L, va_up] at hy ⊢; exact hy)
    · (simp [r_c, r_x, r_t, r_p, mA, mF, mI, MS.I, MS.A, MS.F, MS.L, va_up] at hy ⊢; exact hy)
    · (simp [r_c, r_x, r_t, r_p, mA, mF, mI, MS.I, MS.A, MS.F, MS.L, va_up] at hy ⊢; exact hy)
    · (simp [r_c, r_x, r_t, r_p, mA, mF, mI, MS.I, MS.A, MS.F, MS.L, va_up] at hy ⊢; exact hy)
    · (simp [r_c, r_x, r_t, r_p, mA, mF, mI, MS.I, MS.A, MS.F, MS.L, va_up] at hy ⊢; exact hy)
    · (simp [r_c, r_x, r_t, r_p, mA, mF, mI, MS.I, MS.A, MS.F, MS.L, va_up] at hy ⊢; exact hy)
    · unfold r_c at hy ⊢
      by_cases hn : i' < r_np M
      · have hne : i' ≠ p := fun e => n1 ⟨rfl, e⟩
        have hn' : i' < r_np (r_li M p b) := hn
        simp only [if_pos hn, if_pos hn'] at hy ⊢
        rw [← hy]
        simp [r_p, hne, MS.I, MS.A, MS.F, mA, va_up, upd]
      · have hn' : ¬ i' < r_np (r_li M p b) := hn
        simp only [if_neg hn'] at hy
        cases hy
    · unfold r_c at hy ⊢
      by_cases hi : i' = p
      · exact absurd ⟨rfl, hi⟩ n2
      · simp [MS.I, MS.A, MS.F, mA, va_up, upd, hi] at hy ⊢
        obtain ⟨c1, c2⟩ := hy
        refine ⟨c1, ?_⟩
        rw [← c2]
        have e : ∀ j, j < (M.2.1 10 i').toNatClampNeg → (M.2.1 10 i').toNatClampNeg ≤ 16 → ¬ (16 * p ≤ 16 * i' + j ∧ 16 * i' + j < 16 * p + 16) := by intro j h1 h2; omega
        have ef : (fun j => if j < (M.2.1 10 i').toNatClampNeg then M.2.2.1 11 (16 * i' + j) else 0) = fun j => if j < (M.2.1 10 i').toNatClampNeg then (if 16 * p ≤ 16 * i' + j ∧ 16 * i' + j < 16 * p + 16 then 0 else M.2.2.1 11 (16 * i' + j)) else 0 := by
          funext j
          by_cases hj : j < (M.2.1 10 i').toNatClampNeg
          · rw [if_pos hj, if_pos hj, if_neg (e j hj (hl i' c1.1 c1.2.1))]
          · rw [if_neg hj, if_neg hj]
        rw [ef]
    · rw [hr] at hy; cases hy
end R7

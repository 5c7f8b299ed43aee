/-! edits: pure, chain, line; all of them -/
set_option maxRecDepth 100000
section R9
variable {a0 : Nat} {M0 : MS} {ad ad' : Nat → Nat → Nat} {M M1 : MS} {E : RE} {g g1 : zS} {k t x y s : Int32}
theorem r_c4 (n : Nat) (hn : n < 4) (t : Int32) (ht : r_tk t) : ((4 : Int32) * t + Int32.ofNat n).toNatClampNeg = 4 * t.toNatClampNeg + n ∧ vp_in ((4 : Int32) * t + Int32.ofNat n) 32 ∧ ((4 : Int32) * t + Int32.ofNat n).toInt = 4 * t.toInt + n := by
  have htn := rn ht.1
  have ht2 := ht.2
  have e0 : (Int32.ofNat n).toInt = n := z32_nat (by omega)
  have e4 : ((4 : Int32) * t).toInt = 4 * t.toInt := by rw [z32_mul (by rw [ri_4]; omega) (by rw [ri_4]; omega), ri_4]
  have e5 : ((4 : Int32) * t + Int32.ofNat n).toInt = 4 * t.toInt + n := by rw [z32_add (by omega) (by omega), e4, e0]
  have n5 := rn (x := (4 : Int32) * t + Int32.ofNat n) (by omega)
  exact ⟨by omega, z32_in (by omega) (by omega), e5⟩
theorem r_L47 (M : MS) (ht : r_tk t) (b : Int32) (kk : MS → Int32 → Int32 → Option (Int32 × MS)) : fX2_does_L47 1000 M t b 0 kk = kk (mA (mA (mA (mA M 19 (4 * t.toNatClampNeg) (-1)) 19 (4 * t.toNatClampNeg + 1) (-1)) 19 (4 * t.toNatClampNeg + 2) (-1)) 19 (4 * t.toNatClampNeg + 3) (-1)) t b := by
  obtain ⟨a0, b0, _⟩ := r_c4 0 (by decide) t ht
  obtain ⟨a1, b1, _⟩ := r_c4 1 (by decide) t ht
  obtain ⟨a2, b2, _⟩ := r_c4 2 (by decide) t ht
  obtain ⟨a3, b3, _⟩ := r_c4 3 (by decide) t ht
  rw [fX2_does_L47, if_neg (by decide), show ((0 : Int32)) = Int32.ofNat 0 from rfl, zgd_pos b0, zlet_v, a0]
  rw [show Int32.ofNat 0 + 1 = Int32.ofNat 1 from rfl, fX2_does_L47, if_neg (by decide), zgd_pos b1, zlet_v, a1]
  rw [show Int32.ofNat 1 + 1 = Int32.ofNat 2 from rfl, fX2_does_L47, if_neg (by decide), zgd_pos b2, zlet_v, a2]
  rw [show Int32.ofNat 2 + 1 = Int32.ofNat 3 from rfl, fX2_does_L47, if_neg (by decide), zgd_pos b3, zlet_v, a3]
  rw [show Int32.ofNat 3 + 1 = (4 : Int32) from rfl, fX2_does_L47, if_pos (by decide)]
  rfl
theorem r_kR {E : RE} (hR : ∀ u, u < 8 → ((E.R 9 u = 12 ∧ E.R 10 u = 13) ∨ (E.R 9 u = 13 ∧ E.R 10 u = 12))) (n : Nat) (h1 : n ≠ 12) (h2 : n ≠ 13) : ∀ u, u < 8 → E.R 9 u ≠ n ∧ E.R 10 u ≠ n := by
  intro u hu
  rcases hR u hu with ⟨a, b⟩ | ⟨a, b⟩ <;> rw [a, b] <;> exact ⟨by omega, by omega⟩
/-- kind 1 -/
theorem r_dn1 (h : rX a0 M0 ad M E g) (hS : rS M) (hR : ∀ u, u < 8 → ((E.R 9 u = 12 ∧ E.R 10 u = 13) ∨ (E.R 9 u = 13 ∧ E.R 10 u = 12))) (hrc : 3 ≤ g.rc) (hrs : 300 ≤ g.rs) (ht : r_tk t) (hs : r_bit s) (c d : Int32) : r_dn a0 M0 ad M E g (fX0_does g (ad 0 0) 1 t x y s) (fX2_does M 1 t s c d) := by
  have htn := rn ht.1
  have ht8 : t.toNatClampNeg < 8 := by have := ht.2; omega
  have hi : vp_in t 8 := z32_in ht.1 (by have := ht.2; omega)
  have ob := h.at (k := 10) (i := t.toNatClampNeg) (if_pos ht8)
  have hne : ad 10 t.toNatClampNeg ≠ g.sz := h.fresh (k := 10) (i := t.toNatClampNeg) (if_pos ht8)
  have hX := h.pure ht8 (r_kR hR 11 (by decide) (by decide)) (v := s)
  have p1 : zpV g [1] (ad 10 t.toNatClampNeg) 5 (.int s) = some (zput g (ad 10 t.toNatClampNeg) (.inr (1, (r_t ad M E t.toNatClampNeg).set 5 (.int s)))) := zpV_of ob (by decide) (Nat.le_of_ble_eq_true rfl)
  -- the heap behind the flag's write
  have rd4 : zgN (zput g (ad 10 t.toNatClampNeg) (.inr (1, (r_t ad M E t.toNatClampNeg).set 5 (.int s)))) [0] (ad 0 0) 4 = some (ad 3 0) := by
    refine zgN_of (c := 0) (fs := r_x ad M E) ?_ (by decide) rfl
    show va_up g.1 _ _ (ad 0 0) = _
    rw [va_up_ne _ _ (fun e => absurd (h.2.1 0 0 10 t.toNatClampNeg _ _ rfl (if_pos ht8) e).1 (by decide))]
    exact h.at (k := 0) (i := 0) rfl
  have rd3 : zaN (zput g (ad 10 t.toNatClampNeg) (.inr (1, (r_t ad M E t.toNatClampNeg).set 5 (.int s)))) 9 (ad 3 0) t = some (ad 10 t.toNatClampNeg) := by
    refine zaN_of (n := 8) (f := fun j => if j < 8 then some (ad 10 j) else none) ?_ hi (if_pos ht8)
    show va_up g.1 _ _ (ad 3 0) = _
    rw [va_up_ne _ _ (fun e => absurd (h.2.1 3 0 10 t.toNatClampNeg _ _ rfl (if_pos ht8) e).1 (by decide))]
    exact h.at (k := 3) (i := 0) rfl
  have p2 : ∀ ty : Nat, zpV (znew (zput g (ad 10 t.toNatClampNeg) (.inr (1, (r_t ad M E t.toNatClampNeg).set 5 (.int s)))) (.inl (ty, 4, r_ro fun _ => none)) 4) [1] (ad 10 t.toNatClampNeg) 6 (.ref g.sz) = some (zput (znew g (.inl (ty, 4, r_ro fun _ => none)) 4) (ad 10 t.toNatClampNeg) (.inr (1, ((r_t ad M E t.toNatClampNeg).set 5 (.int s)).set 6 (.ref g.sz)))) := by
    intro ty
    rw [zput_new hne, zpV_of (c := 1) (fs := (r_t ad M E t.toNatClampNeg).set 5 (.int s)) (va_up_self _ _ _) (by decide) (Nat.le_of_ble_eq_true rfl), zput_put]
  have hch : fX0_change g (ad 0 0) 1 t x y s = some (.inl (), zput (znew g (.inl (if s = 0 then 8 else 10, 4, r_ro fun _ => none)) 4) (ad 10 t.toNatClampNeg) (.inr (1, ((r_t ad M E t.toNatClampNeg).set 5 (.int s)).set 6 (.ref g.sz)))) := by
    unfold fX0_change
    rw [if_neg (by decide), if_pos rfl, rd_x4 h, zbj_v, rd_a3 h hi ht8, zbj_v, zgd_pos (r_bz hs), p1, zbj_v, rd4, zbj_v, rd3, zbj_v]
    have hg : ¬ (4 : Int32) < 0 ∧ 1 ≤ g.rc ∧ (4 : Int32).toNatClampNeg ≤ g.rs ∧ (4 : Int32).toNatClampNeg * 4 ≤ 536870912 := ⟨by decide, by omega, Nat.le_trans (show (4 : Int32).toNatClampNeg ≤ 4 from Nat.le_of_ble_eq_true rfl) (by omega), by decide⟩
    rcases hs with rfl | rfl
    · rw [if_pos rfl, zgd_pos hg, zlet_v]
      show zbj (zpV (znew (zput g (ad 10 t.toNatClampNeg) (.inr (1, (r_t ad M E t.toNatClampNeg).set 5 (.int 0)))) (.inl (8, 4, r_ro fun _ => none)) 4) [1] (ad 10 t.toNatClampNeg) 6 (.ref g.sz)) _ = _
      rw [p2 8, zbj_v]
      rfl
    · rw [if_neg (by decide), zgd_pos hg, zlet_v]
      show zbj (zpV (znew (zput g (ad 10 t.toNatClampNeg) (.inr (1, (r_t ad M E t.toNatClampNeg).set 5 (.int 1)))) (.inl (10, 4, r_ro fun _ => none)) 4) [1] (ad 10 t.toNatClampNeg) 6 (.ref g.sz)) _ = _
      rw [p2 10, zbj_v]
      rfl
  refine r_dn_ok (M1 := r_pu M t.toNatClampNeg s) (c1 := 0) (c2 := 0) h hch hX rfl ?_ ?_ (show g.rc ≤ g.rc - 1 + 3 by omega) (show g.rs ≤ g.rs - 4 + 300 by omega) ?_
  · refine ⟨by simpa [rI_c, mA, MS.A, MS.I, MS.L, va_up] using hS.1, by simpa [rI_p, r_pl, mA, MS.A, MS.I, MS.F, va_up] using hS.2.1, fun t' ht' => ?_⟩
    have old := hS.2.2 t' ht'
    have e19 := r_pu19 M t.toNatClampNeg s
    have e18 : (r_pu M t.toNatClampNeg s).A 18 = upd (M.A 18) t.toNatClampNeg s := by simp [mA, MS.A, va_up]
    have e5 : (r_pu M t.toNatClampNeg s).A 5 = M.A 5 := by simp [mA, MS.A, va_up]
    have e13 : (r_pu M t.toNatClampNeg s).A 13 = M.A 13 := by simp [mA, MS.A, va_up]
    have e14 : (r_pu M t.toNatClampNeg s).A 14 = M.A 14 := by simp [mA, MS.A, va_up]
    have e16 : (r_pu M t.toNatClampNeg s).A 16 = M.A 16 := by simp [mA, MS.A, va_up]
    rw [e13, e14, e16, e18, e5]
    by_cases e : t' = t.toNatClampNeg
    · subst e
      refine ⟨old.1, old.2.1, by simpa [upd] using hs, old.2.2.2.1, old.2.2.2.2.1, fun j hj => ?_⟩
      rw [e19, if_pos ⟨by omega, by omega⟩]
      have h12 := hS.2.1.1
      exact ⟨⟨by decide, by rw [ri_m1]; show -1 < (M.I 4).toInt; omega⟩, fun _ h1 => absurd rfl h1⟩
    · refine ⟨old.1, old.2.1, by simpa [upd, e] using old.2.2.1, old.2.2.2.1, old.2.2.2.2.1, fun j hj => ?_⟩
      rw [e19, if_neg (by omega)]
      simpa [upd, e] using old.2.2.2.2.2 j hj
  · refine ⟨fun _ _ => rfl, fun k _ _ _ _ _ _ h18 h19 _ => ?_, fun _ _ _ => rfl, rfl⟩
    simp [mA, MS.A, va_up, h18, h19]
  · unfold fX2_does
    rw [zjoin_v, if_neg (by decide), if_pos rfl, r_L47 M ht]
    rw [zjoin_v, r_ifb hs (fun v => zgd (vp_in t 8) (zlet (mA (mA (mA (mA (mA M 19 (4 * t.toNatClampNeg) (-1)) 19 (4 * t.toNatClampNeg + 1) (-1)) 19 (4 * t.toNatClampNeg + 2) (-1)) 19 (4 * t.toNatClampNeg + 3) (-1)) 18 t.toNatClampNeg (v &&& 1)) (fun M61 => zlet (mI M61 45 ((M61.I 45) + (1 : Int32))) (fun M2 => some ((1 : Int32), M2))))), zgd_pos hi, zlet_v, zlet_v, r_bit1 hs]
end R9

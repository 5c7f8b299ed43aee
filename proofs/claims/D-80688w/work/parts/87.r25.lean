/-! what a worker looks at: states, places, plugs that are needed -/
set_option maxRecDepth 100000
section R25
variable {a0 : Nat} {M0 : MS} {ad : Nat → Nat → Nat} {M : MS} {E : RE} {g : zS}
theorem r_oN {y : Nat} (h : y < 100000) : (Int32.ofNat y).toInt = y ∧ (Int32.ofNat y).toNatClampNeg = y ∧ Int32.ofNat y + 1 = Int32.ofNat (y + 1) := by
  have e0 : (Int32.ofNat y).toInt = y := z32_nat (by omega)
  have en := rn (x := Int32.ofNat y) (by omega)
  exact ⟨e0, by omega, Int32.toInt_inj.mp (by rw [z32_add (by rw [ri_1]; omega) (by rw [ri_1]; omega), e0, ri_1, z32_nat (by omega)]; push_cast; rfl)⟩
theorem r_toN {x : Int32} (h : 0 ≤ x.toInt) : Int32.ofNat x.toNatClampNeg = x := by
  have := rn h
  have := x.toInt_lt
  exact Int32.toInt_inj.mp (by rw [z32_nat (by omega)]; omega)
/-- the least track of a state -/
theorem r_leastL (h : rX a0 M0 ad M E g) (st : Int32) : ∀ (n f y : Nat), y + n = 8 → n < f → ∃ r, fX0_least_L2 f g (ad 0 0) st (Int32.ofNat y) = some (Int32.ofNat r, g) ∧ fX2_firstOf_L2 f M st (Int32.ofNat y) = some (Int32.ofNat r, M) ∧ y ≤ r ∧ r ≤ 8 ∧ (r < 8 → M.A 20 r = st) ∧ ∀ t, y ≤ t → t < r → M.A 20 t ≠ st := by
  intro n
  induction n with
  | zero =>
    intro f y hy hf
    obtain ⟨f', rfl⟩ : ∃ f', f = f' + 1 := ⟨f - 1, by omega⟩
    have : y = 8 := by omega
    subst this
    refine ⟨8, ?_, ?_, Nat.le_refl _, Nat.le_refl _, fun e => absurd e (by omega), fun t h1 h2 => by omega⟩
    · rw [fX0_least_L2, if_pos (by decide)]
    · rw [fX2_firstOf_L2, if_pos (by decide)]
  | succ n ih =>
    intro f y hy hf
    obtain ⟨f', rfl⟩ : ∃ f', f = f' + 1 := ⟨f - 1, by omega⟩
    obtain ⟨e0, en, e1⟩ := r_oN (y := y) (by omega)
    have hi : vp_in (Int32.ofNat y) 8 := z32_in (by omega) (by omega)
    have hle : ¬ (8 : Int32) ≤ Int32.ofNat y := by rw [Int32.le_iff_toInt_le, ri_8, e0]; omega
    rw [fX0_least_L2, if_neg hle, rd_x4 h, zbj_v, rd_a3 h hi (by omega), zbj_v, en, rd_t7 h (show y < 8 by omega), zbj_v, fX2_firstOf_L2, if_neg hle, zgd_pos hi, en]
    by_cases hs : M.A 20 y = st
    · rw [if_pos hs, if_pos hs]
      exact ⟨y, rfl, rfl, Nat.le_refl _, by omega, fun _ => hs, fun t h1 h2 => by omega⟩
    · rw [if_neg hs, if_neg hs, e1]
      obtain ⟨r, q1, q2, q3, q4, q5, q6⟩ := ih f' (y + 1) (by omega) (by omega)
      refine ⟨r, q1, q2, by omega, q4, q5, fun t h1 h2 => ?_⟩
      by_cases et : t = y
      · rw [et]; exact hs
      · exact q6 t (by omega) h2
theorem r_least (h : rX a0 M0 ad M E g) (st : Int32) : ∃ r, fX0_least g (ad 0 0) st = some (Int32.ofNat r, g) ∧ fX2_firstOf M st = some (Int32.ofNat r, M) ∧ r ≤ 8 ∧ (r < 8 → M.A 20 r = st) ∧ ∀ t, t < r → M.A 20 t ≠ st := by
  obtain ⟨r, q1, q2, _, q4, q5, q6⟩ := r_leastL h st 8 1000 0 rfl (by decide)
  exact ⟨r, q1, q2, q4, q5, fun t => q6 t (Nat.zero_le _)⟩
theorem r_waited (h : rX a0 M0 ad M E g) : ∃ g', fX0_waited g (ad 0 0) = some (0, g') ∧ fX2_waits M = some (0, mI M 47 (M.I 47 + 1)) ∧ rX a0 M0 ad (mI M 47 (M.I 47 + 1)) E g' ∧ g'.2 = g.2 := by
  obtain ⟨g', e1, h', e2⟩ := wr_x13 h (M.I 47 + 1)
  refine ⟨g', ?_, ?_, h', e2⟩
  · unfold fX0_waited
    rw [rd_x13 h, zbj_v, e1, zbj_v]
  · unfold fX2_waits
    rw [zlet_v]
/-- the next place of a chain -/
theorem r_nextL (h : rX a0 M0 ad M E g) {T : Int32} (hT : r_tk T) : ∀ (n f y : Nat), y + n = 4 → n < f → ∃ r, fX1_next_L2 f g (ad 10 T.toNatClampNeg) (Int32.ofNat y) = some (Int32.ofNat r, g) ∧ fX2_nextPlace_L2 f M T (Int32.ofNat y) = some (Int32.ofNat r, M) ∧ y ≤ r ∧ r ≤ 4 ∧ (r < 4 → M.A 19 (4 * T.toNatClampNeg + r) ≠ -1) := by
  have htn := rn hT.1
  have ht8 : T.toNatClampNeg < 8 := by have := hT.2; omega
  intro n
  induction n with
  | zero =>
    intro f y hy hf
    obtain ⟨f', rfl⟩ : ∃ f', f = f' + 1 := ⟨f - 1, by omega⟩
    have : y = 4 := by omega
    subst this
    refine ⟨4, ?_, ?_, Nat.le_refl _, Nat.le_refl _, fun e => absurd e (by omega)⟩
    · rw [fX1_next_L2, if_pos (by decide)]
    · rw [fX2_nextPlace_L2, if_pos (by decide)]
  | succ n ih =>
    intro f y hy hf
    obtain ⟨f', rfl⟩ : ∃ f', f = f' + 1 := ⟨f - 1, by omega⟩
    obtain ⟨e0, en, e1⟩ := r_oN (y := y) (by omega)
    have hi : vp_in (Int32.ofNat y) 4 := z32_in (by omega) (by omega)
    have hle : ¬ (4 : Int32) ≤ Int32.ofNat y := by rw [Int32.le_iff_toInt_le, ri_4, e0]; omega
    obtain ⟨c1, c2, _⟩ := r_c4 y (by omega) T hT
    rw [fX1_next_L2, if_neg hle, rd_t6 h ht8, zbj_v, rd_a11 h ht8 hi, zbj_v, en, fX2_nextPlace_L2, if_neg hle, zgd_pos c2, c1]
    unfold r_opt
    by_cases hm : M.A 19 (4 * T.toNatClampNeg + y) = -1
    · rw [if_pos hm, if_pos hm, zcs_nv, e1]
      obtain ⟨r, q1, q2, q3, q4, q5⟩ := ih f' (y + 1) (by omega) (by omega)
      exact ⟨r, q1, q2, by omega, q4, q5⟩
    · rw [if_neg hm, if_neg hm, zcs_sv]
      exact ⟨y, rfl, rfl, Nat.le_refl _, by omega, fun _ => hm⟩
theorem r_next (h : rX a0 M0 ad M E g) {T : Int32} (hT : r_tk T) {y : Nat} (hy : y ≤ 4) : ∃ r, fX1_next g (ad 10 T.toNatClampNeg) (Int32.ofNat y) = some (Int32.ofNat r, g) ∧ fX2_nextPlace M T (Int32.ofNat y) = some (Int32.ofNat r, M) ∧ y ≤ r ∧ r ≤ 4 ∧ (r < 4 → M.A 19 (4 * T.toNatClampNeg + r) ≠ -1) := r_nextL h hT (4 - y) 1000 y (by omega) (by omega)
/-- whether a worker has a track, as the Model asks -/
theorem r_hasL (M : MS) (hw : 1 ≤ (M.I 26).toInt ∧ (M.I 26).toInt ≤ 4) : ∀ (n f y : Nat) (acc : Int32), (y : Int) + n = (M.I 26).toInt → n < f → r_bit acc → ∃ r, fX2_hasTrack_L4 f M acc (Int32.ofNat y) = some (r, M) ∧ r_bit r ∧ (r = 1 ↔ acc = 1 ∨ ∃ w, y ≤ w ∧ (w : Int) < (M.I 26).toInt ∧ M.A 27 w ≠ -1) := by
  intro n
  induction n with
  | zero =>
    intro f y acc hy hf hb
    obtain ⟨f', rfl⟩ : ∃ f', f = f' + 1 := ⟨f - 1, by omega⟩
    obtain ⟨e0, en, e1⟩ := r_oN (y := y) (by omega)
    rw [fX2_hasTrack_L4, if_pos (by rw [Int32.le_iff_toInt_le, e0]; omega), zgd_pos (r_bz hb)]
    exact ⟨acc, rfl, hb, ⟨Or.inl, fun e => e.elim id (fun ⟨w, h1, h2, _⟩ => by omega)⟩⟩
  | succ n ih =>
    intro f y acc hy hf hb
    obtain ⟨f', rfl⟩ : ∃ f', f = f' + 1 := ⟨f - 1, by omega⟩
    obtain ⟨e0, en, e1⟩ := r_oN (y := y) (by omega)
    have hi : vp_in (Int32.ofNat y) 4 := z32_in (by omega) (by omega)
    rw [fX2_hasTrack_L4, if_neg (by rw [Int32.le_iff_toInt_le, e0]; omega), zjoin_v, zjoin_v, zgd_pos hi, en]
    dsimp only
    rw [e1]
    by_cases ha : acc = 0
    · rw [if_pos ha]
      by_cases hm : M.A 27 y = -1
      · rw [if_pos hm]
        obtain ⟨r, q1, q2, q3⟩ := ih f' (y + 1) 0 (by push_cast; omega) (by omega) (Or.inl rfl)
        refine ⟨r, q1, q2, q3.trans ⟨fun e => e.elim (fun e => absurd e (by decide)) (fun ⟨w, h1, h2, h3⟩ => Or.inr ⟨w, by omega, h2, h3⟩), fun e => e.elim (fun e => absurd (ha.symm.trans e) (by decide)) (fun ⟨w, h1, h2, h3⟩ => ?_)⟩⟩
        by_cases ew : w = y
        · rw [ew] at h3; exact absurd hm h3
        · exact Or.inr ⟨w, by omega, h2, h3⟩
      · rw [if_neg hm]
        obtain ⟨r, q1, q2, q3⟩ := ih f' (y + 1) 1 (by push_cast; omega) (by omega) (Or.inr rfl)
        exact ⟨r, q1, q2, ⟨fun _ => Or.inr ⟨y, Nat.le_refl _, by omega, hm⟩, fun _ => q3.mpr (Or.inl rfl)⟩⟩
    · rw [if_neg ha]
      obtain ⟨r, q1, q2, q3⟩ := ih f' (y + 1) 1 (by push_cast; omega) (by omega) (Or.inr rfl)
      exact ⟨r, q1, q2, ⟨fun _ => Or.inl (hb.resolve_left ha), fun _ => q3.mpr (Or.inl rfl)⟩⟩
theorem r_hasT (M : MS) (hw : 1 ≤ (M.I 26).toInt ∧ (M.I 26).toInt ≤ 4) : ∃ r, fX2_hasTrack M = some (r, M) ∧ r_bit r ∧ (r = 1 ↔ ∃ w : Nat, (w : Int) < (M.I 26).toInt ∧ M.A 27 w ≠ -1) := by
  have h26 := rn (x := M.I 26) (by omega)
  obtain ⟨r, q1, q2, q3⟩ := r_hasL M hw (M.I 26).toNatClampNeg 1000 0 0 (by push_cast; omega) (by omega) (Or.inl rfl)
  exact ⟨r, q1, q2, q3.trans ⟨fun e => e.elim (fun e => absurd e (by decide)) (fun ⟨w, _, h2, h3⟩ => ⟨w, h2, h3⟩), fun ⟨w, h2, h3⟩ => Or.inr ⟨w, Nat.zero_le _, h2, h3⟩⟩⟩
end R25

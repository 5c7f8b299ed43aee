/-! whether a track may go on -/
set_option maxRecDepth 100000
section R26
variable {a0 : Nat} {M0 : MS} {ad : Nat → Nat → Nat} {M : MS} {E : RE} {g : zS}
/-- a plug is in a chain, from a place on -/
def r_hp (M : MS) (u : Nat) (P : Int32) (y : Nat) : Prop := ∃ j, y ≤ j ∧ j < 4 ∧ M.A 19 (4 * u + j) = P
theorem r_hp_step {u : Nat} {P : Int32} {y : Nat} (hy : y < 4) : r_hp M u P y ↔ M.A 19 (4 * u + y) = P ∨ r_hp M u P (y + 1) := by
  constructor
  · rintro ⟨j, h1, h2, h3⟩
    by_cases e : j = y
    · rw [e] at h3; exact Or.inl h3
    · exact Or.inr ⟨j, by omega, h2, h3⟩
  · rintro (h | ⟨j, h1, h2, h3⟩)
    · exact ⟨y, Nat.le_refl _, hy, h⟩
    · exact ⟨j, by omega, h2, h3⟩
theorem r_hp_4 {u : Nat} {P : Int32} {y : Nat} (hy : 4 ≤ y) : ¬ r_hp M u P y := fun ⟨j, h1, h2, _⟩ => by omega
/-- an element of a chain is a plug's address just when it has the plug's number -/
theorem r_opt_eq (h : rX a0 M0 ad M E g) (hp : 0 ≤ (M.I 4).toInt ∧ (M.I 4).toInt ≤ 12) {c P : Int32} (hc : -1 ≤ c.toInt ∧ c.toInt < (M.I 4).toInt) (hP : 0 ≤ P.toInt ∧ P.toInt < (M.I 4).toInt) : r_opt ad c = some (ad 30 P.toNatClampNeg) ↔ c = P := by
  have h4 := rn hp.1
  have hPn := rn hP.1
  unfold r_opt
  by_cases hm : c = -1
  · rw [if_pos hm]
    constructor
    · intro e; cases e
    · intro e
      rw [← e, hm, ri_m1] at hP
      omega
  · rw [if_neg hm]
    have hm2 : c.toInt ≠ -1 := fun e => hm (Int32.toInt_inj.mp (by rw [ri_m1]; exact e))
    have hcn := rn (x := c) (by omega)
    constructor
    · intro e
      have e1 := Option.some.inj e
      obtain ⟨x1, w1⟩ := r_plug_at h (p := c.toNatClampNeg) (by show c.toNatClampNeg < (M.I 4).toNatClampNeg; omega)
      obtain ⟨x2, w2⟩ := r_plug_at h (p := P.toNatClampNeg) (by show P.toNatClampNeg < (M.I 4).toNatClampNeg; omega)
      have e3 := (h.2.1 _ _ _ _ _ _ w1 w2 e1).2
      exact Int32.toInt_inj.mp (by omega)
    · intro e; rw [e]
theorem r_needsL (h : rX a0 M0 ad M E g) (hp : rI_p M) (ht : rI_t M) {u : Nat} (hu : u < 8) {P : Int32} (hP : 0 ≤ P.toInt ∧ P.toInt < (M.I 4).toInt) : ∀ (n f y : Nat) (acc : Int32), y + n = 4 → n < f → r_bit acc → ∃ r, fX1_needs_L11 f g (ad 10 u) (ad 30 P.toNatClampNeg) acc (Int32.ofNat y) = some (r, g) ∧ r_bit r ∧ (r = 1 ↔ acc = 1 ∨ r_hp M u P y) := by
  intro n
  induction n with
  | zero =>
    intro f y acc hy hf hb
    obtain ⟨f', rfl⟩ : ∃ f', f = f' + 1 := ⟨f - 1, by omega⟩
    have : y = 4 := by omega
    subst this
    rw [fX1_needs_L11, if_pos (by decide), zgd_pos (r_bz hb)]
    exact ⟨acc, rfl, hb, ⟨Or.inl, fun e => e.elim id (fun e => absurd e (r_hp_4 (Nat.le_refl _)))⟩⟩
  | succ n ih =>
    intro f y acc hy hf hb
    obtain ⟨f', rfl⟩ : ∃ f', f = f' + 1 := ⟨f - 1, by omega⟩
    obtain ⟨e0, en, e1⟩ := r_oN (y := y) (by omega)
    have hi : vp_in (Int32.ofNat y) 4 := z32_in (by omega) (by omega)
    have hch := ((ht u hu).2.2.2.2.2 y (by omega)).1
    rw [fX1_needs_L11, if_neg (by rw [Int32.le_iff_toInt_le, ri_4, e0]; omega), rd_t6 h hu, zbj_v, rd_a11 h hu hi, zbj_v, en, zjoin_v]
    dsimp only
    rw [e1]
    have hst := r_hp_step (M := M) (u := u) (P := P) (y := y) (by omega)
    by_cases hc : r_opt ad (M.A 19 (4 * u + y)) = some (ad 30 P.toNatClampNeg)
    · rw [if_pos hc]
      have hc' := (r_opt_eq h hp.1 hch hP).mp hc
      have hb' : acc ||| 1 = 1 := by rcases hb with rfl | rfl <;> rfl
      rw [hb']
      obtain ⟨r, q1, q2, q3⟩ := ih f' (y + 1) 1 (by omega) (by omega) (Or.inr rfl)
      exact ⟨r, q1, q2, ⟨fun _ => Or.inr (hst.mpr (Or.inl hc')), fun _ => q3.mpr (Or.inl rfl)⟩⟩
    · rw [if_neg hc]
      have hc' : ¬ M.A 19 (4 * u + y) = P := fun e => hc ((r_opt_eq h hp.1 hch hP).mpr e)
      have hb' : acc ||| 0 = acc := by rcases hb with rfl | rfl <;> rfl
      rw [hb']
      obtain ⟨r, q1, q2, q3⟩ := ih f' (y + 1) acc (by omega) (by omega) hb
      exact ⟨r, q1, q2, q3.trans ⟨fun e => e.imp id (fun e => hst.mpr (Or.inr e)), fun e => e.imp id (fun e => (hst.mp e).resolve_left hc')⟩⟩
theorem r_max0 (x : Int32) : fJ11_max x 0 = some (if 0 ≤ x.toInt then x else 0) := by
  unfold fJ11_max
  by_cases h : x < 0
  · rw [if_pos h]
    rw [Int32.lt_iff_toInt_lt, ri_0] at h
    rw [if_neg (by omega)]
  · rw [if_neg h]
    rw [Int32.lt_iff_toInt_lt, ri_0] at h
    rw [if_pos (by omega)]
/-- the Model's inner loop -/
theorem r_mp35 (M : MS) {T P : Int32} {U : Int32} (hU : r_tk U) (kk : MS → Int32 → Int32 → Int32 → Option (Int32 × MS)) : ∀ (n f y : Nat), y + n = 4 → n < f → (r_hp M U.toNatClampNeg P y → fX2_mayPass_L35 f M T P U (Int32.ofNat y) kk = some (0, M)) ∧ (¬ r_hp M U.toNatClampNeg P y → fX2_mayPass_L35 f M T P U (Int32.ofNat y) kk = kk M T P U) := by
  intro n
  induction n with
  | zero =>
    intro f y hy hf
    obtain ⟨f', rfl⟩ : ∃ f', f = f' + 1 := ⟨f - 1, by omega⟩
    have : y = 4 := by omega
    subst this
    refine ⟨fun e => absurd e (r_hp_4 (Nat.le_refl _)), fun _ => ?_⟩
    rw [fX2_mayPass_L35, if_pos (by decide)]
  | succ n ih =>
    intro f y hy hf
    obtain ⟨f', rfl⟩ : ∃ f', f = f' + 1 := ⟨f - 1, by omega⟩
    obtain ⟨e0, en, e1⟩ := r_oN (y := y) (by omega)
    obtain ⟨c1, c2, _⟩ := r_c4 y (by omega) U hU
    have hst := r_hp_step (M := M) (u := U.toNatClampNeg) (P := P) (y := y) (by omega)
    rw [fX2_mayPass_L35, if_neg (by rw [Int32.le_iff_toInt_le, ri_4, e0]; omega), zgd_pos c2, c1]
    by_cases hc : M.A 19 (4 * U.toNatClampNeg + y) = P
    · rw [if_pos hc]
      exact ⟨fun _ => rfl, fun e => absurd (hst.mpr (Or.inl hc)) e⟩
    · rw [if_neg hc, e1]
      obtain ⟨q1, q2⟩ := ih f' (y + 1) (by omega) (by omega)
      exact ⟨fun e => q1 ((hst.mp e).resolve_left hc), fun e => q2 (fun e' => e (hst.mpr (Or.inr e')))⟩
end R26

/-! whether a track may go on: both loops -/
set_option maxRecDepth 100000
section R27
variable {a0 : Nat} {M0 : MS} {ad : Nat → Nat → Nat} {M : MS} {E : RE} {g : zS}
/-- a track ahead has still to go through a plug -/
def r_vi (M : MS) (u : Nat) (P : Int32) : Prop := (M.A 20 u = 1 ∨ M.A 20 u = 2) ∧ r_hp M u P (M.A 21 u).toNatClampNeg
def r_vs (M : MS) (P : Int32) (y t : Nat) : Prop := ∃ u, y ≤ u ∧ u < t ∧ r_vi M u P
theorem r_vs_step {P : Int32} {y t : Nat} (hy : y < t) : r_vs M P y t ↔ r_vi M y P ∨ r_vs M P (y + 1) t := by
  constructor
  · rintro ⟨j, h1, h2, h3⟩
    by_cases e : j = y
    · rw [e] at h3; exact Or.inl h3
    · exact Or.inr ⟨j, by omega, h2, h3⟩
  · rintro (h | ⟨j, h1, h2, h3⟩)
    · exact ⟨y, Nat.le_refl _, hy, h⟩
    · exact ⟨j, by omega, h2, h3⟩
/-- where a track is, as both have it -/
theorem r_btP {t : Nat} (hb : r_bt M E t) (hs : M.A 20 t = 1 ∨ M.A 20 t = 2) : (if 0 ≤ (E.P t).toInt then E.P t else 0) = M.A 21 t ∧ 0 ≤ (M.A 21 t).toInt ∧ (M.A 21 t).toInt ≤ 3 := by
  rcases hb with ⟨h0, _⟩ | ⟨_, ⟨h1, h2, h3, _⟩ | ⟨h1, h2, h3, _⟩ | ⟨h1, _⟩ | ⟨h1, _⟩ | ⟨h1, _⟩⟩
  · rcases hs with e | e <;> rw [h0] at e <;> exact absurd e (by decide)
  · rw [h3, h2]
    exact ⟨by decide, by decide, by decide⟩
  · obtain ⟨⟨p1, p2⟩, _⟩ := h3
    rw [if_pos p1]
    exact ⟨h2, by rw [← h2]; exact p1, by rw [← h2]; exact p2⟩
  · rcases hs with e | e <;> rw [h1] at e <;> exact absurd e (by decide)
  · rcases hs with e | e <;> rw [h1] at e <;> exact absurd e (by decide)
  · rcases hs with e | e <;> rw [h1] at e <;> exact absurd e (by decide)
theorem r_needs (h : rX a0 M0 ad M E g) (hp : rI_p M) (ht : rI_t M) {u : Nat} (hu : u < 8) (hb : r_bt M E u) (hs : M.A 20 u = 1 ∨ M.A 20 u = 2) {P : Int32} (hP : 0 ≤ P.toInt ∧ P.toInt < (M.I 4).toInt) : ∃ r, fX1_needs g (ad 10 u) (ad 30 P.toNatClampNeg) = some (r, g) ∧ r_bit r ∧ (r = 1 ↔ r_hp M u P (M.A 21 u).toNatClampNeg) := by
  obtain ⟨e1, e2, e3⟩ := r_btP hb hs
  have hn := rn e2
  unfold fX1_needs
  rw [rd_t8 h hu, zbj_v, r_max0, zbj_v, e1, ← r_toN e2]
  obtain ⟨r, q1, q2, q3⟩ := r_needsL h hp ht hu hP (4 - (M.A 21 u).toNatClampNeg) 1000 (M.A 21 u).toNatClampNeg 0 (by omega) (by omega) (Or.inl rfl)
  refine ⟨r, q1, q2, ?_⟩
  rw [r_toN e2]
  exact q3.trans ⟨fun e => e.resolve_left (by decide), Or.inr⟩
theorem r_mayL (h : rX a0 M0 ad M E g) (hp : rI_p M) (ht : rI_t M) (hb : ∀ t, t < 8 → r_bt M E t) {T : Int32} (hT : r_tk T) {P : Int32} (hP : 0 ≤ P.toInt ∧ P.toInt < (M.I 4).toInt) : ∀ (n f y : Nat) (acc : Int32), y + n = T.toNatClampNeg → n < f → r_bit acc → ∃ r, fX0_mayGo_L25 f g (ad 0 0) T (some (ad 30 P.toNatClampNeg)) acc (Int32.ofNat y) = some (r, g) ∧ r_bit r ∧ (r = 1 ↔ acc = 1 ∧ ¬ r_vs M P y T.toNatClampNeg) := by
  have hTn := rn hT.1
  have hT2 := hT.2
  intro n
  induction n with
  | zero =>
    intro f y acc hy hf hbt
    obtain ⟨f', rfl⟩ : ∃ f', f = f' + 1 := ⟨f - 1, by omega⟩
    obtain ⟨e0, en, e1⟩ := r_oN (y := y) (by omega)
    rw [fX0_mayGo_L25, if_pos (by rw [Int32.le_iff_toInt_le, e0]; omega), zgd_pos (r_bz hbt)]
    exact ⟨acc, rfl, hbt, ⟨fun e => ⟨e, fun ⟨u, h1, h2, _⟩ => by omega⟩, fun e => e.1⟩⟩
  | succ n ih =>
    intro f y acc hy hf hbt
    obtain ⟨f', rfl⟩ : ∃ f', f = f' + 1 := ⟨f - 1, by omega⟩
    obtain ⟨e0, en, e1⟩ := r_oN (y := y) (by omega)
    have hy8 : y < 8 := by omega
    have hi : vp_in (Int32.ofNat y) 8 := z32_in (by omega) (by omega)
    have hst := r_vs_step (M := M) (P := P) (y := y) (t := T.toNatClampNeg) (by omega)
    have hb1 : acc &&& 1 = acc := r_bit1 hbt
    have hb0 : acc &&& 0 = 0 := by rcases hbt with rfl | rfl <;> rfl
    -- going on
    have g1 : ¬ r_vi M y P → ∃ r, fX0_mayGo_L25 f' g (ad 0 0) T (some (ad 30 P.toNatClampNeg)) (acc &&& 1) (Int32.ofNat y + 1) = some (r, g) ∧ r_bit r ∧ (r = 1 ↔ acc = 1 ∧ ¬ r_vs M P y T.toNatClampNeg) := by
      intro hv
      rw [hb1, e1]
      obtain ⟨r, q1, q2, q3⟩ := ih f' (y + 1) acc (by omega) (by omega) hbt
      exact ⟨r, q1, q2, q3.trans ⟨fun e => ⟨e.1, fun e' => e.2 ((hst.mp e').resolve_left hv)⟩, fun e => ⟨e.1, fun e' => e.2 (hst.mpr (Or.inr e'))⟩⟩⟩
    have g0 : r_vi M y P → ∃ r, fX0_mayGo_L25 f' g (ad 0 0) T (some (ad 30 P.toNatClampNeg)) (acc &&& 0) (Int32.ofNat y + 1) = some (r, g) ∧ r_bit r ∧ (r = 1 ↔ acc = 1 ∧ ¬ r_vs M P y T.toNatClampNeg) := by
      intro hv
      rw [hb0, e1]
      obtain ⟨r, q1, q2, q3⟩ := ih f' (y + 1) 0 (by omega) (by omega) (Or.inl rfl)
      exact ⟨r, q1, q2, ⟨fun e => absurd (q3.mp e).1 (by decide), fun e => absurd (hst.mpr (Or.inl hv)) e.2⟩⟩
    rw [fX0_mayGo_L25, if_neg (by rw [Int32.le_iff_toInt_le, e0]; omega), rd_x4 h, zbj_v, rd_a3 h hi (by omega), zbj_v, en, rd_t7 h hy8, zbj_v, zjoin_v, zjoin_v, zjoin_v]
    dsimp only
    have hN : (M.A 20 y = 1 ∨ M.A 20 y = 2) → ∃ r, zbj (some (ad 30 P.toNatClampNeg)) (fun a44 => zbj (zob g [1] (ad 10 y)) (fun ob46 => zbd (fX1_needs g (ad 10 y) a44) (fun r48 g49 => if r48 = 0 then fX0_mayGo_L25 f' g49 (ad 0 0) T (some a44) (acc &&& 1) (Int32.ofNat y + 1) else fX0_mayGo_L25 f' g49 (ad 0 0) T (some a44) (acc &&& 0) (Int32.ofNat y + 1)))) = some (r, g) ∧ r_bit r ∧ (r = 1 ↔ acc = 1 ∧ ¬ r_vs M P y T.toNatClampNeg) := by
      intro hs
      obtain ⟨r, q1, q2, q3⟩ := r_needs h hp ht hy8 (hb y hy8) hs hP
      rw [zbj_v, rd_obt h hy8, zbj_v, q1, zbd_v]
      by_cases hr : r = 0
      · rw [if_pos hr]
        exact g1 (fun hv => absurd (hr.symm.trans (q3.mpr hv.2)) (by decide))
      · rw [if_neg hr]
        exact g0 ⟨hs, q3.mp (q2.resolve_left hr)⟩
    by_cases h1 : M.A 20 y = 1
    · rw [if_pos h1]
      exact hN (Or.inl h1)
    · rw [if_neg h1, zbj_v]
      by_cases h2 : M.A 20 y = 2
      · rw [if_pos h2]
        exact hN (Or.inr h2)
      · rw [if_neg h2]
        exact g1 (fun hv => hv.1.elim h1 h2)
theorem r_mayM (hb : ∀ t, t < 8 → r_bt M E t) {T : Int32} (hT : r_tk T) (P : Int32) : ∀ (n f y : Nat), y + n = T.toNatClampNeg → n < f → (r_vs M P y T.toNatClampNeg → fX2_mayPass_L2 f M T P (Int32.ofNat y) = some (0, M)) ∧ (¬ r_vs M P y T.toNatClampNeg → fX2_mayPass_L2 f M T P (Int32.ofNat y) = some (1, M)) := by
  have hTn := rn hT.1
  have hT2 := hT.2
  intro n
  induction n with
  | zero =>
    intro f y hy hf
    obtain ⟨f', rfl⟩ : ∃ f', f = f' + 1 := ⟨f - 1, by omega⟩
    obtain ⟨e0, en, e1⟩ := r_oN (y := y) (by omega)
    refine ⟨fun ⟨u, h1, h2, _⟩ => by omega, fun _ => ?_⟩
    rw [fX2_mayPass_L2, if_pos (by rw [Int32.le_iff_toInt_le, e0]; omega)]
  | succ n ih =>
    intro f y hy hf
    obtain ⟨f', rfl⟩ : ∃ f', f = f' + 1 := ⟨f - 1, by omega⟩
    obtain ⟨e0, en, e1⟩ := r_oN (y := y) (by omega)
    have hy8 : y < 8 := by omega
    have hi : vp_in (Int32.ofNat y) 8 := z32_in (by omega) (by omega)
    have hst := r_vs_step (M := M) (P := P) (y := y) (t := T.toNatClampNeg) (by omega)
    obtain ⟨i1, i2⟩ := ih f' (y + 1) (by omega) (by omega)
    rw [fX2_mayPass_L2, if_neg (by rw [Int32.le_iff_toInt_le, e0]; omega), zgd_pos hi, zjoin_v, zjoin_v, zgd_pos hi]
    dsimp only
    rw [zgd_pos hi, en, e1]
    have go : ¬ r_vi M y P → (r_vs M P y T.toNatClampNeg → fX2_mayPass_L2 f' M T P (Int32.ofNat (y + 1)) = some (0, M)) ∧ (¬ r_vs M P y T.toNatClampNeg → fX2_mayPass_L2 f' M T P (Int32.ofNat (y + 1)) = some (1, M)) := fun hv => ⟨fun e => i1 ((hst.mp e).resolve_left hv), fun e => i2 (fun e' => e (hst.mpr (Or.inr e')))⟩
    have hN : (M.A 20 y = 1 ∨ M.A 20 y = 2) → (r_vs M P y T.toNatClampNeg → zlet (M.A 21 y) (fun a12 => fX2_mayPass_L35 1000 M T P (Int32.ofNat y) a12 (fun (M14 : MS) (x15 : Int32) (x16 : Int32) (x17 : Int32) => fX2_mayPass_L2 f' M14 x15 x16 (x17 + 1))) = some (0, M)) ∧ (¬ r_vs M P y T.toNatClampNeg → zlet (M.A 21 y) (fun a12 => fX2_mayPass_L35 1000 M T P (Int32.ofNat y) a12 (fun (M14 : MS) (x15 : Int32) (x16 : Int32) (x17 : Int32) => fX2_mayPass_L2 f' M14 x15 x16 (x17 + 1))) = some (1, M)) := by
      intro hs
      obtain ⟨_, p2, p3⟩ := r_btP (hb y hy8) hs
      have hn21 := rn p2
      have hU : r_tk (Int32.ofNat y) := ⟨by omega, by omega⟩
      obtain ⟨m1, m2⟩ := r_mp35 M (T := T) (P := P) hU (fun (M14 : MS) (x15 : Int32) (x16 : Int32) (x17 : Int32) => fX2_mayPass_L2 f' M14 x15 x16 (x17 + 1)) (4 - (M.A 21 y).toNatClampNeg) 1000 (M.A 21 y).toNatClampNeg (by omega) (by omega)
      rw [r_toN p2, en] at m1 m2
      rw [zlet_v]
      by_cases hh : r_hp M y P (M.A 21 y).toNatClampNeg
      · rw [m1 hh]
        exact ⟨fun _ => rfl, fun e => absurd (hst.mpr (Or.inl ⟨hs, hh⟩)) e⟩
      · rw [m2 hh, e1]
        exact go (fun hv => hh hv.2)
    by_cases h1 : M.A 20 y = 1
    · rw [if_pos h1]
      exact hN (Or.inl h1)
    · rw [if_neg h1]
      by_cases h2 : M.A 20 y = 2
      · rw [if_pos h2]
        exact hN (Or.inr h2)
      · rw [if_neg h2]
        exact go (fun hv => hv.1.elim h1 h2)
end R27

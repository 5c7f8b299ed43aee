/-! plug -/
set_option maxRecDepth 100000
section R21
variable {a0 : Nat} {M0 : MS} {ad ad' : Nat → Nat → Nat} {M M' : MS} {E E' : RE} {g g' : zS}
/-- a new plug's fields -/
def r_pf (ad : Nat → Nat → Nat) (k : Int32) (a : UInt32) (n : Int32) (sz : Nat) : List Value := if r_echo k then [.int k, .float a, .int n, .int 0, .ref (sz + 1), .int 0] else if k = 7 then [.int k, .float a, .int n, .int 0, .ref (ad 20 n.toNatClampNeg)] else [.int k, .float a, .int n, .int 0]
theorem r_4init {a c : Nat} {fs : List Value} {k n : Int32} {x : UInt32} (h : g.h a = some (.inr (c, fs))) (hc : c ∈ [4, 5, 6, 7, 8, 9, 10, 11]) (hl : 3 ≤ fs.length) : fX4_init g a k x n = some ((), zput g a (.inr (c, ((fs.set 0 (.int k)).set 1 (.float x)).set 2 (.int n)))) := by
  unfold fX4_init
  rw [zpV_of h hc (by omega), zbj_v, zpV_of zput_at hc (by rw [List.length_set]; omega), zbj_v, zput_put, zpV_of zput_at hc (by rw [List.length_set, List.length_set]; omega), zbj_v, zput_put]
/-- what a new plug's making gives -/
def r_np1 (ad : Nat → Nat → Nat) (g : zS) (k : Int32) (a : UInt32) (n : Int32) (r : Option ((Nat ⊕ String) × zS)) : Prop :=
  (∃ g1, r = some (.inl g.sz, g1) ∧ ¬ (r_echo k ∧ n.toInt < 0) ∧ g1.h g.sz = some (.inr (4 + k.toNatClampNeg, r_pf ad k a n g.sz)) ∧ (r_echo k → g1.h (g.sz + 1) = some (.inl (1, za0 1 n.toNatClampNeg)) ∧ g.sz + 2 ≤ g1.sz) ∧ (∀ q, q < g.sz → g1.h q = g.h q) ∧ g.sz + 1 ≤ g1.sz ∧ g.rc ≤ g1.rc + 2 ∧ g.rs ≤ g1.rs + 30) ∨
  (∃ g1, r = some (.inr zNAS, zxg g1) ∧ r_echo k ∧ n.toInt < 0 ∧ (∀ q, q < g.sz → g1.h q = g.h q) ∧ g.sz ≤ g1.sz ∧ g.rc ≤ g1.rc + 1 ∧ g.rs ≤ g1.rs + 6)
theorem r_newPlug (h : rX a0 M0 ad M E g) (hrc : 10 ≤ g.rc) (hrs : 400 ≤ g.rs) {k n : Int32} {a : UInt32} (hk : 0 ≤ k.toInt ∧ k.toInt ≤ 7) (hn : r_echo k → n.toInt ≤ 16) (h7 : k = 7 → 0 ≤ n.toInt ∧ n.toInt < (M.I 0).toInt ∧ (M.I 0).toInt ≤ 16) : r_np1 ad g k a n (fX0_newPlug g (ad 0 0) k a n) := by
  unfold fX0_newPlug
  rcases r_k07 hk with rfl | rfl | rfl | rfl | rfl | rfl | rfl | rfl
  · rw [if_pos rfl, zgd_pos ⟨by omega, by omega⟩, zlet_v]
    have hi : fX5_init (znew g (.inr (4, nwX5)) 4) g.sz 0 a n = some ((), zput (znew g (.inr (4, nwX5)) 4) g.sz (.inr (4, [.int 0, .float a, .int n, .int 0]))) := by
      unfold fX5_init
      rw [r_4init (fs := nwX5) znew_at (by decide) (by decide), zbd_v]
      rfl
    rw [hi, zbd_v]
    refine Or.inl ⟨_, rfl, fun e => absurd e.1 (by decide), zput_at, fun e => absurd e (by decide), fun q hq => ?_, Nat.le_refl _, ?_, ?_⟩
    · rw [zput_ne (by omega), znew_ne (by omega)]
    · show g.rc ≤ g.rc - 1 + 2; omega
    · show g.rs ≤ g.rs - 4 + 30; omega
  · rw [if_neg (by decide), if_pos rfl, zgd_pos ⟨by omega, by omega⟩, zlet_v]
    have hi : fX6_init (znew g (.inr (5, nwX6)) 4) g.sz 1 a n = some ((), zput (znew g (.inr (5, nwX6)) 4) g.sz (.inr (5, [.int 1, .float a, .int n, .int 0]))) := by
      unfold fX6_init fX5_init
      rw [r_4init (fs := nwX6) znew_at (by decide) (by decide), zbd_v, zbd_v]
      rfl
    rw [hi, zbd_v]
    refine Or.inl ⟨_, rfl, fun e => absurd e.1 (by decide), zput_at, fun e => absurd e (by decide), fun q hq => ?_, Nat.le_refl _, ?_, ?_⟩
    · rw [zput_ne (by omega), znew_ne (by omega)]
    · show g.rc ≤ g.rc - 1 + 2; omega
    · show g.rs ≤ g.rs - 4 + 30; omega
  · rw [if_neg (by decide), if_neg (by decide), if_pos rfl, zgd_pos ⟨by omega, by omega⟩, zlet_v]
    have hi : fX7_init (znew g (.inr (6, nwX7)) 4) g.sz 2 a n = some ((), zput (znew g (.inr (6, nwX7)) 4) g.sz (.inr (6, [.int 2, .float a, .int n, .int 0]))) := by
      unfold fX7_init fX6_init fX5_init
      rw [r_4init (fs := nwX7) znew_at (by decide) (by decide), zbd_v, zbd_v, zbd_v]
      rfl
    rw [hi, zbd_v]
    refine Or.inl ⟨_, rfl, fun e => absurd e.1 (by decide), zput_at, fun e => absurd e (by decide), fun q hq => ?_, Nat.le_refl _, ?_, ?_⟩
    · rw [zput_ne (by omega), znew_ne (by omega)]
    · show g.rc ≤ g.rc - 1 + 2; omega
    · show g.rs ≤ g.rs - 4 + 30; omega
  · rw [if_neg (by decide), if_neg (by decide), if_neg (by decide), if_pos rfl, zgd_pos ⟨by omega, by omega⟩, zlet_v]
    have hi : fX8_init (znew g (.inr (7, nwX8)) 4) g.sz 3 a n = some ((), zput (znew g (.inr (7, nwX8)) 4) g.sz (.inr (7, [.int 3, .float a, .int n, .int 0]))) := by
      unfold fX8_init
      rw [r_4init (fs := nwX8) znew_at (by decide) (by decide), zbd_v]
      rfl
    rw [hi, zbd_v]
    refine Or.inl ⟨_, rfl, fun e => absurd e.1 (by decide), zput_at, fun e => absurd e (by decide), fun q hq => ?_, Nat.le_refl _, ?_, ?_⟩
    · rw [zput_ne (by omega), znew_ne (by omega)]
    · show g.rc ≤ g.rc - 1 + 2; omega
    · show g.rs ≤ g.rs - 4 + 30; omega
  · rw [if_neg (by decide), if_neg (by decide), if_neg (by decide), if_neg (by decide), if_pos rfl, zgd_pos ⟨by omega, by omega⟩, zlet_v]
    have e9 : ∀ gg : zS, gg = (znew g (.inr (8, nwX9)) 6) → fX9_init gg g.sz 4 a n = if n < 0 then some (.inr zNAS, zxg (zput gg g.sz (.inr (8, [.int 4, .float a, .int n, .int 0, .null, .int 0])))) else some (.inl (), zput (znew (zput gg g.sz (.inr (8, [.int 4, .float a, .int n, .int 0, .null, .int 0]))) (.inl (1, za0 1 n.toNatClampNeg)) n.toNatClampNeg) g.sz (.inr (8, [.int 4, .float a, .int n, .int 0, .ref (g.sz + 1), .int 0]))) := by
      intro gg hgg
      have hat : gg.h g.sz = some (.inr (8, nwX9)) := by rw [hgg]; exact znew_at
      have hsz : gg.sz = g.sz + 1 := by rw [hgg]
      have hrc' : gg.rc = g.rc - 1 := by rw [hgg]
      have hrs' : gg.rs = g.rs - 6 := by rw [hgg]
      have i4 : fX4_init gg g.sz 4 a n = some ((), zput gg g.sz (.inr (8, [.int 4, .float a, .int n, .int 0, .null, .int 0]))) := r_4init (fs := nwX9) hat (by decide) (by decide)
      unfold fX9_init
      rw [i4, zbd_v]
      by_cases hlt : n < 0
      · rw [if_pos hlt, if_pos hlt, zgd_pos ⟨by show 3 ≤ gg.rc; omega, by show 300 ≤ gg.rs; omega⟩]
      · rw [if_neg hlt, if_neg hlt]
        rw [Int32.lt_iff_toInt_lt, ri_0] at hlt
        have hnn := rn (x := n) (by omega)
        have h16 := hn (Or.inl rfl)
        rw [zgd_pos ⟨by show 1 ≤ gg.rc; omega, by show _ ≤ gg.rs; omega, by omega⟩, zlet_v]
        have hp : zpV (znew (zput gg g.sz (.inr (8, [.int 4, .float a, .int n, .int 0, .null, .int 0]))) (.inl (1, za0 1 n.toNatClampNeg)) n.toNatClampNeg) [8, 9] g.sz 4 (va_rf (some gg.sz)) = some (zput (znew (zput gg g.sz (.inr (8, [.int 4, .float a, .int n, .int 0, .null, .int 0]))) (.inl (1, za0 1 n.toNatClampNeg)) n.toNatClampNeg) g.sz (.inr (8, [.int 4, .float a, .int n, .int 0, .ref (g.sz + 1), .int 0]))) := by
          rw [zpV_of (c := 8) (fs := [.int 4, .float a, .int n, .int 0, .null, .int 0]) (by show va_up _ gg.sz _ g.sz = _; rw [va_up_ne _ _ (show g.sz ≠ gg.sz by omega)]; exact zput_at) (by decide) (Nat.le_of_ble_eq_true rfl), hsz]
          rfl
        exact (congrArg (fun o => zbj o _) hp).trans (zbj_v _ _)
    rw [e9 _ rfl]
    by_cases hlt : n < 0
    · rw [if_pos hlt, zbd_v, zsm_rv]
      rw [Int32.lt_iff_toInt_lt, ri_0] at hlt
      refine Or.inr ⟨_, rfl, Or.inl rfl, hlt, fun q hq => ?_, ?_, ?_, ?_⟩
      · rw [zput_ne (by omega), znew_ne (by omega)]
      · show g.sz ≤ g.sz + 1; omega
      · show g.rc ≤ g.rc - 1 + 1; omega
      · show g.rs ≤ g.rs - 6 + 6; omega
    · rw [if_neg hlt, zbd_v, zsm_lv]
      rw [Int32.lt_iff_toInt_lt, ri_0] at hlt
      have hnn := rn (x := n) (by omega)
      have h16 := hn (Or.inl rfl)
      refine Or.inl ⟨_, rfl, fun e => absurd e.2 hlt, zput_at, fun _ => ⟨?_, ?_⟩, fun q hq => ?_, ?_, ?_, ?_⟩
      · rw [zput_ne (by omega)]
        exact va_up_self _ _ _
      · show g.sz + 2 ≤ g.sz + 1 + 1; omega
      · rw [zput_ne (by omega), znew_ne (show q ≠ g.sz + 1 by omega), zput_ne (by omega), znew_ne (by omega)]
      · show g.sz + 1 ≤ g.sz + 1 + 1; omega
      · show g.rc ≤ g.rc - 1 - 1 + 2; omega
      · show g.rs ≤ g.rs - 6 - n.toNatClampNeg + 30; omega
  · rw [if_neg (by decide), if_neg (by decide), if_neg (by decide), if_neg (by decide), if_neg (by decide), if_pos rfl, zgd_pos ⟨by omega, by omega⟩, zlet_v]
    have e9 : ∀ gg : zS, gg = (znew g (.inr (9, nwX10)) 6) → fX10_init gg g.sz 5 a n = if n < 0 then some (.inr zNAS, zxg (zput gg g.sz (.inr (9, [.int 5, .float a, .int n, .int 0, .null, .int 0])))) else some (.inl (), zput (znew (zput gg g.sz (.inr (9, [.int 5, .float a, .int n, .int 0, .null, .int 0]))) (.inl (1, za0 1 n.toNatClampNeg)) n.toNatClampNeg) g.sz (.inr (9, [.int 5, .float a, .int n, .int 0, .ref (g.sz + 1), .int 0]))) := by
      intro gg hgg
      have hat : gg.h g.sz = some (.inr (9, nwX10)) := by rw [hgg]; exact znew_at
      have hsz : gg.sz = g.sz + 1 := by rw [hgg]
      have hrc' : gg.rc = g.rc - 1 := by rw [hgg]
      have hrs' : gg.rs = g.rs - 6 := by rw [hgg]
      have i4 : fX4_init gg g.sz 5 a n = some ((), zput gg g.sz (.inr (9, [.int 5, .float a, .int n, .int 0, .null, .int 0]))) := r_4init (fs := nwX10) hat (by decide) (by decide)
      have e10 : fX10_init gg g.sz 5 a n = fX9_init gg g.sz 5 a n := by
        unfold fX10_init
        cases fX9_init gg g.sz 5 a n with
        | none => rfl
        | some q =>
          obtain ⟨r, x⟩ := q
          cases r <;> rfl
      rw [e10]
      unfold fX9_init
      rw [i4, zbd_v]
      by_cases hlt : n < 0
      · rw [if_pos hlt, if_pos hlt, zgd_pos ⟨by show 3 ≤ gg.rc; omega, by show 300 ≤ gg.rs; omega⟩]
      · rw [if_neg hlt, if_neg hlt]
        rw [Int32.lt_iff_toInt_lt, ri_0] at hlt
        have hnn := rn (x := n) (by omega)
        have h16 := hn (Or.inr rfl)
        rw [zgd_pos ⟨by show 1 ≤ gg.rc; omega, by show _ ≤ gg.rs; omega, by omega⟩, zlet_v]
        have hp : zpV (znew (zput gg g.sz (.inr (9, [.int 5, .float a, .int n, .int 0, .null, .int 0]))) (.inl (1, za0 1 n.toNatClampNeg)) n.toNatClampNeg) [8, 9] g.sz 4 (va_rf (some gg.sz)) = some (zput (znew (zput gg g.sz (.inr (9, [.int 5, .float a, .int n, .int 0, .null, .int 0]))) (.inl (1, za0 1 n.toNatClampNeg)) n.toNatClampNeg) g.sz (.inr (9, [.int 5, .float a, .int n, .int 0, .ref (g.sz + 1), .int 0]))) := by
          rw [zpV_of (c := 9) (fs := [.int 5, .float a, .int n, .int 0, .null, .int 0]) (by show va_up _ gg.sz _ g.sz = _; rw [va_up_ne _ _ (show g.sz ≠ gg.sz by omega)]; exact zput_at) (by decide) (Nat.le_of_ble_eq_true rfl), hsz]
          rfl
        exact (congrArg (fun o => zbj o _) hp).trans (zbj_v _ _)
    rw [e9 _ rfl]
    by_cases hlt : n < 0
    · rw [if_pos hlt, zbd_v, zsm_rv]
      rw [Int32.lt_iff_toInt_lt, ri_0] at hlt
      refine Or.inr ⟨_, rfl, Or.inr rfl, hlt, fun q hq => ?_, ?_, ?_, ?_⟩
      · rw [zput_ne (by omega), znew_ne (by omega)]
      · show g.sz ≤ g.sz + 1; omega
      · show g.rc ≤ g.rc - 1 + 1; omega
      · show g.rs ≤ g.rs - 6 + 6; omega
    · rw [if_neg hlt, zbd_v, zsm_lv]
      rw [Int32.lt_iff_toInt_lt, ri_0] at hlt
      have hnn := rn (x := n) (by omega)
      have h16 := hn (Or.inr rfl)
      refine Or.inl ⟨_, rfl, fun e => absurd e.2 hlt, zput_at, fun _ => ⟨?_, ?_⟩, fun q hq => ?_, ?_, ?_, ?_⟩
      · rw [zput_ne (by omega)]
        exact va_up_self _ _ _
      · show g.sz + 2 ≤ g.sz + 1 + 1; omega
      · rw [zput_ne (by omega), znew_ne (show q ≠ g.sz + 1 by omega), zput_ne (by omega), znew_ne (by omega)]
      · show g.sz + 1 ≤ g.sz + 1 + 1; omega
      · show g.rc ≤ g.rc - 1 - 1 + 2; omega
      · show g.rs ≤ g.rs - 6 - n.toNatClampNeg + 30; omega
  · rw [if_neg (by decide), if_neg (by decide), if_neg (by decide), if_neg (by decide), if_neg (by decide), if_neg (by decide), if_pos rfl, zgd_pos ⟨by omega, by omega⟩, zlet_v]
    have hi : fX11_init (znew g (.inr (10, nwX11)) 4) g.sz 6 a n = some ((), zput (znew g (.inr (10, nwX11)) 4) g.sz (.inr (10, [.int 6, .float a, .int n, .int 0]))) := by
      unfold fX11_init
      rw [r_4init (fs := nwX11) znew_at (by decide) (by decide), zbd_v]
      rfl
    rw [hi, zbd_v]
    refine Or.inl ⟨_, rfl, fun e => absurd e.1 (by decide), zput_at, fun e => absurd e (by decide), fun q hq => ?_, Nat.le_refl _, ?_, ?_⟩
    · rw [zput_ne (by omega), znew_ne (by omega)]
    · show g.rc ≤ g.rc - 1 + 2; omega
    · show g.rs ≤ g.rs - 4 + 30; omega
  · rw [if_neg (by decide), if_neg (by decide), if_neg (by decide), if_neg (by decide), if_neg (by decide), if_neg (by decide), if_neg (by decide), zgd_pos ⟨by omega, by omega⟩, zlet_v]
    obtain ⟨q1, q2, q3⟩ := h7 rfl
    have hnn := rn q1
    have hc0 := rn (x := M.I 0) (by omega)
    have h' := h.new (.inr (11, nwX12)) 5
    rw [rd_x0 h', zbj_v, rd_a1 h' (z32_in q1 (by omega)) (by show n.toNatClampNeg < (M.I 0).toNatClampNeg; omega), zbj_v]
    have hi : fX12_init (znew g (.inr (11, nwX12)) 5) g.sz 7 a n (ad 20 n.toNatClampNeg) = some ((), zput (znew g (.inr (11, nwX12)) 5) g.sz (.inr (11, [.int 7, .float a, .int n, .int 0, .ref (ad 20 n.toNatClampNeg)]))) := by
      unfold fX12_init
      rw [r_4init (fs := nwX12) znew_at (by decide) (by decide), zbd_v, zpV_of zput_at (by decide) (Nat.le_of_ble_eq_true rfl), zbj_v, zput_put]
      rfl
    rw [hi, zbd_v]
    refine Or.inl ⟨_, rfl, fun e => absurd e.1 (by decide), zput_at, fun e => absurd e (by decide), fun q hq => ?_, Nat.le_refl _, ?_, ?_⟩
    · rw [zput_ne (by omega), znew_ne (by omega)]
    · show g.rc ≤ g.rc - 1 + 2; omega
    · show g.rs ≤ g.rs - 5 + 30; omega
end R21

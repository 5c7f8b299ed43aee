/-! reads and single writes under rX -/
set_option maxRecDepth 100000
theorem r_split : ∀ k : Nat, k = 0 ∨ k = 1 ∨ k = 2 ∨ k = 3 ∨ k = 4 ∨ k = 5 ∨ k = 6 ∨ k = 7 ∨ k = 8 ∨ k = 10 ∨ k = 11 ∨ k = 12 ∨ k = 13 ∨ k = 14 ∨ k = 15 ∨ k = 20 ∨ k = 21 ∨ k = 30 ∨ k = 31 ∨ ∀ (ad : Nat → Nat → Nat) (M : MS) (E : RE), r_c ad M E k = fun _ => none
  | 0 => Or.inl rfl
  | 1 => Or.inr (Or.inl rfl)
  | 2 => Or.inr (Or.inr (Or.inl rfl))
  | 3 => Or.inr (Or.inr (Or.inr (Or.inl rfl)))
  | 4 => Or.inr (Or.inr (Or.inr (Or.inr (Or.inl rfl))))
  | 5 => Or.inr (Or.inr (Or.inr (Or.inr (Or.inr (Or.inl rfl)))))
  | 6 => Or.inr (Or.inr (Or.inr (Or.inr (Or.inr (Or.inr (Or.inl rfl))))))
  | 7 => Or.inr (Or.inr (Or.inr (Or.inr (Or.inr (Or.inr (Or.inr (Or.inl rfl)))))))
  | 8 => Or.inr (Or.inr (Or.inr (Or.inr (Or.inr (Or.inr (Or.inr (Or.inr (Or.inl rfl))))))))
  | 9 => Or.inr (Or.inr (Or.inr (Or.inr (Or.inr (Or.inr (Or.inr (Or.inr (Or.inr (Or.inr (Or.inr (Or.inr (Or.inr (Or.inr (Or.inr (Or.inr (Or.inr (Or.inr (Or.inr (fun _ _ _ => rfl)))))))))))))))))))
  | 10 => Or.inr (Or.inr (Or.inr (Or.inr (Or.inr (Or.inr (Or.inr (Or.inr (Or.inr (Or.inl rfl)))))))))
  | 11 => Or.inr (Or.inr (Or.inr (Or.inr (Or.inr (Or.inr (Or.inr (Or.inr (Or.inr (Or.inr (Or.inl rfl))))))))))
  | 12 => Or.inr (Or.inr (Or.inr (Or.inr (Or.inr (Or.inr (Or.inr (Or.inr (Or.inr (Or.inr (Or.inr (Or.inl rfl)))))))))))
  | 13 => Or.inr (Or.inr (Or.inr (Or.inr (Or.inr (Or.inr (Or.inr (Or.inr (Or.inr (Or.inr (Or.inr (Or.inr (Or.inl rfl))))))))))))
  | 14 => Or.inr (Or.inr (Or.inr (Or.inr (Or.inr (Or.inr (Or.inr (Or.inr (Or.inr (Or.inr (Or.inr (Or.inr (Or.inr (Or.inl rfl)))))))))))))
  | 15 => Or.inr (Or.inr (Or.inr (Or.inr (Or.inr (Or.inr (Or.inr (Or.inr (Or.inr (Or.inr (Or.inr (Or.inr (Or.inr (Or.inr (Or.inl rfl))))))))))))))
  | 16 => Or.inr (Or.inr (Or.inr (Or.inr (Or.inr (Or.inr (Or.inr (Or.inr (Or.inr (Or.inr (Or.inr (Or.inr (Or.inr (Or.inr (Or.inr (Or.inr (Or.inr (Or.inr (Or.inr (fun _ _ _ => rfl)))))))))))))))))))
  | 17 => Or.inr (Or.inr (Or.inr (Or.inr (Or.inr (Or.inr (Or.inr (Or.inr (Or.inr (Or.inr (Or.inr (Or.inr (Or.inr (Or.inr (Or.inr (Or.inr (Or.inr (Or.inr (Or.inr (fun _ _ _ => rfl)))))))))))))))))))
  | 18 => Or.inr (Or.inr (Or.inr (Or.inr (Or.inr (Or.inr (Or.inr (Or.inr (Or.inr (Or.inr (Or.inr (Or.inr (Or.inr (Or.inr (Or.inr (Or.inr (Or.inr (Or.inr (Or.inr (fun _ _ _ => rfl)))))))))))))))))))
  | 19 => Or.inr (Or.inr (Or.inr (Or.inr (Or.inr (Or.inr (Or.inr (Or.inr (Or.inr (Or.inr (Or.inr (Or.inr (Or.inr (Or.inr (Or.inr (Or.inr (Or.inr (Or.inr (Or.inr (fun _ _ _ => rfl)))))))))))))))))))
  | 20 => Or.inr (Or.inr (Or.inr (Or.inr (Or.inr (Or.inr (Or.inr (Or.inr (Or.inr (Or.inr (Or.inr (Or.inr (Or.inr (Or.inr (Or.inr (Or.inl rfl)))))))))))))))
  | 21 => Or.inr (Or.inr (Or.inr (Or.inr (Or.inr (Or.inr (Or.inr (Or.inr (Or.inr (Or.inr (Or.inr (Or.inr (Or.inr (Or.inr (Or.inr (Or.inr (Or.inl rfl))))))))))))))))
  | 22 => Or.inr (Or.inr (Or.inr (Or.inr (Or.inr (Or.inr (Or.inr (Or.inr (Or.inr (Or.inr (Or.inr (Or.inr (Or.inr (Or.inr (Or.inr (Or.inr (Or.inr (Or.inr (Or.inr (fun _ _ _ => rfl)))))))))))))))))))
  | 23 => Or.inr (Or.inr (Or.inr (Or.inr (Or.inr (Or.inr (Or.inr (Or.inr (Or.inr (Or.inr (Or.inr (Or.inr (Or.inr (Or.inr (Or.inr (Or.inr (Or.inr (Or.inr (Or.inr (fun _ _ _ => rfl)))))))))))))))))))
  | 24 => Or.inr (Or.inr (Or.inr (Or.inr (Or.inr (Or.inr (Or.inr (Or.inr (Or.inr (Or.inr (Or.inr (Or.inr (Or.inr (Or.inr (Or.inr (Or.inr (Or.inr (Or.inr (Or.inr (fun _ _ _ => rfl)))))))))))))))))))
  | 25 => Or.inr (Or.inr (Or.inr (Or.inr (Or.inr (Or.inr (Or.inr (Or.inr (Or.inr (Or.inr (Or.inr (Or.inr (Or.inr (Or.inr (Or.inr (Or.inr (Or.inr (Or.inr (Or.inr (fun _ _ _ => rfl)))))))))))))))))))
  | 26 => Or.inr (Or.inr (Or.inr (Or.inr (Or.inr (Or.inr (Or.inr (Or.inr (Or.inr (Or.inr (Or.inr (Or.inr (Or.inr (Or.inr (Or.inr (Or.inr (Or.inr (Or.inr (Or.inr (fun _ _ _ => rfl)))))))))))))))))))
  | 27 => Or.inr (Or.inr (Or.inr (Or.inr (Or.inr (Or.inr (Or.inr (Or.inr (Or.inr (Or.inr (Or.inr (Or.inr (Or.inr (Or.inr (Or.inr (Or.inr (Or.inr (Or.inr (Or.inr (fun _ _ _ => rfl)))))))))))))))))))
  | 28 => Or.inr (Or.inr (Or.inr (Or.inr (Or.inr (Or.inr (Or.inr (Or.inr (Or.inr (Or.inr (Or.inr (Or.inr (Or.inr (Or.inr (Or.inr (Or.inr (Or.inr (Or.inr (Or.inr (fun _ _ _ => rfl)))))))))))))))))))
  | 29 => Or.inr (Or.inr (Or.inr (Or.inr (Or.inr (Or.inr (Or.inr (Or.inr (Or.inr (Or.inr (Or.inr (Or.inr (Or.inr (Or.inr (Or.inr (Or.inr (Or.inr (Or.inr (Or.inr (fun _ _ _ => rfl)))))))))))))))))))
  | 30 => Or.inr (Or.inr (Or.inr (Or.inr (Or.inr (Or.inr (Or.inr (Or.inr (Or.inr (Or.inr (Or.inr (Or.inr (Or.inr (Or.inr (Or.inr (Or.inr (Or.inr (Or.inl rfl)))))))))))))))))
  | 31 => Or.inr (Or.inr (Or.inr (Or.inr (Or.inr (Or.inr (Or.inr (Or.inr (Or.inr (Or.inr (Or.inr (Or.inr (Or.inr (Or.inr (Or.inr (Or.inr (Or.inr (Or.inr (Or.inl rfl))))))))))))))))))
  | n + 32 => Or.inr (Or.inr (Or.inr (Or.inr (Or.inr (Or.inr (Or.inr (Or.inr (Or.inr (Or.inr (Or.inr (Or.inr (Or.inr (Or.inr (Or.inr (Or.inr (Or.inr (Or.inr (Or.inr (fun _ _ _ => rfl)))))))))))))))))))
section RR
variable {a0 : Nat} {M0 : MS} {ad : Nat → Nat → Nat} {M : MS} {E : RE} {g : zS}
theorem rd_x1 (h : rX a0 M0 ad M E g) : zgI g [0] (ad 0 0) 1 = some (M.I 0) := zgI_of (h.at (k := 0) (i := 0) rfl) (by decide) rfl
theorem rd_x3 (h : rX a0 M0 ad M E g) : zgI g [0] (ad 0 0) 3 = some (M.I 4) := zgI_of (h.at (k := 0) (i := 0) rfl) (by decide) rfl
theorem rd_x6 (h : rX a0 M0 ad M E g) : zgI g [0] (ad 0 0) 6 = some (M.I 26) := zgI_of (h.at (k := 0) (i := 0) rfl) (by decide) rfl
theorem rd_x7 (h : rX a0 M0 ad M E g) : zgI g [0] (ad 0 0) 7 = some (E.I 7) := zgI_of (h.at (k := 0) (i := 0) rfl) (by decide) rfl
theorem rd_x8 (h : rX a0 M0 ad M E g) : zgI g [0] (ad 0 0) 8 = some (M.I 29) := zgI_of (h.at (k := 0) (i := 0) rfl) (by decide) rfl
theorem rd_x9 (h : rX a0 M0 ad M E g) : zgI g [0] (ad 0 0) 9 = some (E.I 9) := zgI_of (h.at (k := 0) (i := 0) rfl) (by decide) rfl
theorem rd_x10 (h : rX a0 M0 ad M E g) : zgI g [0] (ad 0 0) 10 = some (M.I 31) := zgI_of (h.at (k := 0) (i := 0) rfl) (by decide) rfl
theorem rd_x12 (h : rX a0 M0 ad M E g) : zgI g [0] (ad 0 0) 12 = some (M.I 46) := zgI_of (h.at (k := 0) (i := 0) rfl) (by decide) rfl
theorem rd_x13 (h : rX a0 M0 ad M E g) : zgI g [0] (ad 0 0) 13 = some (M.I 47) := zgI_of (h.at (k := 0) (i := 0) rfl) (by decide) rfl
theorem rd_x16 (h : rX a0 M0 ad M E g) : zgI g [0] (ad 0 0) 16 = some (M.I 33) := zgI_of (h.at (k := 0) (i := 0) rfl) (by decide) rfl
theorem rd_x18 (h : rX a0 M0 ad M E g) : zgI g [0] (ad 0 0) 18 = some (M.I 39) := zgI_of (h.at (k := 0) (i := 0) rfl) (by decide) rfl
theorem rd_x19 (h : rX a0 M0 ad M E g) : zgI g [0] (ad 0 0) 19 = some (M.I 45) := zgI_of (h.at (k := 0) (i := 0) rfl) (by decide) rfl
theorem rd_x0 (h : rX a0 M0 ad M E g) : zgN g [0] (ad 0 0) 0 = some (ad 1 0) := zgN_of (h.at (k := 0) (i := 0) rfl) (by decide) rfl
theorem rd_x2 (h : rX a0 M0 ad M E g) : zgN g [0] (ad 0 0) 2 = some (ad 2 0) := zgN_of (h.at (k := 0) (i := 0) rfl) (by decide) rfl
theorem rd_x4 (h : rX a0 M0 ad M E g) : zgN g [0] (ad 0 0) 4 = some (ad 3 0) := zgN_of (h.at (k := 0) (i := 0) rfl) (by decide) rfl
theorem rd_x5 (h : rX a0 M0 ad M E g) : zgN g [0] (ad 0 0) 5 = some (ad 4 0) := zgN_of (h.at (k := 0) (i := 0) rfl) (by decide) rfl
theorem rd_x11 (h : rX a0 M0 ad M E g) : zgN g [0] (ad 0 0) 11 = some (ad 5 0) := zgN_of (h.at (k := 0) (i := 0) rfl) (by decide) rfl
theorem rd_x14 (h : rX a0 M0 ad M E g) : zgN g [0] (ad 0 0) 14 = some (ad 6 0) := zgN_of (h.at (k := 0) (i := 0) rfl) (by decide) rfl
theorem rd_x15 (h : rX a0 M0 ad M E g) : zgN g [0] (ad 0 0) 15 = some (ad 7 0) := zgN_of (h.at (k := 0) (i := 0) rfl) (by decide) rfl
theorem rd_x17 (h : rX a0 M0 ad M E g) : zgN g [0] (ad 0 0) 17 = some (ad 8 0) := zgN_of (h.at (k := 0) (i := 0) rfl) (by decide) rfl
theorem rd_ob (h : rX a0 M0 ad M E g) : zob g [0] (ad 0 0) = some (0, r_x ad M E) := zob_of (h.at (k := 0) (i := 0) rfl) (by decide)
variable {t : Nat}
theorem rd_t0 (h : rX a0 M0 ad M E g) (ht : t < 8) : zgI g [1] (ad 10 t) 0 = some (M.A 13 t) := zgI_of (h.at (k := 10) (i := t) (if_pos ht)) (by decide) rfl
theorem rd_t1 (h : rX a0 M0 ad M E g) (ht : t < 8) : zgI g [1] (ad 10 t) 1 = some (M.A 14 t) := zgI_of (h.at (k := 10) (i := t) (if_pos ht)) (by decide) rfl
theorem rd_t2 (h : rX a0 M0 ad M E g) (ht : t < 8) : zgI g [1] (ad 10 t) 2 = some (M.A 15 t) := zgI_of (h.at (k := 10) (i := t) (if_pos ht)) (by decide) rfl
theorem rd_t3 (h : rX a0 M0 ad M E g) (ht : t < 8) : zgI g [1] (ad 10 t) 3 = some (M.A 16 t) := zgI_of (h.at (k := 10) (i := t) (if_pos ht)) (by decide) rfl
theorem rd_t5 (h : rX a0 M0 ad M E g) (ht : t < 8) : zgI g [1] (ad 10 t) 5 = some (M.A 18 t) := zgI_of (h.at (k := 10) (i := t) (if_pos ht)) (by decide) rfl
theorem rd_t7 (h : rX a0 M0 ad M E g) (ht : t < 8) : zgI g [1] (ad 10 t) 7 = some (M.A 20 t) := zgI_of (h.at (k := 10) (i := t) (if_pos ht)) (by decide) rfl
theorem rd_t8 (h : rX a0 M0 ad M E g) (ht : t < 8) : zgI g [1] (ad 10 t) 8 = some (E.P t) := zgI_of (h.at (k := 10) (i := t) (if_pos ht)) (by decide) rfl
theorem rd_t11 (h : rX a0 M0 ad M E g) (ht : t < 8) : zgI g [1] (ad 10 t) 11 = some (M.A 22 t) := zgI_of (h.at (k := 10) (i := t) (if_pos ht)) (by decide) rfl
theorem rd_t6 (h : rX a0 M0 ad M E g) (ht : t < 8) : zgN g [1] (ad 10 t) 6 = some (ad 11 t) := zgN_of (h.at (k := 10) (i := t) (if_pos ht)) (by decide) rfl
theorem rd_t9 (h : rX a0 M0 ad M E g) (ht : t < 8) : zgN g [1] (ad 10 t) 9 = some (ad (E.R 9 t) t) := zgN_of (h.at (k := 10) (i := t) (if_pos ht)) (by decide) rfl
theorem rd_t10 (h : rX a0 M0 ad M E g) (ht : t < 8) : zgN g [1] (ad 10 t) 10 = some (ad (E.R 10 t) t) := zgN_of (h.at (k := 10) (i := t) (if_pos ht)) (by decide) rfl
theorem rd_t12 (h : rX a0 M0 ad M E g) (ht : t < 8) : zgN g [1] (ad 10 t) 12 = some (ad 14 t) := zgN_of (h.at (k := 10) (i := t) (if_pos ht)) (by decide) rfl
theorem rd_t13 (h : rX a0 M0 ad M E g) (ht : t < 8) : zgN g [1] (ad 10 t) 13 = some (ad 15 t) := zgN_of (h.at (k := 10) (i := t) (if_pos ht)) (by decide) rfl
theorem rd_t4 (h : rX a0 M0 ad M E g) (ht : t < 8) : zgF g [1] (ad 10 t) 4 = some (M.F 17 t) := zgF_of (h.at (k := 10) (i := t) (if_pos ht)) (by decide) rfl
theorem rd_obt (h : rX a0 M0 ad M E g) (ht : t < 8) : zob g [1] (ad 10 t) = some (1, r_t ad M E t) := zob_of (h.at (k := 10) (i := t) (if_pos ht)) (by decide)
variable {i : Int32}
theorem rd_a4 (h : rX a0 M0 ad M E g) (hi : vp_in i 4) : zaI g 0 (ad 4 0) i = some (M.A 27 i.toNatClampNeg) := zaI_of (h.at (k := 4) (i := 0) rfl) hi
theorem rd_a6 (h : rX a0 M0 ad M E g) (hi : vp_in i 7) : zaI g 0 (ad 6 0) i = some (M.A 48 i.toNatClampNeg) := zaI_of (h.at (k := 6) (i := 0) rfl) hi
theorem rd_a7 (h : rX a0 M0 ad M E g) (hi : vp_in i 500) : zaI g 0 (ad 7 0) i = some (E.Q 7 i.toNatClampNeg) := zaI_of (h.at (k := 7) (i := 0) rfl) hi
theorem rd_a8 (h : rX a0 M0 ad M E g) (hi : vp_in i 150) : zaI g 0 (ad 8 0) i = some (E.Q 8 i.toNatClampNeg) := zaI_of (h.at (k := 8) (i := 0) rfl) hi
theorem rd_a5 (h : rX a0 M0 ad M E g) (hi : vp_in i 512) : zaF g 1 (ad 5 0) i = some (M.F 32 i.toNatClampNeg) := zaF_of (h.at (k := 5) (i := 0) rfl) hi
theorem rd_a3 (h : rX a0 M0 ad M E g) (hi : vp_in i 8) (hn : i.toNatClampNeg < 8) : zaN g 9 (ad 3 0) i = some (ad 10 i.toNatClampNeg) := zaN_of (h.at (k := 3) (i := 0) rfl) hi (if_pos hn)
theorem rd_a1 (h : rX a0 M0 ad M E g) (hi : vp_in i 16) (hn : i.toNatClampNeg < r_nc M) : zaN g 7 (ad 1 0) i = some (ad 20 i.toNatClampNeg) := zaN_of (h.at (k := 1) (i := 0) rfl) hi (if_pos hn)
theorem rd_a2 (h : rX a0 M0 ad M E g) (hi : vp_in i 12) (hn : i.toNatClampNeg < r_np M) : zaN g 8 (ad 2 0) i = some (ad 30 i.toNatClampNeg) := zaN_of (h.at (k := 2) (i := 0) rfl) hi (if_pos hn)
theorem rd_a11 (h : rX a0 M0 ad M E g) (ht : t < 8) (hi : vp_in i 4) : zaC g (ad 11 t) i = some (r_opt ad (M.A 19 (4 * t + i.toNatClampNeg))) := by
  have hlt : i.toNatClampNeg < 4 := by unfold vp_in at hi; omega
  have e := zaC_of (i := i) (by by_cases hz : M.A 18 t = 0 <;> simp [hz]) (h.at (k := 11) (i := t) (if_pos ht)) hi
  rw [e]
  exact congrArg some (if_pos hlt)
theorem rd_a14 (h : rX a0 M0 ad M E g) (ht : t < 8) (hi : vp_in i 2) : zaI g 0 (ad 14 t) i = some (M.A 23 (2 * t + i.toNatClampNeg)) := by
  have hlt : i.toNatClampNeg < 2 := by unfold vp_in at hi; omega
  have e := zaI_of (i := i) (h.at (k := 14) (i := t) (if_pos ht)) hi
  rw [e]
  exact congrArg some (if_pos hlt)
theorem rd_a15 (h : rX a0 M0 ad M E g) (ht : t < 8) (hi : vp_in i 2) : zaI g 0 (ad 15 t) i = some (M.A 24 (2 * t + i.toNatClampNeg)) := by
  have hlt : i.toNatClampNeg < 2 := by unfold vp_in at hi; omega
  have e := zaI_of (i := i) (h.at (k := 15) (i := t) (if_pos ht)) hi
  rw [e]
  exact congrArg some (if_pos hlt)
theorem rd_a12 (h : rX a0 M0 ad M E g) (ht : t < 8) (hi : vp_in i 8) : zaF g 1 (ad 12 t) i = some (E.F 12 t i.toNatClampNeg) := zaF_of (h.at (k := 12) (i := t) (if_pos ht)) hi
theorem rd_a13 (h : rX a0 M0 ad M E g) (ht : t < 8) (hi : vp_in i 8) : zaF g 1 (ad 13 t) i = some (E.F 13 t i.toNatClampNeg) := zaF_of (h.at (k := 13) (i := t) (if_pos ht)) hi
variable {c : Nat}
theorem rd_c0 (h : rX a0 M0 ad M E g) (hc : c < r_nc M) : zgI g [3] (ad 20 c) 0 = some (M.A 1 c) := zgI_of (h.at (k := 20) (i := c) (if_pos hc)) (by decide) rfl
theorem rd_c1 (h : rX a0 M0 ad M E g) (hc : c < r_nc M) : zgI g [3] (ad 20 c) 1 = some (M.A 2 c) := zgI_of (h.at (k := 20) (i := c) (if_pos hc)) (by decide) rfl
theorem rd_c2 (h : rX a0 M0 ad M E g) (hc : c < r_nc M) : zgN g [3] (ad 20 c) 2 = some (ad 21 c) := zgN_of (h.at (k := 20) (i := c) (if_pos hc)) (by decide) rfl
theorem rd_obc (h : rX a0 M0 ad M E g) (hc : c < r_nc M) : zob g [3] (ad 20 c) = some (3, [.int (M.A 1 c), .int (M.A 2 c), .ref (ad 21 c)]) := zob_of (h.at (k := 20) (i := c) (if_pos hc)) (by decide)
theorem wr_x6 (h : rX a0 M0 ad M E g) (v : Int32) : ∃ g', zpV g [0] (ad 0 0) 6 (.int v) = some g' ∧ rX a0 M0 ad (mI M 26 v) E g' ∧ g'.2 = g.2 := ⟨_, zpV_of (h.at (k := 0) (i := 0) rfl) (by decide) (Nat.le_of_ble_eq_true rfl), h.put (k := 0) (i := 0) rfl rfl (fun k' hk' => by rcases r_split k' with rfl | rfl | rfl | rfl | rfl | rfl | rfl | rfl | rfl | rfl | rfl | rfl | rfl | rfl | rfl | rfl | rfl | rfl | rfl | hr <;> first | rfl | exact absurd rfl hk' | (rw [hr, hr])) (fun i' hi' => by show (if i' = 0 then _ else _) = (if i' = 0 then _ else _); rw [if_neg hi', if_neg hi']), rfl⟩
theorem wr_x7 (h : rX a0 M0 ad M E g) (v : Int32) : ∃ g', zpV g [0] (ad 0 0) 7 (.int v) = some g' ∧ rX a0 M0 ad M (eI E 7 v) g' ∧ g'.2 = g.2 := ⟨_, zpV_of (h.at (k := 0) (i := 0) rfl) (by decide) (Nat.le_of_ble_eq_true rfl), h.put (k := 0) (i := 0) rfl rfl (fun k' hk' => by rcases r_split k' with rfl | rfl | rfl | rfl | rfl | rfl | rfl | rfl | rfl | rfl | rfl | rfl | rfl | rfl | rfl | rfl | rfl | rfl | rfl | hr <;> first | rfl | exact absurd rfl hk' | (rw [hr, hr])) (fun i' hi' => by show (if i' = 0 then _ else _) = (if i' = 0 then _ else _); rw [if_neg hi', if_neg hi']), rfl⟩
theorem wr_x8 (h : rX a0 M0 ad M E g) (v : Int32) : ∃ g', zpV g [0] (ad 0 0) 8 (.int v) = some g' ∧ rX a0 M0 ad (mI M 29 v) E g' ∧ g'.2 = g.2 := ⟨_, zpV_of (h.at (k := 0) (i := 0) rfl) (by decide) (Nat.le_of_ble_eq_true rfl), h.put (k := 0) (i := 0) rfl rfl (fun k' hk' => by rcases r_split k' with rfl | rfl | rfl | rfl | rfl | rfl | rfl | rfl | rfl | rfl | rfl | rfl | rfl | rfl | rfl | rfl | rfl | rfl | rfl | hr <;> first | rfl | exact absurd rfl hk' | (rw [hr, hr])) (fun i' hi' => by show (if i' = 0 then _ else _) = (if i' = 0 then _ else _); rw [if_neg hi', if_neg hi']), rfl⟩
theorem wr_x9 (h : rX a0 M0 ad M E g) (v : Int32) : ∃ g', zpV g [0] (ad 0 0) 9 (.int v) = some g' ∧ rX a0 M0 ad M (eI E 9 v) g' ∧ g'.2 = g.2 := ⟨_, zpV_of (h.at (k := 0) (i := 0) rfl) (by decide) (Nat.le_of_ble_eq_true rfl), h.put (k := 0) (i := 0) rfl rfl (fun k' hk' => by rcases r_split k' with rfl | rfl | rfl | rfl | rfl | rfl | rfl | rfl | rfl | rfl | rfl | rfl | rfl | rfl | rfl | rfl | rfl | rfl | rfl | hr <;> first | rfl | exact absurd rfl hk' | (rw [hr, hr])) (fun i' hi' => by show (if i' = 0 then _ else _) = (if i' = 0 then _ else _); rw [if_neg hi', if_neg hi']), rfl⟩
theorem wr_x10 (h : rX a0 M0 ad M E g) (v : Int32) : ∃ g', zpV g [0] (ad 0 0) 10 (.int v) = some g' ∧ rX a0 M0 ad (mI M 31 v) E g' ∧ g'.2 = g.2 := ⟨_, zpV_of (h.at (k := 0) (i := 0) rfl) (by decide) (Nat.le_of_ble_eq_true rfl), h.put (k := 0) (i := 0) rfl rfl (fun k' hk' => by rcases r_split k' with rfl | rfl | rfl | rfl | rfl | rfl | rfl | rfl | rfl | rfl | rfl | rfl | rfl | rfl | rfl | rfl | rfl | rfl | rfl | hr <;> first | rfl | exact absurd rfl hk' | (rw [hr, hr])) (fun i' hi' => by show (if i' = 0 then _ else _) = (if i' = 0 then _ else _); rw [if_neg hi', if_neg hi']), rfl⟩
theorem wr_x12 (h : rX a0 M0 ad M E g) (v : Int32) : ∃ g', zpV g [0] (ad 0 0) 12 (.int v) = some g' ∧ rX a0 M0 ad (mI M 46 v) E g' ∧ g'.2 = g.2 := ⟨_, zpV_of (h.at (k := 0) (i := 0) rfl) (by decide) (Nat.le_of_ble_eq_true rfl), h.put (k := 0) (i := 0) rfl rfl (fun k' hk' => by rcases r_split k' with rfl | rfl | rfl | rfl | rfl | rfl | rfl | rfl | rfl | rfl | rfl | rfl | rfl | rfl | rfl | rfl | rfl | rfl | rfl | hr <;> first | rfl | exact absurd rfl hk' | (rw [hr, hr])) (fun i' hi' => by show (if i' = 0 then _ else _) = (if i' = 0 then _ else _); rw [if_neg hi', if_neg hi']), rfl⟩
theorem wr_x13 (h : rX a0 M0 ad M E g) (v : Int32) : ∃ g', zpV g [0] (ad 0 0) 13 (.int v) = some g' ∧ rX a0 M0 ad (mI M 47 v) E g' ∧ g'.2 = g.2 := ⟨_, zpV_of (h.at (k := 0) (i := 0) rfl) (by decide) (Nat.le_of_ble_eq_true rfl), h.put (k := 0) (i := 0) rfl rfl (fun k' hk' => by rcases r_split k' with rfl | rfl | rfl | rfl | rfl | rfl | rfl | rfl | rfl | rfl | rfl | rfl | rfl | rfl | rfl | rfl | rfl | rfl | rfl | hr <;> first | rfl | exact absurd rfl hk' | (rw [hr, hr])) (fun i' hi' => by show (if i' = 0 then _ else _) = (if i' = 0 then _ else _); rw [if_neg hi', if_neg hi']), rfl⟩
theorem wr_x16 (h : rX a0 M0 ad M E g) (v : Int32) : ∃ g', zpV g [0] (ad 0 0) 16 (.int v) = some g' ∧ rX a0 M0 ad (mI M 33 v) E g' ∧ g'.2 = g.2 := ⟨_, zpV_of (h.at (k := 0) (i := 0) rfl) (by decide) (Nat.le_of_ble_eq_true rfl), h.put (k := 0) (i := 0) rfl rfl (fun k' hk' => by rcases r_split k' with rfl | rfl | rfl | rfl | rfl | rfl | rfl | rfl | rfl | rfl | rfl | rfl | rfl | rfl | rfl | rfl | rfl | rfl | rfl | hr <;> first | rfl | exact absurd rfl hk' | (rw [hr, hr])) (fun i' hi' => by show (if i' = 0 then _ else _) = (if i' = 0 then _ else _); rw [if_neg hi', if_neg hi']), rfl⟩
theorem wr_x18 (h : rX a0 M0 ad M E g) (v : Int32) : ∃ g', zpV g [0] (ad 0 0) 18 (.int v) = some g' ∧ rX a0 M0 ad (mI M 39 v) E g' ∧ g'.2 = g.2 := ⟨_, zpV_of (h.at (k := 0) (i := 0) rfl) (by decide) (Nat.le_of_ble_eq_true rfl), h.put (k := 0) (i := 0) rfl rfl (fun k' hk' => by rcases r_split k' with rfl | rfl | rfl | rfl | rfl | rfl | rfl | rfl | rfl | rfl | rfl | rfl | rfl | rfl | rfl | rfl | rfl | rfl | rfl | hr <;> first | rfl | exact absurd rfl hk' | (rw [hr, hr])) (fun i' hi' => by show (if i' = 0 then _ else _) = (if i' = 0 then _ else _); rw [if_neg hi', if_neg hi']), rfl⟩
theorem wr_x19 (h : rX a0 M0 ad M E g) (v : Int32) : ∃ g', zpV g [0] (ad 0 0) 19 (.int v) = some g' ∧ rX a0 M0 ad (mI M 45 v) E g' ∧ g'.2 = g.2 := ⟨_, zpV_of (h.at (k := 0) (i := 0) rfl) (by decide) (Nat.le_of_ble_eq_true rfl), h.put (k := 0) (i := 0) rfl rfl (fun k' hk' => by rcases r_split k' with rfl | rfl | rfl | rfl | rfl | rfl | rfl | rfl | rfl | rfl | rfl | rfl | rfl | rfl | rfl | rfl | rfl | rfl | rfl | hr <;> first | rfl | exact absurd rfl hk' | (rw [hr, hr])) (fun i' hi' => by show (if i' = 0 then _ else _) = (if i' = 0 then _ else _); rw [if_neg hi', if_neg hi']), rfl⟩
theorem wr_a4 (h : rX a0 M0 ad M E g) (v : Int32) (hi : vp_in i 4) : ∃ g', zsI g 0 (ad 4 0) i v = some g' ∧ rX a0 M0 ad (mA M 27 i.toNatClampNeg v) E g' ∧ g'.2 = g.2 := ⟨_, zsI_of (h.at (k := 4) (i := 0) rfl) hi, h.put (k := 4) (i := 0) rfl rfl (fun k' hk' => by rcases r_split k' with rfl | rfl | rfl | rfl | rfl | rfl | rfl | rfl | rfl | rfl | rfl | rfl | rfl | rfl | rfl | rfl | rfl | rfl | rfl | hr <;> first | rfl | exact absurd rfl hk' | (rw [hr, hr])) (fun i' hi' => by show (if i' = 0 then _ else _) = (if i' = 0 then _ else _); rw [if_neg hi', if_neg hi']), rfl⟩
theorem wr_a6 (h : rX a0 M0 ad M E g) (v : Int32) (hi : vp_in i 7) : ∃ g', zsI g 0 (ad 6 0) i v = some g' ∧ rX a0 M0 ad (mA M 48 i.toNatClampNeg v) E g' ∧ g'.2 = g.2 := ⟨_, zsI_of (h.at (k := 6) (i := 0) rfl) hi, h.put (k := 6) (i := 0) rfl rfl (fun k' hk' => by rcases r_split k' with rfl | rfl | rfl | rfl | rfl | rfl | rfl | rfl | rfl | rfl | rfl | rfl | rfl | rfl | rfl | rfl | rfl | rfl | rfl | hr <;> first | rfl | exact absurd rfl hk' | (rw [hr, hr])) (fun i' hi' => by show (if i' = 0 then _ else _) = (if i' = 0 then _ else _); rw [if_neg hi', if_neg hi']), rfl⟩
theorem wr_a7 (h : rX a0 M0 ad M E g) (v : Int32) (hi : vp_in i 500) : ∃ g', zsI g 0 (ad 7 0) i v = some g' ∧ rX a0 M0 ad M (eQ E 7 i.toNatClampNeg v) g' ∧ g'.2 = g.2 := ⟨_, zsI_of (h.at (k := 7) (i := 0) rfl) hi, h.put (k := 7) (i := 0) rfl rfl (fun k' hk' => by rcases r_split k' with rfl | rfl | rfl | rfl | rfl | rfl | rfl | rfl | rfl | rfl | rfl | rfl | rfl | rfl | rfl | rfl | rfl | rfl | rfl | hr <;> first | rfl | exact absurd rfl hk' | (rw [hr, hr])) (fun i' hi' => by show (if i' = 0 then _ else _) = (if i' = 0 then _ else _); rw [if_neg hi', if_neg hi']), rfl⟩
theorem wr_a8 (h : rX a0 M0 ad M E g) (v : Int32) (hi : vp_in i 150) : ∃ g', zsI g 0 (ad 8 0) i v = some g' ∧ rX a0 M0 ad M (eQ E 8 i.toNatClampNeg v) g' ∧ g'.2 = g.2 := ⟨_, zsI_of (h.at (k := 8) (i := 0) rfl) hi, h.put (k := 8) (i := 0) rfl rfl (fun k' hk' => by rcases r_split k' with rfl | rfl | rfl | rfl | rfl | rfl | rfl | rfl | rfl | rfl | rfl | rfl | rfl | rfl | rfl | rfl | rfl | rfl | rfl | hr <;> first | rfl | exact absurd rfl hk' | (rw [hr, hr])) (fun i' hi' => by show (if i' = 0 then _ else _) = (if i' = 0 then _ else _); rw [if_neg hi', if_neg hi']), rfl⟩
theorem wr_a5 (h : rX a0 M0 ad M E g) (v : UInt32) (hi : vp_in i 512) : ∃ g', zsF g 1 (ad 5 0) i v = some g' ∧ rX a0 M0 ad (mF M 32 i.toNatClampNeg v) E g' ∧ g'.2 = g.2 := ⟨_, zsF_of (h.at (k := 5) (i := 0) rfl) hi, h.put (k := 5) (i := 0) rfl rfl (fun k' hk' => by rcases r_split k' with rfl | rfl | rfl | rfl | rfl | rfl | rfl | rfl | rfl | rfl | rfl | rfl | rfl | rfl | rfl | rfl | rfl | rfl | rfl | hr <;> first | rfl | exact absurd rfl hk' | (rw [hr, hr])) (fun i' hi' => by show (if i' = 0 then _ else _) = (if i' = 0 then _ else _); rw [if_neg hi', if_neg hi']), rfl⟩
theorem wr_t0 (h : rX a0 M0 ad M E g) (ht : t < 8) (v : Int32) : ∃ g', zpV g [1] (ad 10 t) 0 (.int v) = some g' ∧ rX a0 M0 ad (mA M 13 t v) E g' ∧ g'.2 = g.2 := by
  refine ⟨_, zpV_of (h.at (k := 10) (i := t) (if_pos ht)) (by decide) (Nat.le_of_ble_eq_true rfl), h.put (k := 10) (i := t) (if_pos ht) ?_ (fun k' hk' => by rcases r_split k' with rfl | rfl | rfl | rfl | rfl | rfl | rfl | rfl | rfl | rfl | rfl | rfl | rfl | rfl | rfl | rfl | rfl | rfl | rfl | hr <;> first | rfl | exact absurd rfl hk' | (rw [hr, hr])) (fun i' hi' => by by_cases h8 : i' < 8 <;> simp [r_c, r_t, h8, mA, mF, mI, MS.A, MS.F, MS.I, MS.L, eP, eR, eF, RE.P, RE.R, RE.F, RE.I, RE.Q, va_up, upd, vf_upd, hi']), rfl⟩
  simp [r_c, r_t, ht, mA, mF, mI, MS.A, MS.F, MS.I, MS.L, eP, eR, eF, RE.P, RE.R, RE.F, RE.I, RE.Q, va_up, upd]
theorem wr_t1 (h : rX a0 M0 ad M E g) (ht : t < 8) (v : Int32) : ∃ g', zpV g [1] (ad 10 t) 1 (.int v) = some g' ∧ rX a0 M0 ad (mA M 14 t v) E g' ∧ g'.2 = g.2 := by
  refine ⟨_, zpV_of (h.at (k := 10) (i := t) (if_pos ht)) (by decide) (Nat.le_of_ble_eq_true rfl), h.put (k := 10) (i := t) (if_pos ht) ?_ (fun k' hk' => by rcases r_split k' with rfl | rfl | rfl | rfl | rfl | rfl | rfl | rfl | rfl | rfl | rfl | rfl | rfl | rfl | rfl | rfl | rfl | rfl | rfl | hr <;> first | rfl | exact absurd rfl hk' | (rw [hr, hr])) (fun i' hi' => by by_cases h8 : i' < 8 <;> simp [r_c, r_t, h8, mA, mF, mI, MS.A, MS.F, MS.I, MS.L, eP, eR, eF, RE.P, RE.R, RE.F, RE.I, RE.Q, va_up, upd, vf_upd, hi']), rfl⟩
  simp [r_c, r_t, ht, mA, mF, mI, MS.A, MS.F, MS.I, MS.L, eP, eR, eF, RE.P, RE.R, RE.F, RE.I, RE.Q, va_up, upd]
theorem wr_t2 (h : rX a0 M0 ad M E g) (ht : t < 8) (v : Int32) : ∃ g', zpV g [1] (ad 10 t) 2 (.int v) = some g' ∧ rX a0 M0 ad (mA M 15 t v) E g' ∧ g'.2 = g.2 := by
  refine ⟨_, zpV_of (h.at (k := 10) (i := t) (if_pos ht)) (by decide) (Nat.le_of_ble_eq_true rfl), h.put (k := 10) (i := t) (if_pos ht) ?_ (fun k' hk' => by rcases r_split k' with rfl | rfl | rfl | rfl | rfl | rfl | rfl | rfl | rfl | rfl | rfl | rfl | rfl | rfl | rfl | rfl | rfl | rfl | rfl | hr <;> first | rfl | exact absurd rfl hk' | (rw [hr, hr])) (fun i' hi' => by by_cases h8 : i' < 8 <;> simp [r_c, r_t, h8, mA, mF, mI, MS.A, MS.F, MS.I, MS.L, eP, eR, eF, RE.P, RE.R, RE.F, RE.I, RE.Q, va_up, upd, vf_upd, hi']), rfl⟩
  simp [r_c, r_t, ht, mA, mF, mI, MS.A, MS.F, MS.I, MS.L, eP, eR, eF, RE.P, RE.R, RE.F, RE.I, RE.Q, va_up, upd]
theorem wr_t3 (h : rX a0 M0 ad M E g) (ht : t < 8) (v : Int32) : ∃ g', zpV g [1] (ad 10 t) 3 (.int v) = some g' ∧ rX a0 M0 ad (mA M 16 t v) E g' ∧ g'.2 = g.2 := by
  refine ⟨_, zpV_of (h.at (k := 10) (i := t) (if_pos ht)) (by decide) (Nat.le_of_ble_eq_true rfl), h.put (k := 10) (i := t) (if_pos ht) ?_ (fun k' hk' => by rcases r_split k' with rfl | rfl | rfl | rfl | rfl | rfl | rfl | rfl | rfl | rfl | rfl | rfl | rfl | rfl | rfl | rfl | rfl | rfl | rfl | hr <;> first | rfl | exact absurd rfl hk' | (rw [hr, hr])) (fun i' hi' => by by_cases h8 : i' < 8 <;> simp [r_c, r_t, h8, mA, mF, mI, MS.A, MS.F, MS.I, MS.L, eP, eR, eF, RE.P, RE.R, RE.F, RE.I, RE.Q, va_up, upd, vf_upd, hi']), rfl⟩
  simp [r_c, r_t, ht, mA, mF, mI, MS.A, MS.F, MS.I, MS.L, eP, eR, eF, RE.P, RE.R, RE.F, RE.I, RE.Q, va_up, upd]
theorem wr_t7 (h : rX a0 M0 ad M E g) (ht : t < 8) (v : Int32) : ∃ g', zpV g [1] (ad 10 t) 7 (.int v) = some g' ∧ rX a0 M0 ad (mA M 20 t v) E g' ∧ g'.2 = g.2 := by
  refine ⟨_, zpV_of (h.at (k := 10) (i := t) (if_pos ht)) (by decide) (Nat.le_of_ble_eq_true rfl), h.put (k := 10) (i := t) (if_pos ht) ?_ (fun k' hk' => by rcases r_split k' with rfl | rfl | rfl | rfl | rfl | rfl | rfl | rfl | rfl | rfl | rfl | rfl | rfl | rfl | rfl | rfl | rfl | rfl | rfl | hr <;> first | rfl | exact absurd rfl hk' | (rw [hr, hr])) (fun i' hi' => by by_cases h8 : i' < 8 <;> simp [r_c, r_t, h8, mA, mF, mI, MS.A, MS.F, MS.I, MS.L, eP, eR, eF, RE.P, RE.R, RE.F, RE.I, RE.Q, va_up, upd, vf_upd, hi']), rfl⟩
  simp [r_c, r_t, ht, mA, mF, mI, MS.A, MS.F, MS.I, MS.L, eP, eR, eF, RE.P, RE.R, RE.F, RE.I, RE.Q, va_up, upd]
theorem wr_t8 (h : rX a0 M0 ad M E g) (ht : t < 8) (v : Int32) : ∃ g', zpV g [1] (ad 10 t) 8 (.int v) = some g' ∧ rX a0 M0 ad M (eP E t v) g' ∧ g'.2 = g.2 := by
  refine ⟨_, zpV_of (h.at (k := 10) (i := t) (if_pos ht)) (by decide) (Nat.le_of_ble_eq_true rfl), h.put (k := 10) (i := t) (if_pos ht) ?_ (fun k' hk' => by rcases r_split k' with rfl | rfl | rfl | rfl | rfl | rfl | rfl | rfl | rfl | rfl | rfl | rfl | rfl | rfl | rfl | rfl | rfl | rfl | rfl | hr <;> first | rfl | exact absurd rfl hk' | (rw [hr, hr])) (fun i' hi' => by by_cases h8 : i' < 8 <;> simp [r_c, r_t, h8, mA, mF, mI, MS.A, MS.F, MS.I, MS.L, eP, eR, eF, RE.P, RE.R, RE.F, RE.I, RE.Q, va_up, upd, vf_upd, hi']), rfl⟩
  simp [r_c, r_t, ht, mA, mF, mI, MS.A, MS.F, MS.I, MS.L, eP, eR, eF, RE.P, RE.R, RE.F, RE.I, RE.Q, va_up, upd]
theorem wr_t11 (h : rX a0 M0 ad M E g) (ht : t < 8) (v : Int32) : ∃ g', zpV g [1] (ad 10 t) 11 (.int v) = some g' ∧ rX a0 M0 ad (mA M 22 t v) E g' ∧ g'.2 = g.2 := by
  refine ⟨_, zpV_of (h.at (k := 10) (i := t) (if_pos ht)) (by decide) (Nat.le_of_ble_eq_true rfl), h.put (k := 10) (i := t) (if_pos ht) ?_ (fun k' hk' => by rcases r_split k' with rfl | rfl | rfl | rfl | rfl | rfl | rfl | rfl | rfl | rfl | rfl | rfl | rfl | rfl | rfl | rfl | rfl | rfl | rfl | hr <;> first | rfl | exact absurd rfl hk' | (rw [hr, hr])) (fun i' hi' => by by_cases h8 : i' < 8 <;> simp [r_c, r_t, h8, mA, mF, mI, MS.A, MS.F, MS.I, MS.L, eP, eR, eF, RE.P, RE.R, RE.F, RE.I, RE.Q, va_up, upd, vf_upd, hi']), rfl⟩
  simp [r_c, r_t, ht, mA, mF, mI, MS.A, MS.F, MS.I, MS.L, eP, eR, eF, RE.P, RE.R, RE.F, RE.I, RE.Q, va_up, upd]
theorem wr_t4 (h : rX a0 M0 ad M E g) (ht : t < 8) (v : UInt32) : ∃ g', zpV g [1] (ad 10 t) 4 (.float v) = some g' ∧ rX a0 M0 ad (mF M 17 t v) E g' ∧ g'.2 = g.2 := by
  refine ⟨_, zpV_of (h.at (k := 10) (i := t) (if_pos ht)) (by decide) (Nat.le_of_ble_eq_true rfl), h.put (k := 10) (i := t) (if_pos ht) ?_ (fun k' hk' => by rcases r_split k' with rfl | rfl | rfl | rfl | rfl | rfl | rfl | rfl | rfl | rfl | rfl | rfl | rfl | rfl | rfl | rfl | rfl | rfl | rfl | hr <;> first | rfl | exact absurd rfl hk' | (rw [hr, hr])) (fun i' hi' => by by_cases h8 : i' < 8 <;> simp [r_c, r_t, h8, mA, mF, mI, MS.A, MS.F, MS.I, MS.L, eP, eR, eF, RE.P, RE.R, RE.F, RE.I, RE.Q, va_up, upd, vf_upd, hi']), rfl⟩
  simp [r_c, r_t, ht, mA, mF, mI, MS.A, MS.F, MS.I, MS.L, eP, eR, eF, RE.P, RE.R, RE.F, RE.I, RE.Q, va_up, vf_upd]
theorem wr_t9 (h : rX a0 M0 ad M E g) (ht : t < 8) (v : Nat) : ∃ g', zpV g [1] (ad 10 t) 9 (.ref (ad v t)) = some g' ∧ rX a0 M0 ad M (eR E 9 t v) g' ∧ g'.2 = g.2 := by
  refine ⟨_, zpV_of (h.at (k := 10) (i := t) (if_pos ht)) (by decide) (Nat.le_of_ble_eq_true rfl), h.put (k := 10) (i := t) (if_pos ht) ?_ (fun k' hk' => by rcases r_split k' with rfl | rfl | rfl | rfl | rfl | rfl | rfl | rfl | rfl | rfl | rfl | rfl | rfl | rfl | rfl | rfl | rfl | rfl | rfl | hr <;> first | rfl | exact absurd rfl hk' | (rw [hr, hr])) (fun i' hi' => by by_cases h8 : i' < 8 <;> simp [r_c, r_t, h8, mA, mF, mI, MS.A, MS.F, MS.I, MS.L, eP, eR, eF, RE.P, RE.R, RE.F, RE.I, RE.Q, va_up, upd, vf_upd, hi']), rfl⟩
  simp [r_c, r_t, ht, mA, mF, mI, MS.A, MS.F, MS.I, MS.L, eP, eR, eF, RE.P, RE.R, RE.F, RE.I, RE.Q, va_up]
theorem wr_t10 (h : rX a0 M0 ad M E g) (ht : t < 8) (v : Nat) : ∃ g', zpV g [1] (ad 10 t) 10 (.ref (ad v t)) = some g' ∧ rX a0 M0 ad M (eR E 10 t v) g' ∧ g'.2 = g.2 := by
  refine ⟨_, zpV_of (h.at (k := 10) (i := t) (if_pos ht)) (by decide) (Nat.le_of_ble_eq_true rfl), h.put (k := 10) (i := t) (if_pos ht) ?_ (fun k' hk' => by rcases r_split k' with rfl | rfl | rfl | rfl | rfl | rfl | rfl | rfl | rfl | rfl | rfl | rfl | rfl | rfl | rfl | rfl | rfl | rfl | rfl | hr <;> first | rfl | exact absurd rfl hk' | (rw [hr, hr])) (fun i' hi' => by by_cases h8 : i' < 8 <;> simp [r_c, r_t, h8, mA, mF, mI, MS.A, MS.F, MS.I, MS.L, eP, eR, eF, RE.P, RE.R, RE.F, RE.I, RE.Q, va_up, upd, vf_upd, hi']), rfl⟩
  simp [r_c, r_t, ht, mA, mF, mI, MS.A, MS.F, MS.I, MS.L, eP, eR, eF, RE.P, RE.R, RE.F, RE.I, RE.Q, va_up]
theorem wr_a12 (h : rX a0 M0 ad M E g) (ht : t < 8) (v : UInt32) (hi : vp_in i 8) : ∃ g', zsF g 1 (ad 12 t) i v = some g' ∧ rX a0 M0 ad M (eF E 12 t i.toNatClampNeg v) g' ∧ g'.2 = g.2 := by
  refine ⟨_, zsF_of (h.at (k := 12) (i := t) (if_pos ht)) hi, h.put (k := 12) (i := t) (if_pos ht) ?_ (fun k' hk' => by rcases r_split k' with rfl | rfl | rfl | rfl | rfl | rfl | rfl | rfl | rfl | rfl | rfl | rfl | rfl | rfl | rfl | rfl | rfl | rfl | rfl | hr <;> first | rfl | exact absurd rfl hk' | (rw [hr, hr])) (fun i' hi' => by by_cases h8 : i' < 8 <;> simp [r_c, r_t, h8, mA, mF, mI, MS.A, MS.F, MS.I, MS.L, eP, eR, eF, RE.P, RE.R, RE.F, RE.I, RE.Q, va_up, upd, vf_upd, hi']), rfl⟩
  simp [r_c, ht, mA, mF, mI, MS.A, MS.F, MS.I, MS.L, eP, eR, eF, RE.P, RE.R, RE.F, RE.I, RE.Q, va_up]
theorem wr_a13 (h : rX a0 M0 ad M E g) (ht : t < 8) (v : UInt32) (hi : vp_in i 8) : ∃ g', zsF g 1 (ad 13 t) i v = some g' ∧ rX a0 M0 ad M (eF E 13 t i.toNatClampNeg v) g' ∧ g'.2 = g.2 := by
  refine ⟨_, zsF_of (h.at (k := 13) (i := t) (if_pos ht)) hi, h.put (k := 13) (i := t) (if_pos ht) ?_ (fun k' hk' => by rcases r_split k' with rfl | rfl | rfl | rfl | rfl | rfl | rfl | rfl | rfl | rfl | rfl | rfl | rfl | rfl | rfl | rfl | rfl | rfl | rfl | hr <;> first | rfl | exact absurd rfl hk' | (rw [hr, hr])) (fun i' hi' => by by_cases h8 : i' < 8 <;> simp [r_c, r_t, h8, mA, mF, mI, MS.A, MS.F, MS.I, MS.L, eP, eR, eF, RE.P, RE.R, RE.F, RE.I, RE.Q, va_up, upd, vf_upd, hi']), rfl⟩
  simp [r_c, ht, mA, mF, mI, MS.A, MS.F, MS.I, MS.L, eP, eR, eF, RE.P, RE.R, RE.F, RE.I, RE.Q, va_up]
theorem wr_a14 (h : rX a0 M0 ad M E g) (ht : t < 8) (v : Int32) (hi : vp_in i 2) : ∃ g', zsI g 0 (ad 14 t) i v = some g' ∧ rX a0 M0 ad (mA M 23 (2 * t + i.toNatClampNeg) v) E g' ∧ g'.2 = g.2 := by
  have hlt : i.toNatClampNeg < 2 := by unfold vp_in at hi; omega
  refine ⟨_, zsI_of (h.at (k := 14) (i := t) (if_pos ht)) hi, h.put (k := 14) (i := t) (if_pos ht) ?_ (fun k' hk' => by rcases r_split k' with rfl | rfl | rfl | rfl | rfl | rfl | rfl | rfl | rfl | rfl | rfl | rfl | rfl | rfl | rfl | rfl | rfl | rfl | rfl | hr <;> first | rfl | exact absurd rfl hk' | (rw [hr, hr])) (fun i' hi' => ?_), rfl⟩
  · show (if t < 8 then _ else _) = _
    rw [if_pos ht]
    refine congrArg (fun f => some (Sum.inl (0, 2, Sum.inl f))) ?_
    funext j
    have e : (2 * t + j = 2 * t + i.toNatClampNeg) ↔ j = i.toNatClampNeg := by omega
    by_cases h2 : j < 2
    · simp [mA, mF, mI, MS.A, MS.F, MS.I, MS.L, va_up, upd, h2, e]
    · have h3 : j ≠ i.toNatClampNeg := by omega
      simp [mA, mF, mI, MS.A, MS.F, MS.I, MS.L, va_up, upd, h2, h3]
  · show (if i' < 8 then _ else _) = (if i' < 8 then _ else _)
    by_cases h8 : i' < 8
    · rw [if_pos h8, if_pos h8]
      refine congrArg (fun f => some (Sum.inl (0, 2, Sum.inl f))) ?_
      funext j
      by_cases h2 : j < 2
      · have e : ¬ (2 * i' + j = 2 * t + i.toNatClampNeg) := by omega
        simp [mA, mF, mI, MS.A, MS.F, MS.I, MS.L, va_up, upd, h2, e]
      · simp [h2]
    · rw [if_neg h8, if_neg h8]
theorem wr_a15 (h : rX a0 M0 ad M E g) (ht : t < 8) (v : Int32) (hi : vp_in i 2) : ∃ g', zsI g 0 (ad 15 t) i v = some g' ∧ rX a0 M0 ad (mA M 24 (2 * t + i.toNatClampNeg) v) E g' ∧ g'.2 = g.2 := by
  have hlt : i.toNatClampNeg < 2 := by unfold vp_in at hi; omega
  refine ⟨_, zsI_of (h.at (k := 15) (i := t) (if_pos ht)) hi, h.put (k := 15) (i := t) (if_pos ht) ?_ (fun k' hk' => by rcases r_split k' with rfl | rfl | rfl | rfl | rfl | rfl | rfl | rfl | rfl | rfl | rfl | rfl | rfl | rfl | rfl | rfl | rfl | rfl | rfl | hr <;> first | rfl | exact absurd rfl hk' | (rw [hr, hr])) (fun i' hi' => ?_), rfl⟩
  · show (if t < 8 then _ else _) = _
    rw [if_pos ht]
    refine congrArg (fun f => some (Sum.inl (0, 2, Sum.inl f))) ?_
    funext j
    have e : (2 * t + j = 2 * t + i.toNatClampNeg) ↔ j = i.toNatClampNeg := by omega
    by_cases h2 : j < 2
    · simp [mA, mF, mI, MS.A, MS.F, MS.I, MS.L, va_up, upd, h2, e]
    · have h3 : j ≠ i.toNatClampNeg := by omega
      simp [mA, mF, mI, MS.A, MS.F, MS.I, MS.L, va_up, upd, h2, h3]
  · show (if i' < 8 then _ else _) = (if i' < 8 then _ else _)
    by_cases h8 : i' < 8
    · rw [if_pos h8, if_pos h8]
      refine congrArg (fun f => some (Sum.inl (0, 2, Sum.inl f))) ?_
      funext j
      by_cases h2 : j < 2
      · have e : ¬ (2 * i' + j = 2 * t + i.toNatClampNeg) := by omega
        simp [mA, mF, mI, MS.A, MS.F, MS.I, MS.L, va_up, upd, h2, e]
      · simp [h2]
    · rw [if_neg h8, if_neg h8]
end RR

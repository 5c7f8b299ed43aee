/-! the relation rX: ScoreThreads' cells in the heap, by the Model's state M and what is ScoreThreads' own (E) -/
set_option maxRecDepth 100000
theorem zbj_v {α γ : Type} (x : α) (f : α → Option γ) : zbj (some x) f = f x := rfl
theorem zbd_v {α β γ : Type} (x : α) (y : β) (f : α → β → Option γ) : zbd (some (x, y)) f = f x y := rfl
theorem zlet_v {α β : Type} (x : α) (f : α → Option β) : zlet x f = f x := rfl
theorem zjoin_v {α β : Type} (f : α) (k : α → Option β) : zjoin f k = k f := rfl
theorem zsm_lv {α γ : Type} (v : α) (f : α → Option γ) (h : String → Option γ) : zsm (.inl v) f h = f v := rfl
theorem zsm_rv {α γ : Type} (X : String) (f : α → Option γ) (h : String → Option γ) : zsm (.inr X) f h = h X := rfl
theorem zcs_nv {γ : Type} (t : Option γ) (f : Nat → Option γ) : zcs none t f = t := rfl
theorem zcs_sv {γ : Type} (a : Nat) (t : Option γ) (f : Nat → Option γ) : zcs (some a) t f = f a := rfl
abbrev RE : Type := (Nat → Int32) × (Nat → Int32) × (Nat → Nat → Nat) × (Nat → Nat → Nat → UInt32) × (Nat → Nat → Int32)
/-- 7: runs, 9: left -/
abbrev RE.I (E : RE) : Nat → Int32 := E.1
/-- the tracks' places -/
abbrev RE.P (E : RE) : Nat → Int32 := E.2.1
/-- which of a track's two rows (12, 13) is its row (9), its other one (10) -/
abbrev RE.R (E : RE) : Nat → Nat → Nat := E.2.2.1
/-- what the rows hold -/
abbrev RE.F (E : RE) : Nat → Nat → Nat → UInt32 := E.2.2.2.1
/-- 7: faults, 8: queue -/
abbrev RE.Q (E : RE) : Nat → Nat → Int32 := E.2.2.2.2
abbrev eI (E : RE) (k : Nat) (v : Int32) : RE := (va_up E.1 k v, E.2)
abbrev eP (E : RE) (t : Nat) (v : Int32) : RE := (E.1, va_up E.2.1 t v, E.2.2)
abbrev eR (E : RE) (k t : Nat) (v : Nat) : RE := (E.1, E.2.1, va_up E.2.2.1 k (va_up (E.2.2.1 k) t v), E.2.2.2)
abbrev eF (E : RE) (k t i : Nat) (v : UInt32) : RE := (E.1, E.2.1, E.2.2.1, va_up E.2.2.2.1 k (va_up (E.2.2.2.1 k) t (vf_upd (E.2.2.2.1 k t) i v)), E.2.2.2.2)
abbrev eQ (E : RE) (k i : Nat) (v : Int32) : RE := (E.1, E.2.1, E.2.2.1, E.2.2.2.1, va_up E.2.2.2.2 k (upd (E.2.2.2.2 k) i v))
abbrev r_nc (M : MS) : Nat := (M.I 0).toNatClampNeg
abbrev r_np (M : MS) : Nat := (M.I 4).toNatClampNeg
def r_opt (ad : Nat → Nat → Nat) (c : Int32) : Option Nat := if c = -1 then none else some (ad 30 c.toNatClampNeg)
abbrev r_ro (f : Nat → Option Nat) : (Nat → Int32) ⊕ (Nat → Int64) ⊕ (Nat → UInt32) ⊕ (Nat → UInt64) ⊕ (Nat → Option Nat) := .inr (.inr (.inr (.inr f)))
abbrev r_fl (f : Nat → UInt32) : (Nat → Int32) ⊕ (Nat → Int64) ⊕ (Nat → UInt32) ⊕ (Nat → UInt64) ⊕ (Nat → Option Nat) := .inr (.inr (.inl f))
def r_x (ad : Nat → Nat → Nat) (M : MS) (E : RE) : List Value := [.ref (ad 1 0), .int (M.I 0), .ref (ad 2 0), .int (M.I 4), .ref (ad 3 0), .ref (ad 4 0), .int (M.I 26), .int (E.I 7), .int (M.I 29), .int (E.I 9), .int (M.I 31), .ref (ad 5 0), .int (M.I 46), .int (M.I 47), .ref (ad 6 0), .ref (ad 7 0), .int (M.I 33), .ref (ad 8 0), .int (M.I 39), .int (M.I 45)]
def r_t (ad : Nat → Nat → Nat) (M : MS) (E : RE) (t : Nat) : List Value := [.int (M.A 13 t), .int (M.A 14 t), .int (M.A 15 t), .int (M.A 16 t), .float (M.F 17 t), .int (M.A 18 t), .ref (ad 11 t), .int (M.A 20 t), .int (E.P t), .ref (ad (E.R 9 t) t), .ref (ad (E.R 10 t) t), .int (M.A 22 t), .ref (ad 14 t), .ref (ad 15 t)]
def r_row (lane : Int32) (n : Nat) (f : Nat → Int64) : zE :=
  if lane = 0 then .inl (2, n, .inl (fun i => if i < n then (f i).toInt32 else 0))
  else if lane = 1 then .inl (3, n, .inl (fun i => if i < n then (f i).toInt32 else 0))
  else if lane = 2 then .inl (0, n, .inl (fun i => if i < n then (f i).toInt32 else 0))
  else if lane = 3 then .inl (1, n, .inr (.inr (.inl (fun i => if i < n then (f i).toInt32.toUInt32 else 0))))
  else .inl (4, n, .inr (.inr (.inr (.inl (fun i => if i < n then (f i).toUInt64 else 0)))))
abbrev r_echo (k : Int32) : Prop := k = 4 ∨ k = 5
def r_p (ad : Nat → Nat → Nat) (M : MS) (p : Nat) : List Value :=
  if r_echo (M.A 5 p) then [.int (M.A 5 p), .float (M.F 6 p), .int (M.A 7 p), .int (M.A 8 p), if M.A 10 p = -1 then .null else .ref (ad 31 p), .int (M.A 9 p)]
  else if M.A 5 p = 7 then [.int (M.A 5 p), .float (M.F 6 p), .int (M.A 7 p), .int (M.A 8 p), .ref (ad 20 (M.A 7 p).toNatClampNeg)]
  else [.int (M.A 5 p), .float (M.F 6 p), .int (M.A 7 p), .int (M.A 8 p)]
def r_c (ad : Nat → Nat → Nat) (M : MS) (E : RE) (k i : Nat) : Option zE := match k with
  | 0 => if i = 0 then some (.inr (0, r_x ad M E)) else none
  | 1 => if i = 0 then some (.inl (7, 16, r_ro (fun j => if j < r_nc M then some (ad 20 j) else none))) else none
  | 2 => if i = 0 then some (.inl (8, 12, r_ro (fun j => if j < r_np M then some (ad 30 j) else none))) else none
  | 3 => if i = 0 then some (.inl (9, 8, r_ro (fun j => if j < 8 then some (ad 10 j) else none))) else none
  | 4 => if i = 0 then some (.inl (0, 4, .inl (M.A 27))) else none
  | 5 => if i = 0 then some (.inl (1, 512, r_fl (M.F 32))) else none
  | 6 => if i = 0 then some (.inl (0, 7, .inl (M.A 48))) else none
  | 7 => if i = 0 then some (.inl (0, 500, .inl (E.Q 7))) else none
  | 8 => if i = 0 then some (.inl (0, 150, .inl (E.Q 8))) else none
  | 10 => if i < 8 then some (.inr (1, r_t ad M E i)) else none
  | 11 => if i < 8 then some (.inl (if M.A 18 i = 0 then 8 else 10, 4, r_ro (fun j => if j < 4 then r_opt ad (M.A 19 (4 * i + j)) else none))) else none
  | 12 => if i < 8 then some (.inl (1, 8, r_fl (E.F 12 i))) else none
  | 13 => if i < 8 then some (.inl (1, 8, r_fl (E.F 13 i))) else none
  | 14 => if i < 8 then some (.inl (0, 2, .inl (fun j => if j < 2 then M.A 23 (2 * i + j) else 0))) else none
  | 15 => if i < 8 then some (.inl (0, 2, .inl (fun j => if j < 2 then M.A 24 (2 * i + j) else 0))) else none
  | 20 => if i < r_nc M then some (.inr (3, [.int (M.A 1 i), .int (M.A 2 i), .ref (ad 21 i)])) else none
  | 21 => if i < r_nc M then some (r_row (M.A 1 i) (M.A 2 i).toNatClampNeg (fun j => M.L (64 * i + j))) else none
  | 30 => if i < r_np M then some (.inr (4 + (M.A 5 i).toNatClampNeg, r_p ad M i)) else none
  | 31 => if i < r_np M ∧ r_echo (M.A 5 i) ∧ M.A 10 i ≠ -1 then some (.inl (1, (M.A 10 i).toNatClampNeg, r_fl (fun j => if j < (M.A 10 i).toNatClampNeg then M.F 11 (16 * i + j) else 0))) else none
  | _ => none
/-- the heap holds ScoreThreads' cells; they are apart, and apart from the Model's, which are as M0 has them -/
def rX (a0 : Nat) (M0 : MS) (ad : Nat → Nat → Nat) (M : MS) (E : RE) (g : zS) : Prop :=
  (∀ k i x, r_c ad M E k i = some x → g.h (ad k i) = some x ∧ ad k i < g.sz ∧ ¬ (a0 ≤ ad k i ∧ ad k i ≤ a0 + 39)) ∧
  (∀ k i k' i' x x', r_c ad M E k i = some x → r_c ad M E k' i' = some x' → ad k i = ad k' i' → k = k' ∧ i = i') ∧
  (∀ j, j ≤ 39 → g.h (a0 + j) = mcell a0 M0 j) ∧ a0 + 39 < g.sz
section RX
variable {a0 : Nat} {M0 : MS} {ad : Nat → Nat → Nat} {M M' : MS} {E E' : RE} {g : zS}
theorem rX.at (h : rX a0 M0 ad M E g) {k i : Nat} {x : zE} (hx : r_c ad M E k i = some x) : g.h (ad k i) = some x := (h.1 k i x hx).1
/-- the overlay of the Model is there -/
theorem rX.ov (h : rX a0 M0 ad M E g) : zm a0 g M0 = g := by
  unfold zm
  have e : (fun q => if a0 ≤ q ∧ q ≤ a0 + 39 then mcell a0 M0 (q - a0) else g.1 q) = g.1 := by
    funext q
    by_cases hq : a0 ≤ q ∧ q ≤ a0 + 39
    · rw [if_pos hq]
      have h3 := h.2.2.1 (q - a0) (by omega)
      rw [show a0 + (q - a0) = q by omega] at h3
      exact h3.symm
    · rw [if_neg hq]
  rw [e]
/-- one cell gets another content -/
theorem rX.put (h : rX a0 M0 ad M E g) {k i : Nat} {x x' : zE} (hs : r_c ad M E k i = some x) (hx : r_c ad M' E' k i = some x') (he : ∀ k', k' ≠ k → r_c ad M' E' k' = r_c ad M E k') (hi : ∀ i', i' ≠ i → r_c ad M' E' k i' = r_c ad M E k i') : rX a0 M0 ad M' E' (zput g (ad k i) x') := by
  have key : ∀ k' i' y, r_c ad M' E' k' i' = some y → (k' = k ∧ i' = i ∧ y = x') ∨ (¬ (k' = k ∧ i' = i) ∧ r_c ad M E k' i' = some y) := by
    intro k' i' y hy
    by_cases e1 : k' = k
    · subst e1
      by_cases e2 : i' = i
      · subst e2
        rw [hx] at hy
        exact Or.inl ⟨rfl, rfl, (Option.some.inj hy).symm⟩
      · rw [hi i' e2] at hy
        exact Or.inr ⟨fun e => e2 e.2, hy⟩
    · rw [he k' e1] at hy
      exact Or.inr ⟨fun e => e1 e.1, hy⟩
  have key2 : ∀ k' i' y, r_c ad M' E' k' i' = some y → ∃ z, r_c ad M E k' i' = some z := by
    intro k' i' y hy
    rcases key k' i' y hy with ⟨e1, e2, _⟩ | ⟨_, hz⟩
    · subst e1; subst e2; exact ⟨_, hs⟩
    · exact ⟨_, hz⟩
  refine ⟨fun k' i' y hy => ?_, fun k1 i1 k2 i2 y1 y2 h1 h2 e => ?_, fun j hj => ?_, h.2.2.2⟩
  · rcases key k' i' y hy with ⟨e1, e2, e3⟩ | ⟨hn, hz⟩
    · subst e1; subst e2; subst e3
      obtain ⟨_, b, c⟩ := h.1 _ _ _ hs
      exact ⟨va_up_self _ _ _, b, c⟩
    · obtain ⟨a, b, c⟩ := h.1 _ _ _ hz
      refine ⟨?_, b, c⟩
      have hne : ad k' i' ≠ ad k i := fun e => hn (h.2.1 _ _ _ _ _ _ hz hs e)
      show va_up g.1 (ad k i) (some x') (ad k' i') = some y
      rw [va_up_ne _ _ hne]
      exact a
  · obtain ⟨z1, w1⟩ := key2 _ _ _ h1
    obtain ⟨z2, w2⟩ := key2 _ _ _ h2
    exact h.2.1 _ _ _ _ _ _ w1 w2 e
  · obtain ⟨_, _, c⟩ := h.1 _ _ _ hs
    show va_up g.1 (ad k i) (some x') (a0 + j) = _
    rw [va_up_ne _ _ (fun e => c (by omega))]
    exact h.2.2.1 j hj
/-- the same cells, said by other words -/
theorem rX.same (h : rX a0 M0 ad M E g) (he : ∀ k, r_c ad M' E' k = r_c ad M E k) : rX a0 M0 ad M' E' g := by
  have e : ∀ k i, r_c ad M' E' k i = r_c ad M E k i := fun k i => by rw [he k]
  exact ⟨fun k i x hx => h.1 k i x (by rw [← e]; exact hx), fun k i k' i' x x' h1 h2 => h.2.1 k i k' i' x x' (by rw [← e]; exact h1) (by rw [← e]; exact h2), h.2.2⟩
/-- more cells are there -/
theorem rX.new (h : rX a0 M0 ad M E g) (x : zE) (n : Nat) : rX a0 M0 ad M E (znew g x n) := by
  refine ⟨fun k i y hy => ?_, h.2.1, fun j hj => ?_, Nat.lt_succ_of_lt h.2.2.2⟩
  · obtain ⟨a, b, c⟩ := h.1 k i y hy
    refine ⟨?_, Nat.lt_succ_of_lt b, c⟩
    show va_up g.1 g.sz (some x) (ad k i) = some y
    rw [va_up_ne _ _ (Nat.ne_of_lt b)]
    exact a
  · show va_up g.1 g.sz (some x) (a0 + j) = _
    have := h.2.2.2
    rw [va_up_ne _ _ (by omega)]
    exact h.2.2.1 j hj
theorem rX.grow (h : rX a0 M0 ad M E g) (n m : Nat) : rX a0 M0 ad M E (zgrow g n m) :=
  ⟨fun k i y hy => ⟨(h.1 k i y hy).1, Nat.lt_of_lt_of_le (h.1 k i y hy).2.1 (Nat.le_add_right _ _), (h.1 k i y hy).2.2⟩, h.2.1, h.2.2.1, Nat.lt_of_lt_of_le h.2.2.2 (Nat.le_add_right _ _)⟩
end RX
section RD
variable {g : zS} {a c : Nat} {cs : List Nat} {fs : List Value} {k : Nat}
theorem zob_of (h : g.h a = some (.inr (c, fs))) (hc : c ∈ cs) : zob g cs a = some (c, fs) := by
  have h' : g.1 a = some (.inr (c, fs)) := h
  unfold zob
  rw [h']
  exact if_pos hc
theorem zgI_of {v : Int32} (h : g.h a = some (.inr (c, fs))) (hc : c ∈ cs) (hv : fs[k]? = some (.int v)) : zgI g cs a k = some v := by
  unfold zgI
  rw [zob_of h hc, zbj_v]
  show zvI fs[k]? = some v
  rw [hv]
  rfl
theorem zgF_of {v : UInt32} (h : g.h a = some (.inr (c, fs))) (hc : c ∈ cs) (hv : fs[k]? = some (.float v)) : zgF g cs a k = some v := by
  unfold zgF
  rw [zob_of h hc, zbj_v]
  show zvF fs[k]? = some v
  rw [hv]
  rfl
theorem zgR_of {v : Option Nat} (h : g.h a = some (.inr (c, fs))) (hc : c ∈ cs) (hv : fs[k]? = some (va_rf v)) : zgR g cs a k = some v := by
  unfold zgR
  rw [zob_of h hc, zbj_v]
  show zvR fs[k]? = some v
  rw [hv]
  cases v <;> rfl
theorem zgN_of {v : Nat} (h : g.h a = some (.inr (c, fs))) (hc : c ∈ cs) (hv : fs[k]? = some (.ref v)) : zgN g cs a k = some v := by
  unfold zgN
  rw [zgR_of (v := some v) h hc hv, zbj_v]
theorem zpV_of {v : Value} (h : g.h a = some (.inr (c, fs))) (hc : c ∈ cs) (hk : k < fs.length) : zpV g cs a k v = some (zput g a (.inr (c, fs.set k v))) := by
  unfold zpV
  rw [zob_of h hc, zbj_v]
  exact if_pos hk
variable {t n : Nat} {i : Int32}
theorem zaln_of {x : vp_A} (h : g.h a = some (.inl (t, x))) (ht : t < 11) : zaln g a = some x.1 := by
  have h' : g.1 a = some (.inl (t, x)) := h
  unfold zaln
  rw [h']
  exact if_pos ht
theorem zaty_of {x : vp_A} (h : g.h a = some (.inl (t, x))) (ht : t < 5) : zaty g a = some t := by
  have h' : g.1 a = some (.inl (t, x)) := h
  unfold zaty
  rw [h']
  exact if_pos ht
theorem zaI_of {f : Nat → Int32} (h : g.h a = some (.inl (t, n, .inl f))) (hi : vp_in i n) : zaI g t a i = some (f i.toNatClampNeg) := by
  have h' : g.1 a = some (.inl (t, n, .inl f)) := h
  unfold zaI
  rw [h']
  exact zgd_pos ⟨rfl, hi⟩
theorem zsI_of {f : Nat → Int32} {v : Int32} (h : g.h a = some (.inl (t, n, .inl f))) (hi : vp_in i n) : zsI g t a i v = some (zput g a (.inl (t, n, .inl (upd f i.toNatClampNeg v)))) := by
  have h' : g.1 a = some (.inl (t, n, .inl f)) := h
  unfold zsI
  rw [h']
  exact zgd_pos ⟨rfl, hi⟩
theorem zaF_of {f : Nat → UInt32} (h : g.h a = some (.inl (t, n, r_fl f))) (hi : vp_in i n) : zaF g t a i = some (f i.toNatClampNeg) := by
  have h' : g.1 a = some (.inl (t, n, r_fl f)) := h
  unfold zaF
  rw [h']
  exact zgd_pos ⟨rfl, hi⟩
theorem zsF_of {f : Nat → UInt32} {v : UInt32} (h : g.h a = some (.inl (t, n, r_fl f))) (hi : vp_in i n) : zsF g t a i v = some (zput g a (.inl (t, n, r_fl (vf_upd f i.toNatClampNeg v)))) := by
  have h' : g.1 a = some (.inl (t, n, r_fl f)) := h
  unfold zsF
  rw [h']
  exact zgd_pos ⟨rfl, hi⟩
theorem zaD_of {f : Nat → UInt64} (h : g.h a = some (.inl (t, n, .inr (.inr (.inr (.inl f)))))) (hi : vp_in i n) : zaD g t a i = some (f i.toNatClampNeg) := by
  have h' : g.1 a = some (.inl (t, n, .inr (.inr (.inr (.inl f))))) := h
  unfold zaD
  rw [h']
  exact zgd_pos ⟨rfl, hi⟩
theorem zsD_of {f : Nat → UInt64} {v : UInt64} (h : g.h a = some (.inl (t, n, .inr (.inr (.inr (.inl f)))))) (hi : vp_in i n) : zsD g t a i v = some (zput g a (.inl (t, n, .inr (.inr (.inr (.inl (vf_upd f i.toNatClampNeg v))))))) := by
  have h' : g.1 a = some (.inl (t, n, .inr (.inr (.inr (.inl f))))) := h
  unfold zsD
  rw [h']
  exact zgd_pos ⟨rfl, hi⟩
theorem zaR_of {f : Nat → Option Nat} (h : g.h a = some (.inl (t, n, r_ro f))) (hi : vp_in i n) : zaR g t a i = some (f i.toNatClampNeg) := by
  have h' : g.1 a = some (.inl (t, n, r_ro f)) := h
  unfold zaR
  rw [h']
  exact zgd_pos ⟨rfl, hi⟩
theorem zaN_of {f : Nat → Option Nat} {v : Nat} (h : g.h a = some (.inl (t, n, r_ro f))) (hi : vp_in i n) (hv : f i.toNatClampNeg = some v) : zaN g t a i = some v := by
  unfold zaN
  rw [zaR_of h hi, zbj_v, hv]
theorem zaC_of {f : Nat → Option Nat} (ht : t = 8 ∨ t = 10) (h : g.h a = some (.inl (t, n, r_ro f))) (hi : vp_in i n) : zaC g a i = some (f i.toNatClampNeg) := by
  unfold zaC
  rcases ht with rfl | rfl
  · rw [zaR_of h hi]
  · have e : zaR g 8 a i = none := by
      have h' : g.1 a = some (.inl (10, n, r_ro f)) := h
      unfold zaR
      rw [h']
      have : ¬ ((10 : Nat) = 8 ∧ vp_in i n) := fun e => absurd e.1 (by decide)
      show zgd _ _ = none
      unfold zgd
      exact if_neg this
    rw [e]
    exact zaR_of h hi
end RD

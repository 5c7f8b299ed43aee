/-! pure reads and writes of the abstract heap; rules of ScoreThreads' fields and arrays -/
set_option maxRecDepth 100000
def zob (g : zS) (cs : List Nat) (a : Nat) : Option (Nat × List Value) := match g.1 a with
  | some (.inr o) => if o.1 ∈ cs then some o else none
  | _ => none
theorem zob_some {g : zS} {cs : List Nat} {a : Nat} {o : Nat × List Value} (h : zob g cs a = some o) : g.h a = some (.inr o) ∧ o.1 ∈ cs := by
  unfold zob at h
  split at h
  · rename_i q hq
    split at h
    · rename_i hm
      cases h
      exact ⟨hq, hm⟩
    · cases h
  · cases h
def zvI (v : Option Value) : Option Int32 := match v with
  | some (.int x) => some x
  | _ => none
def zvF (v : Option Value) : Option UInt32 := match v with
  | some (.float x) => some x
  | _ => none
def zvR (v : Option Value) : Option (Option Nat) := match v with
  | some .null => some none
  | some (.ref x) => some (some x)
  | _ => none
theorem zvI_some {v : Option Value} {x : Int32} (h : zvI v = some x) : v = some (.int x) := by unfold zvI at h; split at h <;> cases h; rfl
theorem zvF_some {v : Option Value} {x : UInt32} (h : zvF v = some x) : v = some (.float x) := by unfold zvF at h; split at h <;> cases h; rfl
theorem zvR_some {v : Option Value} {x : Option Nat} (h : zvR v = some x) : v = some (va_rf x) := by unfold zvR at h; split at h <;> cases h <;> rfl
def zgI (g : zS) (cs : List Nat) (a k : Nat) : Option (Int32) := zbj (zob g cs a) fun o => zvI o.2[k]?
theorem zgI_some {g : zS} {cs : List Nat} {a k : Nat} {x : Int32} (h : zgI g cs a k = some x) : ∃ ci fs, g.h a = some (.inr (ci, fs)) ∧ ci ∈ cs ∧ fs[k]? = some (.int x) := by
  obtain ⟨o, h1, h2⟩ := zbj_some h
  obtain ⟨h3, h4⟩ := zob_some h1
  exact ⟨o.1, o.2, h3, h4, zvI_some h2⟩
def zgF (g : zS) (cs : List Nat) (a k : Nat) : Option (UInt32) := zbj (zob g cs a) fun o => zvF o.2[k]?
theorem zgF_some {g : zS} {cs : List Nat} {a k : Nat} {x : UInt32} (h : zgF g cs a k = some x) : ∃ ci fs, g.h a = some (.inr (ci, fs)) ∧ ci ∈ cs ∧ fs[k]? = some (.float x) := by
  obtain ⟨o, h1, h2⟩ := zbj_some h
  obtain ⟨h3, h4⟩ := zob_some h1
  exact ⟨o.1, o.2, h3, h4, zvF_some h2⟩
def zgR (g : zS) (cs : List Nat) (a k : Nat) : Option (Option Nat) := zbj (zob g cs a) fun o => zvR o.2[k]?
theorem zgR_some {g : zS} {cs : List Nat} {a k : Nat} {x : Option Nat} (h : zgR g cs a k = some x) : ∃ ci fs, g.h a = some (.inr (ci, fs)) ∧ ci ∈ cs ∧ fs[k]? = some (va_rf x) := by
  obtain ⟨o, h1, h2⟩ := zbj_some h
  obtain ⟨h3, h4⟩ := zob_some h1
  exact ⟨o.1, o.2, h3, h4, zvR_some h2⟩
def zpV (g : zS) (cs : List Nat) (a k : Nat) (v : Value) : Option zS := zbj (zob g cs a) fun o => if k < o.2.length then some (zput g a (.inr (o.1, o.2.set k v))) else none
theorem zpV_some {g : zS} {cs : List Nat} {a k : Nat} {v : Value} {g' : zS} (h : zpV g cs a k v = some g') : ∃ ci fs, g.h a = some (.inr (ci, fs)) ∧ ci ∈ cs ∧ k < fs.length ∧ zput g a (.inr (ci, fs.set k v)) = g' := by
  obtain ⟨o, h1, h2⟩ := zbj_some h
  obtain ⟨h3, h4⟩ := zob_some h1
  by_cases hk : k < o.2.length
  · rw [if_pos hk] at h2
    exact ⟨o.1, o.2, h3, h4, hk, Option.some.inj h2⟩
  · rw [if_neg hk] at h2
    cases h2
def zaln (g : zS) (a : Nat) : Option Nat := match g.1 a with
  | some (.inl x) => if x.1 < 11 then some x.2.1 else none
  | _ => none
theorem zaln_some {g : zS} {a n : Nat} (h : zaln g a = some n) : ∃ t x, g.h a = some (.inl (t, x)) ∧ t < 11 ∧ x.1 = n := by
  unfold zaln at h
  split at h
  · rename_i q hq
    split at h
    · rename_i hm
      cases h
      exact ⟨q.1, q.2, hq, hm, rfl⟩
    · cases h
  · cases h
noncomputable def zaI (g : zS) (t a : Nat) (i : Int32) : Option (Int32) := match g.1 a with
  | some (.inl (t', n, .inl f)) => zgd (t' = t ∧ vp_in i n) (some (f i.toNatClampNeg))
  | _ => none
theorem zaI_some {g : zS} {t a : Nat} {i : Int32} {x : Int32} (h : zaI g t a i = some x) : ∃ n f, g.h a = some (.inl (t, n, .inl f)) ∧ vp_in i n ∧ f i.toNatClampNeg = x := by
  unfold zaI at h
  split at h
  · rename_i t' n f hq
    obtain ⟨⟨h1, h2⟩, h3⟩ := zgd_some h
    subst h1
    exact ⟨n, f, hq, h2, Option.some.inj h3⟩
  · cases h
noncomputable def zsI (g : zS) (t a : Nat) (i : Int32) (x : Int32) : Option zS := match g.1 a with
  | some (.inl (t', n, .inl f)) => zgd (t' = t ∧ vp_in i n) (some (zput g a (.inl (t, n, .inl (upd f i.toNatClampNeg x)))))
  | _ => none
theorem zsI_some {g g' : zS} {t a : Nat} {i : Int32} {x : Int32} (h : zsI g t a i x = some g') : ∃ n f, g.h a = some (.inl (t, n, .inl f)) ∧ vp_in i n ∧ zput g a (.inl (t, n, .inl (upd f i.toNatClampNeg x))) = g' := by
  unfold zsI at h
  split at h
  · rename_i t' n f hq
    obtain ⟨⟨h1, h2⟩, h3⟩ := zgd_some h
    subst h1
    exact ⟨n, f, hq, h2, Option.some.inj h3⟩
  · cases h
noncomputable def zaF (g : zS) (t a : Nat) (i : Int32) : Option (UInt32) := match g.1 a with
  | some (.inl (t', n, .inr (.inr (.inl f)))) => zgd (t' = t ∧ vp_in i n) (some (f i.toNatClampNeg))
  | _ => none
theorem zaF_some {g : zS} {t a : Nat} {i : Int32} {x : UInt32} (h : zaF g t a i = some x) : ∃ n f, g.h a = some (.inl (t, n, .inr (.inr (.inl f)))) ∧ vp_in i n ∧ f i.toNatClampNeg = x := by
  unfold zaF at h
  split at h
  · rename_i t' n f hq
    obtain ⟨⟨h1, h2⟩, h3⟩ := zgd_some h
    subst h1
    exact ⟨n, f, hq, h2, Option.some.inj h3⟩
  · cases h
noncomputable def zsF (g : zS) (t a : Nat) (i : Int32) (x : UInt32) : Option zS := match g.1 a with
  | some (.inl (t', n, .inr (.inr (.inl f)))) => zgd (t' = t ∧ vp_in i n) (some (zput g a (.inl (t, n, .inr (.inr (.inl (vf_upd f i.toNatClampNeg x)))))))
  | _ => none
theorem zsF_some {g g' : zS} {t a : Nat} {i : Int32} {x : UInt32} (h : zsF g t a i x = some g') : ∃ n f, g.h a = some (.inl (t, n, .inr (.inr (.inl f)))) ∧ vp_in i n ∧ zput g a (.inl (t, n, .inr (.inr (.inl (vf_upd f i.toNatClampNeg x))))) = g' := by
  unfold zsF at h
  split at h
  · rename_i t' n f hq
    obtain ⟨⟨h1, h2⟩, h3⟩ := zgd_some h
    subst h1
    exact ⟨n, f, hq, h2, Option.some.inj h3⟩
  · cases h
noncomputable def zaD (g : zS) (t a : Nat) (i : Int32) : Option (UInt64) := match g.1 a with
  | some (.inl (t', n, .inr (.inr (.inr (.inl f))))) => zgd (t' = t ∧ vp_in i n) (some (f i.toNatClampNeg))
  | _ => none
theorem zaD_some {g : zS} {t a : Nat} {i : Int32} {x : UInt64} (h : zaD g t a i = some x) : ∃ n f, g.h a = some (.inl (t, n, .inr (.inr (.inr (.inl f))))) ∧ vp_in i n ∧ f i.toNatClampNeg = x := by
  unfold zaD at h
  split at h
  · rename_i t' n f hq
    obtain ⟨⟨h1, h2⟩, h3⟩ := zgd_some h
    subst h1
    exact ⟨n, f, hq, h2, Option.some.inj h3⟩
  · cases h
noncomputable def zsD (g : zS) (t a : Nat) (i : Int32) (x : UInt64) : Option zS := match g.1 a with
  | some (.inl (t', n, .inr (.inr (.inr (.inl f))))) => zgd (t' = t ∧ vp_in i n) (some (zput g a (.inl (t, n, .inr (.inr (.inr (.inl (vf_upd f i.toNatClampNeg x))))))))
  | _ => none
theorem zsD_some {g g' : zS} {t a : Nat} {i : Int32} {x : UInt64} (h : zsD g t a i x = some g') : ∃ n f, g.h a = some (.inl (t, n, .inr (.inr (.inr (.inl f))))) ∧ vp_in i n ∧ zput g a (.inl (t, n, .inr (.inr (.inr (.inl (vf_upd f i.toNatClampNeg x)))))) = g' := by
  unfold zsD at h
  split at h
  · rename_i t' n f hq
    obtain ⟨⟨h1, h2⟩, h3⟩ := zgd_some h
    subst h1
    exact ⟨n, f, hq, h2, Option.some.inj h3⟩
  · cases h
noncomputable def zaR (g : zS) (t a : Nat) (i : Int32) : Option (Option Nat) := match g.1 a with
  | some (.inl (t', n, .inr (.inr (.inr (.inr f))))) => zgd (t' = t ∧ vp_in i n) (some (f i.toNatClampNeg))
  | _ => none
theorem zaR_some {g : zS} {t a : Nat} {i : Int32} {x : Option Nat} (h : zaR g t a i = some x) : ∃ n f, g.h a = some (.inl (t, n, .inr (.inr (.inr (.inr f))))) ∧ vp_in i n ∧ f i.toNatClampNeg = x := by
  unfold zaR at h
  split at h
  · rename_i t' n f hq
    obtain ⟨⟨h1, h2⟩, h3⟩ := zgd_some h
    subst h1
    exact ⟨n, f, hq, h2, Option.some.inj h3⟩
  · cases h
noncomputable def zsR (g : zS) (t a : Nat) (i : Int32) (x : Option Nat) : Option zS := match g.1 a with
  | some (.inl (t', n, .inr (.inr (.inr (.inr f))))) => zgd (t' = t ∧ vp_in i n) (some (zput g a (.inl (t, n, .inr (.inr (.inr (.inr (va_up f i.toNatClampNeg x))))))))
  | _ => none
theorem zsR_some {g g' : zS} {t a : Nat} {i : Int32} {x : Option Nat} (h : zsR g t a i x = some g') : ∃ n f, g.h a = some (.inl (t, n, .inr (.inr (.inr (.inr f))))) ∧ vp_in i n ∧ zput g a (.inl (t, n, .inr (.inr (.inr (.inr (va_up f i.toNatClampNeg x)))))) = g' := by
  unfold zsR at h
  split at h
  · rename_i t' n f hq
    obtain ⟨⟨h1, h2⟩, h3⟩ := zgd_some h
    subst h1
    exact ⟨n, f, hq, h2, Option.some.inj h3⟩
  · cases h
section ZXG
variable {G : zG} {d : Nat} {K : List Nat} {Y : zM} {pc : Nat} {lo : List (Option Value)} {st : List Value} {g : zS} {Q : zO → zS → Prop} {a : Nat}
theorem gX1_9 {x : Int32} (hd : decode Y.code pc = .ok (.getfield 9, 3)) (ho : RX1 = Y.nm.cls) (hx : zgI g [1] a 1 = some x) (kk : zEF G d K Y (pc + 3) lo (.int x :: st) g Q) : zEF G d K Y pc lo (.ref a :: st) g Q := by
  obtain ⟨ci, fs, h1, h2, h3⟩ := zgI_some hx
  simp only [List.mem_cons, List.not_mem_nil, or_false] at h2
  rcases h2 with rfl
  · exact ez_get (C := RX1) (Tt := TX1) (N := 14) hd rfl 1 (by decide) ho q102 (Or.inl rfl) h1 h3 kk
theorem pX1_9 {x : Int32} {g' : zS} (hd : decode Y.code pc = .ok (.putfield 9, 3)) (ho : RX1 = Y.nm.cls) (hx : zpV g [1] a 1 (.int x) = some g') (kk : zEF G d K Y (pc + 3) lo st g' Q) : zEF G d K Y pc lo (.int x :: .ref a :: st) g Q := by
  obtain ⟨ci, fs, h1, h2, h3, h4⟩ := zpV_some hx
  simp only [List.mem_cons, List.not_mem_nil, or_false] at h2
  subst h4
  rcases h2 with rfl
  · exact ez_put (C := RX1) (Tt := TX1) (N := 14) (ty := .int) hd rfl 1 (by decide) ho q102 (Or.inl rfl) (Or.inl rfl) (by decide +kernel) rfl rfl h1 h3 kk
theorem gX1_15 {x : UInt32} (hd : decode Y.code pc = .ok (.getfield 15, 3)) (ho : RX1 = Y.nm.cls) (hx : zgF g [1] a 4 = some x) (kk : zEF G d K Y (pc + 3) lo (.float x :: st) g Q) : zEF G d K Y pc lo (.ref a :: st) g Q := by
  obtain ⟨ci, fs, h1, h2, h3⟩ := zgF_some hx
  simp only [List.mem_cons, List.not_mem_nil, or_false] at h2
  rcases h2 with rfl
  · exact ez_get (C := RX1) (Tt := TX1) (N := 14) hd rfl 4 (by decide) ho q106 (Or.inl rfl) h1 h3 kk
theorem pX1_15 {x : UInt32} {g' : zS} (hd : decode Y.code pc = .ok (.putfield 15, 3)) (ho : RX1 = Y.nm.cls) (hx : zpV g [1] a 4 (.float x) = some g') (kk : zEF G d K Y (pc + 3) lo st g' Q) : zEF G d K Y pc lo (.float x :: .ref a :: st) g Q := by
  obtain ⟨ci, fs, h1, h2, h3, h4⟩ := zpV_some hx
  simp only [List.mem_cons, List.not_mem_nil, or_false] at h2
  subst h4
  rcases h2 with rfl
  · exact ez_put (C := RX1) (Tt := TX1) (N := 14) (ty := .float) hd rfl 4 (by decide) ho q106 (Or.inl rfl) (Or.inl rfl) (by decide +kernel) rfl rfl h1 h3 kk
theorem gX1_21 {x : Option Nat} (hd : decode Y.code pc = .ok (.getfield 21, 3)) (ho : RX1 = Y.nm.cls) (hx : zgR g [1] a 6 = some x) (kk : zEF G d K Y (pc + 3) lo (va_rf x :: st) g Q) : zEF G d K Y pc lo (.ref a :: st) g Q := by
  obtain ⟨ci, fs, h1, h2, h3⟩ := zgR_some hx
  simp only [List.mem_cons, List.not_mem_nil, or_false] at h2
  rcases h2 with rfl
  · exact ez_get (C := RX1) (Tt := TX1) (N := 14) hd rfl 6 (by decide) ho q109 (Or.inl rfl) h1 h3 kk
theorem pX1_21 {x : Option Nat} {g' : zS} (hd : decode Y.code pc = .ok (.putfield 21, 3)) (ho : RX1 = Y.nm.cls) (hx : zpV g [1] a 6 (va_rf x) = some g') (kk : zEF G d K Y (pc + 3) lo st g' Q) : zEF G d K Y pc lo (va_rf x :: .ref a :: st) g Q := by
  obtain ⟨ci, fs, h1, h2, h3, h4⟩ := zpV_some hx
  simp only [List.mem_cons, List.not_mem_nil, or_false] at h2
  subst h4
  rcases h2 with rfl
  · exact ez_put (C := RX1) (Tt := TX1) (N := 14) (ty := (.array (.object "ScoreThreads$Plug"))) hd rfl 6 (by decide) ho q109 (Or.inl rfl) (Or.inl rfl) (by decide +kernel) (by cases x <;> rfl) (by cases x <;> rfl) h1 h3 kk
theorem gX1_39 {x : Int32} (hd : decode Y.code pc = .ok (.getfield 39, 3)) (ho : RX1 = Y.nm.cls) (hx : zgI g [1] a 8 = some x) (kk : zEF G d K Y (pc + 3) lo (.int x :: st) g Q) : zEF G d K Y pc lo (.ref a :: st) g Q := by
  obtain ⟨ci, fs, h1, h2, h3⟩ := zgI_some hx
  simp only [List.mem_cons, List.not_mem_nil, or_false] at h2
  rcases h2 with rfl
  · exact ez_get (C := RX1) (Tt := TX1) (N := 14) hd rfl 8 (by decide) ho q112 (Or.inl rfl) h1 h3 kk
theorem pX1_39 {x : Int32} {g' : zS} (hd : decode Y.code pc = .ok (.putfield 39, 3)) (ho : RX1 = Y.nm.cls) (hx : zpV g [1] a 8 (.int x) = some g') (kk : zEF G d K Y (pc + 3) lo st g' Q) : zEF G d K Y pc lo (.int x :: .ref a :: st) g Q := by
  obtain ⟨ci, fs, h1, h2, h3, h4⟩ := zpV_some hx
  simp only [List.mem_cons, List.not_mem_nil, or_false] at h2
  subst h4
  rcases h2 with rfl
  · exact ez_put (C := RX1) (Tt := TX1) (N := 14) (ty := .int) hd rfl 8 (by decide) ho q112 (Or.inl rfl) (Or.inl rfl) (by decide +kernel) rfl rfl h1 h3 kk
theorem gX1_25 {x : Option Nat} (hd : decode Y.code pc = .ok (.getfield 25, 3)) (ho : RX1 = Y.nm.cls) (hx : zgR g [1] a 9 = some x) (kk : zEF G d K Y (pc + 3) lo (va_rf x :: st) g Q) : zEF G d K Y pc lo (.ref a :: st) g Q := by
  obtain ⟨ci, fs, h1, h2, h3⟩ := zgR_some hx
  simp only [List.mem_cons, List.not_mem_nil, or_false] at h2
  rcases h2 with rfl
  · exact ez_get (C := RX1) (Tt := TX1) (N := 14) hd rfl 9 (by decide) ho q114 (Or.inl rfl) h1 h3 kk
theorem pX1_25 {x : Option Nat} {g' : zS} (hd : decode Y.code pc = .ok (.putfield 25, 3)) (ho : RX1 = Y.nm.cls) (hx : zpV g [1] a 9 (va_rf x) = some g') (kk : zEF G d K Y (pc + 3) lo st g' Q) : zEF G d K Y pc lo (va_rf x :: .ref a :: st) g Q := by
  obtain ⟨ci, fs, h1, h2, h3, h4⟩ := zpV_some hx
  simp only [List.mem_cons, List.not_mem_nil, or_false] at h2
  subst h4
  rcases h2 with rfl
  · exact ez_put (C := RX1) (Tt := TX1) (N := 14) (ty := (.array .float)) hd rfl 9 (by decide) ho q114 (Or.inl rfl) (Or.inl rfl) (by decide +kernel) (by cases x <;> rfl) (by cases x <;> rfl) h1 h3 kk
theorem gX1_29 {x : Option Nat} (hd : decode Y.code pc = .ok (.getfield 29, 3)) (ho : RX1 = Y.nm.cls) (hx : zgR g [1] a 10 = some x) (kk : zEF G d K Y (pc + 3) lo (va_rf x :: st) g Q) : zEF G d K Y pc lo (.ref a :: st) g Q := by
  obtain ⟨ci, fs, h1, h2, h3⟩ := zgR_some hx
  simp only [List.mem_cons, List.not_mem_nil, or_false] at h2
  rcases h2 with rfl
  · exact ez_get (C := RX1) (Tt := TX1) (N := 14) hd rfl 10 (by decide) ho q116 (Or.inl rfl) h1 h3 kk
theorem pX1_29 {x : Option Nat} {g' : zS} (hd : decode Y.code pc = .ok (.putfield 29, 3)) (ho : RX1 = Y.nm.cls) (hx : zpV g [1] a 10 (va_rf x) = some g') (kk : zEF G d K Y (pc + 3) lo st g' Q) : zEF G d K Y pc lo (va_rf x :: .ref a :: st) g Q := by
  obtain ⟨ci, fs, h1, h2, h3, h4⟩ := zpV_some hx
  simp only [List.mem_cons, List.not_mem_nil, or_false] at h2
  subst h4
  rcases h2 with rfl
  · exact ez_put (C := RX1) (Tt := TX1) (N := 14) (ty := (.array .float)) hd rfl 10 (by decide) ho q116 (Or.inl rfl) (Or.inl rfl) (by decide +kernel) (by cases x <;> rfl) (by cases x <;> rfl) h1 h3 kk
theorem gX1_32 {x : Option Nat} (hd : decode Y.code pc = .ok (.getfield 32, 3)) (ho : RX1 = Y.nm.cls) (hx : zgR g [1] a 12 = some x) (kk : zEF G d K Y (pc + 3) lo (va_rf x :: st) g Q) : zEF G d K Y pc lo (.ref a :: st) g Q := by
  obtain ⟨ci, fs, h1, h2, h3⟩ := zgR_some hx
  simp only [List.mem_cons, List.not_mem_nil, or_false] at h2
  rcases h2 with rfl
  · exact ez_get (C := RX1) (Tt := TX1) (N := 14) hd rfl 12 (by decide) ho q119 (Or.inl rfl) h1 h3 kk
theorem pX1_32 {x : Option Nat} {g' : zS} (hd : decode Y.code pc = .ok (.putfield 32, 3)) (ho : RX1 = Y.nm.cls) (hini : Y.nm.name = "<init>") (hx : zpV g [1] a 12 (va_rf x) = some g') (kk : zEF G d K Y (pc + 3) lo st g' Q) : zEF G d K Y pc lo (va_rf x :: .ref a :: st) g Q := by
  obtain ⟨ci, fs, h1, h2, h3, h4⟩ := zpV_some hx
  simp only [List.mem_cons, List.not_mem_nil, or_false] at h2
  subst h4
  rcases h2 with rfl
  · exact ez_put (C := RX1) (Tt := TX1) (N := 14) (ty := (.array .int)) hd rfl 12 (by decide) ho q119 (Or.inl rfl) (Or.inr ⟨rfl, hini, ho⟩) (by decide +kernel) (by cases x <;> rfl) (by cases x <;> rfl) h1 h3 kk
theorem gX1_36 {x : Option Nat} (hd : decode Y.code pc = .ok (.getfield 36, 3)) (ho : RX1 = Y.nm.cls) (hx : zgR g [1] a 13 = some x) (kk : zEF G d K Y (pc + 3) lo (va_rf x :: st) g Q) : zEF G d K Y pc lo (.ref a :: st) g Q := by
  obtain ⟨ci, fs, h1, h2, h3⟩ := zgR_some hx
  simp only [List.mem_cons, List.not_mem_nil, or_false] at h2
  rcases h2 with rfl
  · exact ez_get (C := RX1) (Tt := TX1) (N := 14) hd rfl 13 (by decide) ho q121 (Or.inl rfl) h1 h3 kk
theorem pX1_36 {x : Option Nat} {g' : zS} (hd : decode Y.code pc = .ok (.putfield 36, 3)) (ho : RX1 = Y.nm.cls) (hini : Y.nm.name = "<init>") (hx : zpV g [1] a 13 (va_rf x) = some g') (kk : zEF G d K Y (pc + 3) lo st g' Q) : zEF G d K Y pc lo (va_rf x :: .ref a :: st) g Q := by
  obtain ⟨ci, fs, h1, h2, h3, h4⟩ := zpV_some hx
  simp only [List.mem_cons, List.not_mem_nil, or_false] at h2
  subst h4
  rcases h2 with rfl
  · exact ez_put (C := RX1) (Tt := TX1) (N := 14) (ty := (.array .int)) hd rfl 13 (by decide) ho q121 (Or.inl rfl) (Or.inr ⟨rfl, hini, ho⟩) (by decide +kernel) (by cases x <;> rfl) (by cases x <;> rfl) h1 h3 kk
theorem gX10_11 {x : UInt32} (hd : decode Y.code pc = .ok (.getfield 11, 3)) (ho : RX10 = Y.nm.cls) (hx : zgF g [9] a 1 = some x) (kk : zEF G d K Y (pc + 3) lo (.float x :: st) g Q) : zEF G d K Y pc lo (.ref a :: st) g Q := by
  obtain ⟨ci, fs, h1, h2, h3⟩ := zgF_some hx
  simp only [List.mem_cons, List.not_mem_nil, or_false] at h2
  rcases h2 with rfl
  · exact ez_get (C := RX10) (Tt := TX10) (N := 6) hd rfl 1 (by decide) ho q461 (Or.inr q462) h1 h3 kk
theorem gX11_13 {x : UInt32} (hd : decode Y.code pc = .ok (.getfield 13, 3)) (ho : RX11 = Y.nm.cls) (hx : zgF g [10] a 1 = some x) (kk : zEF G d K Y (pc + 3) lo (.float x :: st) g Q) : zEF G d K Y pc lo (.ref a :: st) g Q := by
  obtain ⟨ci, fs, h1, h2, h3⟩ := zgF_some hx
  simp only [List.mem_cons, List.not_mem_nil, or_false] at h2
  rcases h2 with rfl
  · exact ez_get (C := RX11) (Tt := TX11) (N := 4) hd rfl 1 (by decide) ho q459 (Or.inr q460) h1 h3 kk
theorem gX12_7 {x : Option Nat} (hd : decode Y.code pc = .ok (.getfield 7, 3)) (ho : RX12 = Y.nm.cls) (hx : zgR g [11] a 4 = some x) (kk : zEF G d K Y (pc + 3) lo (va_rf x :: st) g Q) : zEF G d K Y pc lo (.ref a :: st) g Q := by
  obtain ⟨ci, fs, h1, h2, h3⟩ := zgR_some hx
  simp only [List.mem_cons, List.not_mem_nil, or_false] at h2
  rcases h2 with rfl
  · exact ez_get (C := RX12) (Tt := TX12) (N := 5) hd rfl 4 (by decide) ho q560 (Or.inl rfl) h1 h3 kk
theorem pX12_7 {x : Option Nat} {g' : zS} (hd : decode Y.code pc = .ok (.putfield 7, 3)) (ho : RX12 = Y.nm.cls) (hini : Y.nm.name = "<init>") (hx : zpV g [11] a 4 (va_rf x) = some g') (kk : zEF G d K Y (pc + 3) lo st g' Q) : zEF G d K Y pc lo (va_rf x :: .ref a :: st) g Q := by
  obtain ⟨ci, fs, h1, h2, h3, h4⟩ := zpV_some hx
  simp only [List.mem_cons, List.not_mem_nil, or_false] at h2
  subst h4
  rcases h2 with rfl
  · exact ez_put (C := RX12) (Tt := TX12) (N := 5) (ty := (.object "ScoreThreads$Clip")) hd rfl 4 (by decide) ho q560 (Or.inl rfl) (Or.inr ⟨rfl, hini, ho⟩) (by decide +kernel) (by cases x <;> rfl) (by cases x <;> rfl) h1 h3 kk
theorem gX3_7 {x : Int32} (hd : decode Y.code pc = .ok (.getfield 7, 3)) (ho : RX3 = Y.nm.cls) (hx : zgI g [3] a 0 = some x) (kk : zEF G d K Y (pc + 3) lo (.int x :: st) g Q) : zEF G d K Y pc lo (.ref a :: st) g Q := by
  obtain ⟨ci, fs, h1, h2, h3⟩ := zgI_some hx
  simp only [List.mem_cons, List.not_mem_nil, or_false] at h2
  rcases h2 with rfl
  · exact ez_get (C := RX3) (Tt := TX3) (N := 3) hd rfl 0 (by decide) ho q317 (Or.inl rfl) h1 h3 kk
theorem pX3_7 {x : Int32} {g' : zS} (hd : decode Y.code pc = .ok (.putfield 7, 3)) (ho : RX3 = Y.nm.cls) (hini : Y.nm.name = "<init>") (hx : zpV g [3] a 0 (.int x) = some g') (kk : zEF G d K Y (pc + 3) lo st g' Q) : zEF G d K Y pc lo (.int x :: .ref a :: st) g Q := by
  obtain ⟨ci, fs, h1, h2, h3, h4⟩ := zpV_some hx
  simp only [List.mem_cons, List.not_mem_nil, or_false] at h2
  subst h4
  rcases h2 with rfl
  · exact ez_put (C := RX3) (Tt := TX3) (N := 3) (ty := .int) hd rfl 0 (by decide) ho q317 (Or.inl rfl) (Or.inr ⟨rfl, hini, ho⟩) (by decide +kernel) rfl rfl h1 h3 kk
theorem gX3_13 {x : Int32} (hd : decode Y.code pc = .ok (.getfield 13, 3)) (ho : RX3 = Y.nm.cls) (hx : zgI g [3] a 1 = some x) (kk : zEF G d K Y (pc + 3) lo (.int x :: st) g Q) : zEF G d K Y pc lo (.ref a :: st) g Q := by
  obtain ⟨ci, fs, h1, h2, h3⟩ := zgI_some hx
  simp only [List.mem_cons, List.not_mem_nil, or_false] at h2
  rcases h2 with rfl
  · exact ez_get (C := RX3) (Tt := TX3) (N := 3) hd rfl 1 (by decide) ho q318 (Or.inl rfl) h1 h3 kk
theorem pX3_13 {x : Int32} {g' : zS} (hd : decode Y.code pc = .ok (.putfield 13, 3)) (ho : RX3 = Y.nm.cls) (hini : Y.nm.name = "<init>") (hx : zpV g [3] a 1 (.int x) = some g') (kk : zEF G d K Y (pc + 3) lo st g' Q) : zEF G d K Y pc lo (.int x :: .ref a :: st) g Q := by
  obtain ⟨ci, fs, h1, h2, h3, h4⟩ := zpV_some hx
  simp only [List.mem_cons, List.not_mem_nil, or_false] at h2
  subst h4
  rcases h2 with rfl
  · exact ez_put (C := RX3) (Tt := TX3) (N := 3) (ty := .int) hd rfl 1 (by decide) ho q318 (Or.inl rfl) (Or.inr ⟨rfl, hini, ho⟩) (by decide +kernel) rfl rfl h1 h3 kk
theorem gX3_20 {x : Option Nat} (hd : decode Y.code pc = .ok (.getfield 20, 3)) (ho : RX3 = Y.nm.cls) (hx : zgR g [3] a 2 = some x) (kk : zEF G d K Y (pc + 3) lo (va_rf x :: st) g Q) : zEF G d K Y pc lo (.ref a :: st) g Q := by
  obtain ⟨ci, fs, h1, h2, h3⟩ := zgR_some hx
  simp only [List.mem_cons, List.not_mem_nil, or_false] at h2
  rcases h2 with rfl
  · exact ez_get (C := RX3) (Tt := TX3) (N := 3) hd rfl 2 (by decide) ho q319 (Or.inl rfl) h1 h3 kk
theorem pX3_20 {x : Option Nat} {g' : zS} (hd : decode Y.code pc = .ok (.putfield 20, 3)) (ho : RX3 = Y.nm.cls) (hini : Y.nm.name = "<init>") (hx : zpV g [3] a 2 (va_rf x) = some g') (kk : zEF G d K Y (pc + 3) lo st g' Q) : zEF G d K Y pc lo (va_rf x :: .ref a :: st) g Q := by
  obtain ⟨ci, fs, h1, h2, h3, h4⟩ := zpV_some hx
  simp only [List.mem_cons, List.not_mem_nil, or_false] at h2
  subst h4
  rcases h2 with rfl
  · exact ez_put (C := RX3) (Tt := TX3) (N := 3) (ty := (.object "java/lang/Object")) hd rfl 2 (by decide) ho q319 (Or.inl rfl) (Or.inr ⟨rfl, hini, ho⟩) (by decide +kernel) (by cases x <;> rfl) (by cases x <;> rfl) h1 h3 kk
theorem gX4_9 {x : Int32} (hd : decode Y.code pc = .ok (.getfield 9, 3)) (ho : RX4 = Y.nm.cls) (hx : zgI g [4, 5, 6, 7, 8, 9, 10, 11] a 0 = some x) (kk : zEF G d K Y (pc + 3) lo (.int x :: st) g Q) : zEF G d K Y pc lo (.ref a :: st) g Q := by
  obtain ⟨ci, fs, h1, h2, h3⟩ := zgI_some hx
  simp only [List.mem_cons, List.not_mem_nil, or_false] at h2
  rcases h2 with rfl | rfl | rfl | rfl | rfl | rfl | rfl | rfl
  · exact ez_get (C := RX5) (Tt := TX5) (N := 4) hd rfl 0 (by decide) ho q452 (Or.inl rfl) h1 h3 kk
  · exact ez_get (C := RX6) (Tt := TX6) (N := 4) hd rfl 0 (by decide) ho q452 (Or.inl rfl) h1 h3 kk
  · exact ez_get (C := RX7) (Tt := TX7) (N := 4) hd rfl 0 (by decide) ho q452 (Or.inl rfl) h1 h3 kk
  · exact ez_get (C := RX8) (Tt := TX8) (N := 4) hd rfl 0 (by decide) ho q452 (Or.inl rfl) h1 h3 kk
  · exact ez_get (C := RX9) (Tt := TX9) (N := 6) hd rfl 0 (by decide) ho q452 (Or.inl rfl) h1 h3 kk
  · exact ez_get (C := RX10) (Tt := TX10) (N := 6) hd rfl 0 (by decide) ho q452 (Or.inl rfl) h1 h3 kk
  · exact ez_get (C := RX11) (Tt := TX11) (N := 4) hd rfl 0 (by decide) ho q452 (Or.inl rfl) h1 h3 kk
  · exact ez_get (C := RX12) (Tt := TX12) (N := 5) hd rfl 0 (by decide) ho q452 (Or.inl rfl) h1 h3 kk
theorem pX4_9 {x : Int32} {g' : zS} (hd : decode Y.code pc = .ok (.putfield 9, 3)) (ho : RX4 = Y.nm.cls) (hini : Y.nm.name = "<init>") (hx : zpV g [4, 5, 6, 7, 8, 9, 10, 11] a 0 (.int x) = some g') (kk : zEF G d K Y (pc + 3) lo st g' Q) : zEF G d K Y pc lo (.int x :: .ref a :: st) g Q := by
  obtain ⟨ci, fs, h1, h2, h3, h4⟩ := zpV_some hx
  simp only [List.mem_cons, List.not_mem_nil, or_false] at h2
  subst h4
  rcases h2 with rfl | rfl | rfl | rfl | rfl | rfl | rfl | rfl
  · exact ez_put (C := RX5) (Tt := TX5) (N := 4) (ty := .int) hd rfl 0 (by decide) ho q452 (Or.inl rfl) (Or.inr ⟨rfl, hini, ho⟩) (by decide +kernel) rfl rfl h1 h3 kk
  · exact ez_put (C := RX6) (Tt := TX6) (N := 4) (ty := .int) hd rfl 0 (by decide) ho q452 (Or.inl rfl) (Or.inr ⟨rfl, hini, ho⟩) (by decide +kernel) rfl rfl h1 h3 kk
  · exact ez_put (C := RX7) (Tt := TX7) (N := 4) (ty := .int) hd rfl 0 (by decide) ho q452 (Or.inl rfl) (Or.inr ⟨rfl, hini, ho⟩) (by decide +kernel) rfl rfl h1 h3 kk
  · exact ez_put (C := RX8) (Tt := TX8) (N := 4) (ty := .int) hd rfl 0 (by decide) ho q452 (Or.inl rfl) (Or.inr ⟨rfl, hini, ho⟩) (by decide +kernel) rfl rfl h1 h3 kk
  · exact ez_put (C := RX9) (Tt := TX9) (N := 6) (ty := .int) hd rfl 0 (by decide) ho q452 (Or.inl rfl) (Or.inr ⟨rfl, hini, ho⟩) (by decide +kernel) rfl rfl h1 h3 kk
  · exact ez_put (C := RX10) (Tt := TX10) (N := 6) (ty := .int) hd rfl 0 (by decide) ho q452 (Or.inl rfl) (Or.inr ⟨rfl, hini, ho⟩) (by decide +kernel) rfl rfl h1 h3 kk
  · exact ez_put (C := RX11) (Tt := TX11) (N := 4) (ty := .int) hd rfl 0 (by decide) ho q452 (Or.inl rfl) (Or.inr ⟨rfl, hini, ho⟩) (by decide +kernel) rfl rfl h1 h3 kk
  · exact ez_put (C := RX12) (Tt := TX12) (N := 5) (ty := .int) hd rfl 0 (by decide) ho q452 (Or.inl rfl) (Or.inr ⟨rfl, hini, ho⟩) (by decide +kernel) rfl rfl h1 h3 kk
theorem gX4_15 {x : UInt32} (hd : decode Y.code pc = .ok (.getfield 15, 3)) (ho : RX4 = Y.nm.cls) (hx : zgF g [4, 5, 6, 7, 8, 9, 10, 11] a 1 = some x) (kk : zEF G d K Y (pc + 3) lo (.float x :: st) g Q) : zEF G d K Y pc lo (.ref a :: st) g Q := by
  obtain ⟨ci, fs, h1, h2, h3⟩ := zgF_some hx
  simp only [List.mem_cons, List.not_mem_nil, or_false] at h2
  rcases h2 with rfl | rfl | rfl | rfl | rfl | rfl | rfl | rfl
  · exact ez_get (C := RX5) (Tt := TX5) (N := 4) hd rfl 1 (by decide) ho q454 (Or.inl rfl) h1 h3 kk
  · exact ez_get (C := RX6) (Tt := TX6) (N := 4) hd rfl 1 (by decide) ho q454 (Or.inl rfl) h1 h3 kk
  · exact ez_get (C := RX7) (Tt := TX7) (N := 4) hd rfl 1 (by decide) ho q454 (Or.inl rfl) h1 h3 kk
  · exact ez_get (C := RX8) (Tt := TX8) (N := 4) hd rfl 1 (by decide) ho q454 (Or.inl rfl) h1 h3 kk
  · exact ez_get (C := RX9) (Tt := TX9) (N := 6) hd rfl 1 (by decide) ho q454 (Or.inl rfl) h1 h3 kk
  · exact ez_get (C := RX10) (Tt := TX10) (N := 6) hd rfl 1 (by decide) ho q454 (Or.inl rfl) h1 h3 kk
  · exact ez_get (C := RX11) (Tt := TX11) (N := 4) hd rfl 1 (by decide) ho q454 (Or.inl rfl) h1 h3 kk
  · exact ez_get (C := RX12) (Tt := TX12) (N := 5) hd rfl 1 (by decide) ho q454 (Or.inl rfl) h1 h3 kk
theorem pX4_15 {x : UInt32} {g' : zS} (hd : decode Y.code pc = .ok (.putfield 15, 3)) (ho : RX4 = Y.nm.cls) (hini : Y.nm.name = "<init>") (hx : zpV g [4, 5, 6, 7, 8, 9, 10, 11] a 1 (.float x) = some g') (kk : zEF G d K Y (pc + 3) lo st g' Q) : zEF G d K Y pc lo (.float x :: .ref a :: st) g Q := by
  obtain ⟨ci, fs, h1, h2, h3, h4⟩ := zpV_some hx
  simp only [List.mem_cons, List.not_mem_nil, or_false] at h2
  subst h4
  rcases h2 with rfl | rfl | rfl | rfl | rfl | rfl | rfl | rfl
  · exact ez_put (C := RX5) (Tt := TX5) (N := 4) (ty := .float) hd rfl 1 (by decide) ho q454 (Or.inl rfl) (Or.inr ⟨rfl, hini, ho⟩) (by decide +kernel) rfl rfl h1 h3 kk
  · exact ez_put (C := RX6) (Tt := TX6) (N := 4) (ty := .float) hd rfl 1 (by decide) ho q454 (Or.inl rfl) (Or.inr ⟨rfl, hini, ho⟩) (by decide +kernel) rfl rfl h1 h3 kk
  · exact ez_put (C := RX7) (Tt := TX7) (N := 4) (ty := .float) hd rfl 1 (by decide) ho q454 (Or.inl rfl) (Or.inr ⟨rfl, hini, ho⟩) (by decide +kernel) rfl rfl h1 h3 kk
  · exact ez_put (C := RX8) (Tt := TX8) (N := 4) (ty := .float) hd rfl 1 (by decide) ho q454 (Or.inl rfl) (Or.inr ⟨rfl, hini, ho⟩) (by decide +kernel) rfl rfl h1 h3 kk
  · exact ez_put (C := RX9) (Tt := TX9) (N := 6) (ty := .float) hd rfl 1 (by decide) ho q454 (Or.inl rfl) (Or.inr ⟨rfl, hini, ho⟩) (by decide +kernel) rfl rfl h1 h3 kk
  · exact ez_put (C := RX10) (Tt := TX10) (N := 6) (ty := .float) hd rfl 1 (by decide) ho q454 (Or.inl rfl) (Or.inr ⟨rfl, hini, ho⟩) (by decide +kernel) rfl rfl h1 h3 kk
  · exact ez_put (C := RX11) (Tt := TX11) (N := 4) (ty := .float) hd rfl 1 (by decide) ho q454 (Or.inl rfl) (Or.inr ⟨rfl, hini, ho⟩) (by decide +kernel) rfl rfl h1 h3 kk
  · exact ez_put (C := RX12) (Tt := TX12) (N := 5) (ty := .float) hd rfl 1 (by decide) ho q454 (Or.inl rfl) (Or.inr ⟨rfl, hini, ho⟩) (by decide +kernel) rfl rfl h1 h3 kk
theorem gX4_19 {x : Int32} (hd : decode Y.code pc = .ok (.getfield 19, 3)) (ho : RX4 = Y.nm.cls) (hx : zgI g [4, 5, 6, 7, 8, 9, 10, 11] a 2 = some x) (kk : zEF G d K Y (pc + 3) lo (.int x :: st) g Q) : zEF G d K Y pc lo (.ref a :: st) g Q := by
  obtain ⟨ci, fs, h1, h2, h3⟩ := zgI_some hx
  simp only [List.mem_cons, List.not_mem_nil, or_false] at h2
  rcases h2 with rfl | rfl | rfl | rfl | rfl | rfl | rfl | rfl
  · exact ez_get (C := RX5) (Tt := TX5) (N := 4) hd rfl 2 (by decide) ho q463 (Or.inl rfl) h1 h3 kk
  · exact ez_get (C := RX6) (Tt := TX6) (N := 4) hd rfl 2 (by decide) ho q463 (Or.inl rfl) h1 h3 kk
  · exact ez_get (C := RX7) (Tt := TX7) (N := 4) hd rfl 2 (by decide) ho q463 (Or.inl rfl) h1 h3 kk
  · exact ez_get (C := RX8) (Tt := TX8) (N := 4) hd rfl 2 (by decide) ho q463 (Or.inl rfl) h1 h3 kk
  · exact ez_get (C := RX9) (Tt := TX9) (N := 6) hd rfl 2 (by decide) ho q463 (Or.inl rfl) h1 h3 kk
  · exact ez_get (C := RX10) (Tt := TX10) (N := 6) hd rfl 2 (by decide) ho q463 (Or.inl rfl) h1 h3 kk
  · exact ez_get (C := RX11) (Tt := TX11) (N := 4) hd rfl 2 (by decide) ho q463 (Or.inl rfl) h1 h3 kk
  · exact ez_get (C := RX12) (Tt := TX12) (N := 5) hd rfl 2 (by decide) ho q463 (Or.inl rfl) h1 h3 kk
theorem pX4_19 {x : Int32} {g' : zS} (hd : decode Y.code pc = .ok (.putfield 19, 3)) (ho : RX4 = Y.nm.cls) (hini : Y.nm.name = "<init>") (hx : zpV g [4, 5, 6, 7, 8, 9, 10, 11] a 2 (.int x) = some g') (kk : zEF G d K Y (pc + 3) lo st g' Q) : zEF G d K Y pc lo (.int x :: .ref a :: st) g Q := by
  obtain ⟨ci, fs, h1, h2, h3, h4⟩ := zpV_some hx
  simp only [List.mem_cons, List.not_mem_nil, or_false] at h2
  subst h4
  rcases h2 with rfl | rfl | rfl | rfl | rfl | rfl | rfl | rfl
  · exact ez_put (C := RX5) (Tt := TX5) (N := 4) (ty := .int) hd rfl 2 (by decide) ho q463 (Or.inl rfl) (Or.inr ⟨rfl, hini, ho⟩) (by decide +kernel) rfl rfl h1 h3 kk
  · exact ez_put (C := RX6) (Tt := TX6) (N := 4) (ty := .int) hd rfl 2 (by decide) ho q463 (Or.inl rfl) (Or.inr ⟨rfl, hini, ho⟩) (by decide +kernel) rfl rfl h1 h3 kk
  · exact ez_put (C := RX7) (Tt := TX7) (N := 4) (ty := .int) hd rfl 2 (by decide) ho q463 (Or.inl rfl) (Or.inr ⟨rfl, hini, ho⟩) (by decide +kernel) rfl rfl h1 h3 kk
  · exact ez_put (C := RX8) (Tt := TX8) (N := 4) (ty := .int) hd rfl 2 (by decide) ho q463 (Or.inl rfl) (Or.inr ⟨rfl, hini, ho⟩) (by decide +kernel) rfl rfl h1 h3 kk
  · exact ez_put (C := RX9) (Tt := TX9) (N := 6) (ty := .int) hd rfl 2 (by decide) ho q463 (Or.inl rfl) (Or.inr ⟨rfl, hini, ho⟩) (by decide +kernel) rfl rfl h1 h3 kk
  · exact ez_put (C := RX10) (Tt := TX10) (N := 6) (ty := .int) hd rfl 2 (by decide) ho q463 (Or.inl rfl) (Or.inr ⟨rfl, hini, ho⟩) (by decide +kernel) rfl rfl h1 h3 kk
  · exact ez_put (C := RX11) (Tt := TX11) (N := 4) (ty := .int) hd rfl 2 (by decide) ho q463 (Or.inl rfl) (Or.inr ⟨rfl, hini, ho⟩) (by decide +kernel) rfl rfl h1 h3 kk
  · exact ez_put (C := RX12) (Tt := TX12) (N := 5) (ty := .int) hd rfl 2 (by decide) ho q463 (Or.inl rfl) (Or.inr ⟨rfl, hini, ho⟩) (by decide +kernel) rfl rfl h1 h3 kk
theorem gX4_26 {x : Int32} (hd : decode Y.code pc = .ok (.getfield 26, 3)) (ho : RX4 = Y.nm.cls) (hx : zgI g [4, 5, 6, 7, 8, 9, 10, 11] a 3 = some x) (kk : zEF G d K Y (pc + 3) lo (.int x :: st) g Q) : zEF G d K Y pc lo (.ref a :: st) g Q := by
  obtain ⟨ci, fs, h1, h2, h3⟩ := zgI_some hx
  simp only [List.mem_cons, List.not_mem_nil, or_false] at h2
  rcases h2 with rfl | rfl | rfl | rfl | rfl | rfl | rfl | rfl
  · exact ez_get (C := RX5) (Tt := TX5) (N := 4) hd rfl 3 (by decide) ho q468 (Or.inl rfl) h1 h3 kk
  · exact ez_get (C := RX6) (Tt := TX6) (N := 4) hd rfl 3 (by decide) ho q468 (Or.inl rfl) h1 h3 kk
  · exact ez_get (C := RX7) (Tt := TX7) (N := 4) hd rfl 3 (by decide) ho q468 (Or.inl rfl) h1 h3 kk
  · exact ez_get (C := RX8) (Tt := TX8) (N := 4) hd rfl 3 (by decide) ho q468 (Or.inl rfl) h1 h3 kk
  · exact ez_get (C := RX9) (Tt := TX9) (N := 6) hd rfl 3 (by decide) ho q468 (Or.inl rfl) h1 h3 kk
  · exact ez_get (C := RX10) (Tt := TX10) (N := 6) hd rfl 3 (by decide) ho q468 (Or.inl rfl) h1 h3 kk
  · exact ez_get (C := RX11) (Tt := TX11) (N := 4) hd rfl 3 (by decide) ho q468 (Or.inl rfl) h1 h3 kk
  · exact ez_get (C := RX12) (Tt := TX12) (N := 5) hd rfl 3 (by decide) ho q468 (Or.inl rfl) h1 h3 kk
theorem pX4_26 {x : Int32} {g' : zS} (hd : decode Y.code pc = .ok (.putfield 26, 3)) (ho : RX4 = Y.nm.cls) (hx : zpV g [4, 5, 6, 7, 8, 9, 10, 11] a 3 (.int x) = some g') (kk : zEF G d K Y (pc + 3) lo st g' Q) : zEF G d K Y pc lo (.int x :: .ref a :: st) g Q := by
  obtain ⟨ci, fs, h1, h2, h3, h4⟩ := zpV_some hx
  simp only [List.mem_cons, List.not_mem_nil, or_false] at h2
  subst h4
  rcases h2 with rfl | rfl | rfl | rfl | rfl | rfl | rfl | rfl
  · exact ez_put (C := RX5) (Tt := TX5) (N := 4) (ty := .int) hd rfl 3 (by decide) ho q468 (Or.inl rfl) (Or.inl rfl) (by decide +kernel) rfl rfl h1 h3 kk
  · exact ez_put (C := RX6) (Tt := TX6) (N := 4) (ty := .int) hd rfl 3 (by decide) ho q468 (Or.inl rfl) (Or.inl rfl) (by decide +kernel) rfl rfl h1 h3 kk
  · exact ez_put (C := RX7) (Tt := TX7) (N := 4) (ty := .int) hd rfl 3 (by decide) ho q468 (Or.inl rfl) (Or.inl rfl) (by decide +kernel) rfl rfl h1 h3 kk
  · exact ez_put (C := RX8) (Tt := TX8) (N := 4) (ty := .int) hd rfl 3 (by decide) ho q468 (Or.inl rfl) (Or.inl rfl) (by decide +kernel) rfl rfl h1 h3 kk
  · exact ez_put (C := RX9) (Tt := TX9) (N := 6) (ty := .int) hd rfl 3 (by decide) ho q468 (Or.inl rfl) (Or.inl rfl) (by decide +kernel) rfl rfl h1 h3 kk
  · exact ez_put (C := RX10) (Tt := TX10) (N := 6) (ty := .int) hd rfl 3 (by decide) ho q468 (Or.inl rfl) (Or.inl rfl) (by decide +kernel) rfl rfl h1 h3 kk
  · exact ez_put (C := RX11) (Tt := TX11) (N := 4) (ty := .int) hd rfl 3 (by decide) ho q468 (Or.inl rfl) (Or.inl rfl) (by decide +kernel) rfl rfl h1 h3 kk
  · exact ez_put (C := RX12) (Tt := TX12) (N := 5) (ty := .int) hd rfl 3 (by decide) ho q468 (Or.inl rfl) (Or.inl rfl) (by decide +kernel) rfl rfl h1 h3 kk
theorem gX5_7 {x : UInt32} (hd : decode Y.code pc = .ok (.getfield 7, 3)) (ho : RX5 = Y.nm.cls) (hx : zgF g [4, 5, 6] a 1 = some x) (kk : zEF G d K Y (pc + 3) lo (.float x :: st) g Q) : zEF G d K Y pc lo (.ref a :: st) g Q := by
  obtain ⟨ci, fs, h1, h2, h3⟩ := zgF_some hx
  simp only [List.mem_cons, List.not_mem_nil, or_false] at h2
  rcases h2 with rfl | rfl | rfl
  · exact ez_get (C := RX5) (Tt := TX5) (N := 4) hd rfl 1 (by decide) ho q457 (Or.inr q458) h1 h3 kk
  · exact ez_get (C := RX6) (Tt := TX6) (N := 4) hd rfl 1 (by decide) ho q457 (Or.inr q458) h1 h3 kk
  · exact ez_get (C := RX7) (Tt := TX7) (N := 4) hd rfl 1 (by decide) ho q457 (Or.inr q458) h1 h3 kk
theorem gX8_7 {x : Int32} (hd : decode Y.code pc = .ok (.getfield 7, 3)) (ho : RX8 = Y.nm.cls) (hx : zgI g [7] a 2 = some x) (kk : zEF G d K Y (pc + 3) lo (.int x :: st) g Q) : zEF G d K Y pc lo (.ref a :: st) g Q := by
  obtain ⟨ci, fs, h1, h2, h3⟩ := zgI_some hx
  simp only [List.mem_cons, List.not_mem_nil, or_false] at h2
  rcases h2 with rfl
  · exact ez_get (C := RX8) (Tt := TX8) (N := 4) hd rfl 2 (by decide) ho q464 (Or.inr q465) h1 h3 kk
theorem gX9_13 {x : UInt32} (hd : decode Y.code pc = .ok (.getfield 13, 3)) (ho : RX9 = Y.nm.cls) (hx : zgF g [8, 9] a 1 = some x) (kk : zEF G d K Y (pc + 3) lo (.float x :: st) g Q) : zEF G d K Y pc lo (.ref a :: st) g Q := by
  obtain ⟨ci, fs, h1, h2, h3⟩ := zgF_some hx
  simp only [List.mem_cons, List.not_mem_nil, or_false] at h2
  rcases h2 with rfl | rfl
  · exact ez_get (C := RX9) (Tt := TX9) (N := 6) hd rfl 1 (by decide) ho q455 (Or.inr q456) h1 h3 kk
  · exact ez_get (C := RX10) (Tt := TX10) (N := 6) hd rfl 1 (by decide) ho q455 (Or.inr q456) h1 h3 kk
theorem gX9_27 {x : Int32} (hd : decode Y.code pc = .ok (.getfield 27, 3)) (ho : RX9 = Y.nm.cls) (hx : zgI g [8, 9] a 2 = some x) (kk : zEF G d K Y (pc + 3) lo (.int x :: st) g Q) : zEF G d K Y pc lo (.ref a :: st) g Q := by
  obtain ⟨ci, fs, h1, h2, h3⟩ := zgI_some hx
  simp only [List.mem_cons, List.not_mem_nil, or_false] at h2
  rcases h2 with rfl | rfl
  · exact ez_get (C := RX9) (Tt := TX9) (N := 6) hd rfl 2 (by decide) ho q466 (Or.inr q467) h1 h3 kk
  · exact ez_get (C := RX10) (Tt := TX10) (N := 6) hd rfl 2 (by decide) ho q466 (Or.inr q467) h1 h3 kk
theorem gX9_7 {x : Option Nat} (hd : decode Y.code pc = .ok (.getfield 7, 3)) (ho : RX9 = Y.nm.cls) (hx : zgR g [8, 9] a 4 = some x) (kk : zEF G d K Y (pc + 3) lo (va_rf x :: st) g Q) : zEF G d K Y pc lo (.ref a :: st) g Q := by
  obtain ⟨ci, fs, h1, h2, h3⟩ := zgR_some hx
  simp only [List.mem_cons, List.not_mem_nil, or_false] at h2
  rcases h2 with rfl | rfl
  · exact ez_get (C := RX9) (Tt := TX9) (N := 6) hd rfl 4 (by decide) ho q517 (Or.inl rfl) h1 h3 kk
  · exact ez_get (C := RX10) (Tt := TX10) (N := 6) hd rfl 4 (by decide) ho q517 (Or.inl rfl) h1 h3 kk
theorem pX9_7 {x : Option Nat} {g' : zS} (hd : decode Y.code pc = .ok (.putfield 7, 3)) (ho : RX9 = Y.nm.cls) (hx : zpV g [8, 9] a 4 (va_rf x) = some g') (kk : zEF G d K Y (pc + 3) lo st g' Q) : zEF G d K Y pc lo (va_rf x :: .ref a :: st) g Q := by
  obtain ⟨ci, fs, h1, h2, h3, h4⟩ := zpV_some hx
  simp only [List.mem_cons, List.not_mem_nil, or_false] at h2
  subst h4
  rcases h2 with rfl | rfl
  · exact ez_put (C := RX9) (Tt := TX9) (N := 6) (ty := (.array .float)) hd rfl 4 (by decide) ho q517 (Or.inl rfl) (Or.inl rfl) (by decide +kernel) (by cases x <;> rfl) (by cases x <;> rfl) h1 h3 kk
  · exact ez_put (C := RX10) (Tt := TX10) (N := 6) (ty := (.array .float)) hd rfl 4 (by decide) ho q517 (Or.inl rfl) (Or.inl rfl) (by decide +kernel) (by cases x <;> rfl) (by cases x <;> rfl) h1 h3 kk
theorem gX9_17 {x : Int32} (hd : decode Y.code pc = .ok (.getfield 17, 3)) (ho : RX9 = Y.nm.cls) (hx : zgI g [8, 9] a 5 = some x) (kk : zEF G d K Y (pc + 3) lo (.int x :: st) g Q) : zEF G d K Y pc lo (.ref a :: st) g Q := by
  obtain ⟨ci, fs, h1, h2, h3⟩ := zgI_some hx
  simp only [List.mem_cons, List.not_mem_nil, or_false] at h2
  rcases h2 with rfl | rfl
  · exact ez_get (C := RX9) (Tt := TX9) (N := 6) hd rfl 5 (by decide) ho q519 (Or.inl rfl) h1 h3 kk
  · exact ez_get (C := RX10) (Tt := TX10) (N := 6) hd rfl 5 (by decide) ho q519 (Or.inl rfl) h1 h3 kk
theorem pX9_17 {x : Int32} {g' : zS} (hd : decode Y.code pc = .ok (.putfield 17, 3)) (ho : RX9 = Y.nm.cls) (hx : zpV g [8, 9] a 5 (.int x) = some g') (kk : zEF G d K Y (pc + 3) lo st g' Q) : zEF G d K Y pc lo (.int x :: .ref a :: st) g Q := by
  obtain ⟨ci, fs, h1, h2, h3, h4⟩ := zpV_some hx
  simp only [List.mem_cons, List.not_mem_nil, or_false] at h2
  subst h4
  rcases h2 with rfl | rfl
  · exact ez_put (C := RX9) (Tt := TX9) (N := 6) (ty := .int) hd rfl 5 (by decide) ho q519 (Or.inl rfl) (Or.inl rfl) (by decide +kernel) rfl rfl h1 h3 kk
  · exact ez_put (C := RX10) (Tt := TX10) (N := 6) (ty := .int) hd rfl 5 (by decide) ho q519 (Or.inl rfl) (Or.inl rfl) (by decide +kernel) rfl rfl h1 h3 kk
theorem gX0_211 {x : Int32} (hd : decode Y.code pc = .ok (.getfield 211, 3)) (ho : RX0 = Y.nm.cls) (hx : zgI g [1] a 0 = some x) (kk : zEF G d K Y (pc + 3) lo (.int x :: st) g Q) : zEF G d K Y pc lo (.ref a :: st) g Q := by
  obtain ⟨ci, fs, h1, h2, h3⟩ := zgI_some hx
  simp only [List.mem_cons, List.not_mem_nil, or_false] at h2
  rcases h2 with rfl
  · exact ez_get (C := RX1) (Tt := TX1) (N := 14) hd rfl 0 (by decide) ho q101 (Or.inl rfl) h1 h3 kk
theorem pX0_211 {x : Int32} {g' : zS} (hd : decode Y.code pc = .ok (.putfield 211, 3)) (ho : RX0 = Y.nm.cls) (hb : zbl x) (hx : zpV g [1] a 0 (.int x) = some g') (kk : zEF G d K Y (pc + 3) lo st g' Q) : zEF G d K Y pc lo (.int x :: .ref a :: st) g Q := by
  obtain ⟨ci, fs, h1, h2, h3, h4⟩ := zpV_some hx
  simp only [List.mem_cons, List.not_mem_nil, or_false] at h2
  subst h4
  rcases h2 with rfl
  · exact ez_put (C := RX1) (Tt := TX1) (N := 14) (ty := .boolean) hd rfl 0 (by decide) ho q101 (Or.inl rfl) (Or.inl rfl) (by decide +kernel) hb.1 hb.2 h1 h3 kk
theorem gX0_192 {x : Int32} (hd : decode Y.code pc = .ok (.getfield 192, 3)) (ho : RX0 = Y.nm.cls) (hx : zgI g [1] a 1 = some x) (kk : zEF G d K Y (pc + 3) lo (.int x :: st) g Q) : zEF G d K Y pc lo (.ref a :: st) g Q := by
  obtain ⟨ci, fs, h1, h2, h3⟩ := zgI_some hx
  simp only [List.mem_cons, List.not_mem_nil, or_false] at h2
  rcases h2 with rfl
  · exact ez_get (C := RX1) (Tt := TX1) (N := 14) hd rfl 1 (by decide) ho q103 (Or.inl rfl) h1 h3 kk
theorem pX0_192 {x : Int32} {g' : zS} (hd : decode Y.code pc = .ok (.putfield 192, 3)) (ho : RX0 = Y.nm.cls) (hx : zpV g [1] a 1 (.int x) = some g') (kk : zEF G d K Y (pc + 3) lo st g' Q) : zEF G d K Y pc lo (.int x :: .ref a :: st) g Q := by
  obtain ⟨ci, fs, h1, h2, h3, h4⟩ := zpV_some hx
  simp only [List.mem_cons, List.not_mem_nil, or_false] at h2
  subst h4
  rcases h2 with rfl
  · exact ez_put (C := RX1) (Tt := TX1) (N := 14) (ty := .int) hd rfl 1 (by decide) ho q103 (Or.inl rfl) (Or.inl rfl) (by decide +kernel) rfl rfl h1 h3 kk
theorem gX0_195 {x : Int32} (hd : decode Y.code pc = .ok (.getfield 195, 3)) (ho : RX0 = Y.nm.cls) (hx : zgI g [1] a 2 = some x) (kk : zEF G d K Y (pc + 3) lo (.int x :: st) g Q) : zEF G d K Y pc lo (.ref a :: st) g Q := by
  obtain ⟨ci, fs, h1, h2, h3⟩ := zgI_some hx
  simp only [List.mem_cons, List.not_mem_nil, or_false] at h2
  rcases h2 with rfl
  · exact ez_get (C := RX1) (Tt := TX1) (N := 14) hd rfl 2 (by decide) ho q104 (Or.inl rfl) h1 h3 kk
theorem pX0_195 {x : Int32} {g' : zS} (hd : decode Y.code pc = .ok (.putfield 195, 3)) (ho : RX0 = Y.nm.cls) (hx : zpV g [1] a 2 (.int x) = some g') (kk : zEF G d K Y (pc + 3) lo st g' Q) : zEF G d K Y pc lo (.int x :: .ref a :: st) g Q := by
  obtain ⟨ci, fs, h1, h2, h3, h4⟩ := zpV_some hx
  simp only [List.mem_cons, List.not_mem_nil, or_false] at h2
  subst h4
  rcases h2 with rfl
  · exact ez_put (C := RX1) (Tt := TX1) (N := 14) (ty := .int) hd rfl 2 (by decide) ho q104 (Or.inl rfl) (Or.inl rfl) (by decide +kernel) rfl rfl h1 h3 kk
theorem gX0_198 {x : Int32} (hd : decode Y.code pc = .ok (.getfield 198, 3)) (ho : RX0 = Y.nm.cls) (hx : zgI g [1] a 3 = some x) (kk : zEF G d K Y (pc + 3) lo (.int x :: st) g Q) : zEF G d K Y pc lo (.ref a :: st) g Q := by
  obtain ⟨ci, fs, h1, h2, h3⟩ := zgI_some hx
  simp only [List.mem_cons, List.not_mem_nil, or_false] at h2
  rcases h2 with rfl
  · exact ez_get (C := RX1) (Tt := TX1) (N := 14) hd rfl 3 (by decide) ho q105 (Or.inl rfl) h1 h3 kk
theorem pX0_198 {x : Int32} {g' : zS} (hd : decode Y.code pc = .ok (.putfield 198, 3)) (ho : RX0 = Y.nm.cls) (hb : zbl x) (hx : zpV g [1] a 3 (.int x) = some g') (kk : zEF G d K Y (pc + 3) lo st g' Q) : zEF G d K Y pc lo (.int x :: .ref a :: st) g Q := by
  obtain ⟨ci, fs, h1, h2, h3, h4⟩ := zpV_some hx
  simp only [List.mem_cons, List.not_mem_nil, or_false] at h2
  subst h4
  rcases h2 with rfl
  · exact ez_put (C := RX1) (Tt := TX1) (N := 14) (ty := .boolean) hd rfl 3 (by decide) ho q105 (Or.inl rfl) (Or.inl rfl) (by decide +kernel) hb.1 hb.2 h1 h3 kk
theorem gX0_207 {x : UInt32} (hd : decode Y.code pc = .ok (.getfield 207, 3)) (ho : RX0 = Y.nm.cls) (hx : zgF g [1] a 4 = some x) (kk : zEF G d K Y (pc + 3) lo (.float x :: st) g Q) : zEF G d K Y pc lo (.ref a :: st) g Q := by
  obtain ⟨ci, fs, h1, h2, h3⟩ := zgF_some hx
  simp only [List.mem_cons, List.not_mem_nil, or_false] at h2
  rcases h2 with rfl
  · exact ez_get (C := RX1) (Tt := TX1) (N := 14) hd rfl 4 (by decide) ho q107 (Or.inl rfl) h1 h3 kk
theorem pX0_207 {x : UInt32} {g' : zS} (hd : decode Y.code pc = .ok (.putfield 207, 3)) (ho : RX0 = Y.nm.cls) (hx : zpV g [1] a 4 (.float x) = some g') (kk : zEF G d K Y (pc + 3) lo st g' Q) : zEF G d K Y pc lo (.float x :: .ref a :: st) g Q := by
  obtain ⟨ci, fs, h1, h2, h3, h4⟩ := zpV_some hx
  simp only [List.mem_cons, List.not_mem_nil, or_false] at h2
  subst h4
  rcases h2 with rfl
  · exact ez_put (C := RX1) (Tt := TX1) (N := 14) (ty := .float) hd rfl 4 (by decide) ho q107 (Or.inl rfl) (Or.inl rfl) (by decide +kernel) rfl rfl h1 h3 kk
theorem gX0_201 {x : Int32} (hd : decode Y.code pc = .ok (.getfield 201, 3)) (ho : RX0 = Y.nm.cls) (hx : zgI g [1] a 5 = some x) (kk : zEF G d K Y (pc + 3) lo (.int x :: st) g Q) : zEF G d K Y pc lo (.ref a :: st) g Q := by
  obtain ⟨ci, fs, h1, h2, h3⟩ := zgI_some hx
  simp only [List.mem_cons, List.not_mem_nil, or_false] at h2
  rcases h2 with rfl
  · exact ez_get (C := RX1) (Tt := TX1) (N := 14) hd rfl 5 (by decide) ho q108 (Or.inl rfl) h1 h3 kk
theorem pX0_201 {x : Int32} {g' : zS} (hd : decode Y.code pc = .ok (.putfield 201, 3)) (ho : RX0 = Y.nm.cls) (hb : zbl x) (hx : zpV g [1] a 5 (.int x) = some g') (kk : zEF G d K Y (pc + 3) lo st g' Q) : zEF G d K Y pc lo (.int x :: .ref a :: st) g Q := by
  obtain ⟨ci, fs, h1, h2, h3, h4⟩ := zpV_some hx
  simp only [List.mem_cons, List.not_mem_nil, or_false] at h2
  subst h4
  rcases h2 with rfl
  · exact ez_put (C := RX1) (Tt := TX1) (N := 14) (ty := .boolean) hd rfl 5 (by decide) ho q108 (Or.inl rfl) (Or.inl rfl) (by decide +kernel) hb.1 hb.2 h1 h3 kk
theorem gX0_204 {x : Option Nat} (hd : decode Y.code pc = .ok (.getfield 204, 3)) (ho : RX0 = Y.nm.cls) (hx : zgR g [1] a 6 = some x) (kk : zEF G d K Y (pc + 3) lo (va_rf x :: st) g Q) : zEF G d K Y pc lo (.ref a :: st) g Q := by
  obtain ⟨ci, fs, h1, h2, h3⟩ := zgR_some hx
  simp only [List.mem_cons, List.not_mem_nil, or_false] at h2
  rcases h2 with rfl
  · exact ez_get (C := RX1) (Tt := TX1) (N := 14) hd rfl 6 (by decide) ho q110 (Or.inl rfl) h1 h3 kk
theorem pX0_204 {x : Option Nat} {g' : zS} (hd : decode Y.code pc = .ok (.putfield 204, 3)) (ho : RX0 = Y.nm.cls) (hx : zpV g [1] a 6 (va_rf x) = some g') (kk : zEF G d K Y (pc + 3) lo st g' Q) : zEF G d K Y pc lo (va_rf x :: .ref a :: st) g Q := by
  obtain ⟨ci, fs, h1, h2, h3, h4⟩ := zpV_some hx
  simp only [List.mem_cons, List.not_mem_nil, or_false] at h2
  subst h4
  rcases h2 with rfl
  · exact ez_put (C := RX1) (Tt := TX1) (N := 14) (ty := (.array (.object "ScoreThreads$Plug"))) hd rfl 6 (by decide) ho q110 (Or.inl rfl) (Or.inl rfl) (by decide +kernel) (by cases x <;> rfl) (by cases x <;> rfl) h1 h3 kk
theorem gX0_232 {x : Int32} (hd : decode Y.code pc = .ok (.getfield 232, 3)) (ho : RX0 = Y.nm.cls) (hx : zgI g [1] a 7 = some x) (kk : zEF G d K Y (pc + 3) lo (.int x :: st) g Q) : zEF G d K Y pc lo (.ref a :: st) g Q := by
  obtain ⟨ci, fs, h1, h2, h3⟩ := zgI_some hx
  simp only [List.mem_cons, List.not_mem_nil, or_false] at h2
  rcases h2 with rfl
  · exact ez_get (C := RX1) (Tt := TX1) (N := 14) hd rfl 7 (by decide) ho q111 (Or.inl rfl) h1 h3 kk
theorem pX0_232 {x : Int32} {g' : zS} (hd : decode Y.code pc = .ok (.putfield 232, 3)) (ho : RX0 = Y.nm.cls) (hx : zpV g [1] a 7 (.int x) = some g') (kk : zEF G d K Y (pc + 3) lo st g' Q) : zEF G d K Y pc lo (.int x :: .ref a :: st) g Q := by
  obtain ⟨ci, fs, h1, h2, h3, h4⟩ := zpV_some hx
  simp only [List.mem_cons, List.not_mem_nil, or_false] at h2
  subst h4
  rcases h2 with rfl
  · exact ez_put (C := RX1) (Tt := TX1) (N := 14) (ty := .int) hd rfl 7 (by decide) ho q111 (Or.inl rfl) (Or.inl rfl) (by decide +kernel) rfl rfl h1 h3 kk
theorem gX0_235 {x : Int32} (hd : decode Y.code pc = .ok (.getfield 235, 3)) (ho : RX0 = Y.nm.cls) (hx : zgI g [1] a 8 = some x) (kk : zEF G d K Y (pc + 3) lo (.int x :: st) g Q) : zEF G d K Y pc lo (.ref a :: st) g Q := by
  obtain ⟨ci, fs, h1, h2, h3⟩ := zgI_some hx
  simp only [List.mem_cons, List.not_mem_nil, or_false] at h2
  rcases h2 with rfl
  · exact ez_get (C := RX1) (Tt := TX1) (N := 14) hd rfl 8 (by decide) ho q113 (Or.inl rfl) h1 h3 kk
theorem pX0_235 {x : Int32} {g' : zS} (hd : decode Y.code pc = .ok (.putfield 235, 3)) (ho : RX0 = Y.nm.cls) (hx : zpV g [1] a 8 (.int x) = some g') (kk : zEF G d K Y (pc + 3) lo st g' Q) : zEF G d K Y pc lo (.int x :: .ref a :: st) g Q := by
  obtain ⟨ci, fs, h1, h2, h3, h4⟩ := zpV_some hx
  simp only [List.mem_cons, List.not_mem_nil, or_false] at h2
  subst h4
  rcases h2 with rfl
  · exact ez_put (C := RX1) (Tt := TX1) (N := 14) (ty := .int) hd rfl 8 (by decide) ho q113 (Or.inl rfl) (Or.inl rfl) (by decide +kernel) rfl rfl h1 h3 kk
theorem gX0_287 {x : Option Nat} (hd : decode Y.code pc = .ok (.getfield 287, 3)) (ho : RX0 = Y.nm.cls) (hx : zgR g [1] a 9 = some x) (kk : zEF G d K Y (pc + 3) lo (va_rf x :: st) g Q) : zEF G d K Y pc lo (.ref a :: st) g Q := by
  obtain ⟨ci, fs, h1, h2, h3⟩ := zgR_some hx
  simp only [List.mem_cons, List.not_mem_nil, or_false] at h2
  rcases h2 with rfl
  · exact ez_get (C := RX1) (Tt := TX1) (N := 14) hd rfl 9 (by decide) ho q115 (Or.inl rfl) h1 h3 kk
theorem pX0_287 {x : Option Nat} {g' : zS} (hd : decode Y.code pc = .ok (.putfield 287, 3)) (ho : RX0 = Y.nm.cls) (hx : zpV g [1] a 9 (va_rf x) = some g') (kk : zEF G d K Y (pc + 3) lo st g' Q) : zEF G d K Y pc lo (va_rf x :: .ref a :: st) g Q := by
  obtain ⟨ci, fs, h1, h2, h3, h4⟩ := zpV_some hx
  simp only [List.mem_cons, List.not_mem_nil, or_false] at h2
  subst h4
  rcases h2 with rfl
  · exact ez_put (C := RX1) (Tt := TX1) (N := 14) (ty := (.array .float)) hd rfl 9 (by decide) ho q115 (Or.inl rfl) (Or.inl rfl) (by decide +kernel) (by cases x <;> rfl) (by cases x <;> rfl) h1 h3 kk
theorem gX0_290 {x : Option Nat} (hd : decode Y.code pc = .ok (.getfield 290, 3)) (ho : RX0 = Y.nm.cls) (hx : zgR g [1] a 10 = some x) (kk : zEF G d K Y (pc + 3) lo (va_rf x :: st) g Q) : zEF G d K Y pc lo (.ref a :: st) g Q := by
  obtain ⟨ci, fs, h1, h2, h3⟩ := zgR_some hx
  simp only [List.mem_cons, List.not_mem_nil, or_false] at h2
  rcases h2 with rfl
  · exact ez_get (C := RX1) (Tt := TX1) (N := 14) hd rfl 10 (by decide) ho q117 (Or.inl rfl) h1 h3 kk
theorem pX0_290 {x : Option Nat} {g' : zS} (hd : decode Y.code pc = .ok (.putfield 290, 3)) (ho : RX0 = Y.nm.cls) (hx : zpV g [1] a 10 (va_rf x) = some g') (kk : zEF G d K Y (pc + 3) lo st g' Q) : zEF G d K Y pc lo (va_rf x :: .ref a :: st) g Q := by
  obtain ⟨ci, fs, h1, h2, h3, h4⟩ := zpV_some hx
  simp only [List.mem_cons, List.not_mem_nil, or_false] at h2
  subst h4
  rcases h2 with rfl
  · exact ez_put (C := RX1) (Tt := TX1) (N := 14) (ty := (.array .float)) hd rfl 10 (by decide) ho q117 (Or.inl rfl) (Or.inl rfl) (by decide +kernel) (by cases x <;> rfl) (by cases x <;> rfl) h1 h3 kk
theorem gX0_238 {x : Int32} (hd : decode Y.code pc = .ok (.getfield 238, 3)) (ho : RX0 = Y.nm.cls) (hx : zgI g [1] a 11 = some x) (kk : zEF G d K Y (pc + 3) lo (.int x :: st) g Q) : zEF G d K Y pc lo (.ref a :: st) g Q := by
  obtain ⟨ci, fs, h1, h2, h3⟩ := zgI_some hx
  simp only [List.mem_cons, List.not_mem_nil, or_false] at h2
  rcases h2 with rfl
  · exact ez_get (C := RX1) (Tt := TX1) (N := 14) hd rfl 11 (by decide) ho q118 (Or.inl rfl) h1 h3 kk
theorem pX0_238 {x : Int32} {g' : zS} (hd : decode Y.code pc = .ok (.putfield 238, 3)) (ho : RX0 = Y.nm.cls) (hx : zpV g [1] a 11 (.int x) = some g') (kk : zEF G d K Y (pc + 3) lo st g' Q) : zEF G d K Y pc lo (.int x :: .ref a :: st) g Q := by
  obtain ⟨ci, fs, h1, h2, h3, h4⟩ := zpV_some hx
  simp only [List.mem_cons, List.not_mem_nil, or_false] at h2
  subst h4
  rcases h2 with rfl
  · exact ez_put (C := RX1) (Tt := TX1) (N := 14) (ty := .int) hd rfl 11 (by decide) ho q118 (Or.inl rfl) (Or.inl rfl) (by decide +kernel) rfl rfl h1 h3 kk
theorem gX0_274 {x : Option Nat} (hd : decode Y.code pc = .ok (.getfield 274, 3)) (ho : RX0 = Y.nm.cls) (hx : zgR g [1] a 12 = some x) (kk : zEF G d K Y (pc + 3) lo (va_rf x :: st) g Q) : zEF G d K Y pc lo (.ref a :: st) g Q := by
  obtain ⟨ci, fs, h1, h2, h3⟩ := zgR_some hx
  simp only [List.mem_cons, List.not_mem_nil, or_false] at h2
  rcases h2 with rfl
  · exact ez_get (C := RX1) (Tt := TX1) (N := 14) hd rfl 12 (by decide) ho q120 (Or.inl rfl) h1 h3 kk
theorem gX0_277 {x : Option Nat} (hd : decode Y.code pc = .ok (.getfield 277, 3)) (ho : RX0 = Y.nm.cls) (hx : zgR g [1] a 13 = some x) (kk : zEF G d K Y (pc + 3) lo (va_rf x :: st) g Q) : zEF G d K Y pc lo (.ref a :: st) g Q := by
  obtain ⟨ci, fs, h1, h2, h3⟩ := zgR_some hx
  simp only [List.mem_cons, List.not_mem_nil, or_false] at h2
  rcases h2 with rfl
  · exact ez_get (C := RX1) (Tt := TX1) (N := 14) hd rfl 13 (by decide) ho q122 (Or.inl rfl) h1 h3 kk
theorem gX0_31 {x : Option Nat} (hd : decode Y.code pc = .ok (.getfield 31, 3)) (ho : RX0 = Y.nm.cls) (hx : zgR g [0] a 0 = some x) (kk : zEF G d K Y (pc + 3) lo (va_rf x :: st) g Q) : zEF G d K Y pc lo (.ref a :: st) g Q := by
  obtain ⟨ci, fs, h1, h2, h3⟩ := zgR_some hx
  simp only [List.mem_cons, List.not_mem_nil, or_false] at h2
  rcases h2 with rfl
  · exact ez_get (C := RX0) (Tt := TX0) (N := 20) hd rfl 0 (by decide) ho q154 (Or.inl rfl) h1 h3 kk
theorem pX0_31 {x : Option Nat} {g' : zS} (hd : decode Y.code pc = .ok (.putfield 31, 3)) (ho : RX0 = Y.nm.cls) (hini : Y.nm.name = "<init>") (hx : zpV g [0] a 0 (va_rf x) = some g') (kk : zEF G d K Y (pc + 3) lo st g' Q) : zEF G d K Y pc lo (va_rf x :: .ref a :: st) g Q := by
  obtain ⟨ci, fs, h1, h2, h3, h4⟩ := zpV_some hx
  simp only [List.mem_cons, List.not_mem_nil, or_false] at h2
  subst h4
  rcases h2 with rfl
  · exact ez_put (C := RX0) (Tt := TX0) (N := 20) (ty := (.array (.object "ScoreThreads$Clip"))) hd rfl 0 (by decide) ho q154 (Or.inl rfl) (Or.inr ⟨rfl, hini, ho⟩) (by decide +kernel) (by cases x <;> rfl) (by cases x <;> rfl) h1 h3 kk
theorem gX0_85 {x : Int32} (hd : decode Y.code pc = .ok (.getfield 85, 3)) (ho : RX0 = Y.nm.cls) (hx : zgI g [0] a 1 = some x) (kk : zEF G d K Y (pc + 3) lo (.int x :: st) g Q) : zEF G d K Y pc lo (.ref a :: st) g Q := by
  obtain ⟨ci, fs, h1, h2, h3⟩ := zgI_some hx
  simp only [List.mem_cons, List.not_mem_nil, or_false] at h2
  rcases h2 with rfl
  · exact ez_get (C := RX0) (Tt := TX0) (N := 20) hd rfl 1 (by decide) ho q155 (Or.inl rfl) h1 h3 kk
theorem pX0_85 {x : Int32} {g' : zS} (hd : decode Y.code pc = .ok (.putfield 85, 3)) (ho : RX0 = Y.nm.cls) (hx : zpV g [0] a 1 (.int x) = some g') (kk : zEF G d K Y (pc + 3) lo st g' Q) : zEF G d K Y pc lo (.int x :: .ref a :: st) g Q := by
  obtain ⟨ci, fs, h1, h2, h3, h4⟩ := zpV_some hx
  simp only [List.mem_cons, List.not_mem_nil, or_false] at h2
  subst h4
  rcases h2 with rfl
  · exact ez_put (C := RX0) (Tt := TX0) (N := 20) (ty := .int) hd rfl 1 (by decide) ho q155 (Or.inl rfl) (Or.inl rfl) (by decide +kernel) rfl rfl h1 h3 kk
theorem gX0_49 {x : Option Nat} (hd : decode Y.code pc = .ok (.getfield 49, 3)) (ho : RX0 = Y.nm.cls) (hx : zgR g [0] a 2 = some x) (kk : zEF G d K Y (pc + 3) lo (va_rf x :: st) g Q) : zEF G d K Y pc lo (.ref a :: st) g Q := by
  obtain ⟨ci, fs, h1, h2, h3⟩ := zgR_some hx
  simp only [List.mem_cons, List.not_mem_nil, or_false] at h2
  rcases h2 with rfl
  · exact ez_get (C := RX0) (Tt := TX0) (N := 20) hd rfl 2 (by decide) ho q156 (Or.inl rfl) h1 h3 kk
theorem pX0_49 {x : Option Nat} {g' : zS} (hd : decode Y.code pc = .ok (.putfield 49, 3)) (ho : RX0 = Y.nm.cls) (hini : Y.nm.name = "<init>") (hx : zpV g [0] a 2 (va_rf x) = some g') (kk : zEF G d K Y (pc + 3) lo st g' Q) : zEF G d K Y pc lo (va_rf x :: .ref a :: st) g Q := by
  obtain ⟨ci, fs, h1, h2, h3, h4⟩ := zpV_some hx
  simp only [List.mem_cons, List.not_mem_nil, or_false] at h2
  subst h4
  rcases h2 with rfl
  · exact ez_put (C := RX0) (Tt := TX0) (N := 20) (ty := (.array (.object "ScoreThreads$Plug"))) hd rfl 2 (by decide) ho q156 (Or.inl rfl) (Or.inr ⟨rfl, hini, ho⟩) (by decide +kernel) (by cases x <;> rfl) (by cases x <;> rfl) h1 h3 kk
theorem gX0_88 {x : Int32} (hd : decode Y.code pc = .ok (.getfield 88, 3)) (ho : RX0 = Y.nm.cls) (hx : zgI g [0] a 3 = some x) (kk : zEF G d K Y (pc + 3) lo (.int x :: st) g Q) : zEF G d K Y pc lo (.ref a :: st) g Q := by
  obtain ⟨ci, fs, h1, h2, h3⟩ := zgI_some hx
  simp only [List.mem_cons, List.not_mem_nil, or_false] at h2
  rcases h2 with rfl
  · exact ez_get (C := RX0) (Tt := TX0) (N := 20) hd rfl 3 (by decide) ho q157 (Or.inl rfl) h1 h3 kk
theorem pX0_88 {x : Int32} {g' : zS} (hd : decode Y.code pc = .ok (.putfield 88, 3)) (ho : RX0 = Y.nm.cls) (hx : zpV g [0] a 3 (.int x) = some g') (kk : zEF G d K Y (pc + 3) lo st g' Q) : zEF G d K Y pc lo (.int x :: .ref a :: st) g Q := by
  obtain ⟨ci, fs, h1, h2, h3, h4⟩ := zpV_some hx
  simp only [List.mem_cons, List.not_mem_nil, or_false] at h2
  subst h4
  rcases h2 with rfl
  · exact ez_put (C := RX0) (Tt := TX0) (N := 20) (ty := .int) hd rfl 3 (by decide) ho q157 (Or.inl rfl) (Or.inl rfl) (by decide +kernel) rfl rfl h1 h3 kk
theorem gX0_55 {x : Option Nat} (hd : decode Y.code pc = .ok (.getfield 55, 3)) (ho : RX0 = Y.nm.cls) (hx : zgR g [0] a 4 = some x) (kk : zEF G d K Y (pc + 3) lo (va_rf x :: st) g Q) : zEF G d K Y pc lo (.ref a :: st) g Q := by
  obtain ⟨ci, fs, h1, h2, h3⟩ := zgR_some hx
  simp only [List.mem_cons, List.not_mem_nil, or_false] at h2
  rcases h2 with rfl
  · exact ez_get (C := RX0) (Tt := TX0) (N := 20) hd rfl 4 (by decide) ho q158 (Or.inl rfl) h1 h3 kk
theorem pX0_55 {x : Option Nat} {g' : zS} (hd : decode Y.code pc = .ok (.putfield 55, 3)) (ho : RX0 = Y.nm.cls) (hini : Y.nm.name = "<init>") (hx : zpV g [0] a 4 (va_rf x) = some g') (kk : zEF G d K Y (pc + 3) lo st g' Q) : zEF G d K Y pc lo (va_rf x :: .ref a :: st) g Q := by
  obtain ⟨ci, fs, h1, h2, h3, h4⟩ := zpV_some hx
  simp only [List.mem_cons, List.not_mem_nil, or_false] at h2
  subst h4
  rcases h2 with rfl
  · exact ez_put (C := RX0) (Tt := TX0) (N := 20) (ty := (.array (.object "ScoreThreads$Track"))) hd rfl 4 (by decide) ho q158 (Or.inl rfl) (Or.inr ⟨rfl, hini, ho⟩) (by decide +kernel) (by cases x <;> rfl) (by cases x <;> rfl) h1 h3 kk
theorem gX0_59 {x : Option Nat} (hd : decode Y.code pc = .ok (.getfield 59, 3)) (ho : RX0 = Y.nm.cls) (hx : zgR g [0] a 5 = some x) (kk : zEF G d K Y (pc + 3) lo (va_rf x :: st) g Q) : zEF G d K Y pc lo (.ref a :: st) g Q := by
  obtain ⟨ci, fs, h1, h2, h3⟩ := zgR_some hx
  simp only [List.mem_cons, List.not_mem_nil, or_false] at h2
  rcases h2 with rfl
  · exact ez_get (C := RX0) (Tt := TX0) (N := 20) hd rfl 5 (by decide) ho q159 (Or.inl rfl) h1 h3 kk
theorem pX0_59 {x : Option Nat} {g' : zS} (hd : decode Y.code pc = .ok (.putfield 59, 3)) (ho : RX0 = Y.nm.cls) (hini : Y.nm.name = "<init>") (hx : zpV g [0] a 5 (va_rf x) = some g') (kk : zEF G d K Y (pc + 3) lo st g' Q) : zEF G d K Y pc lo (va_rf x :: .ref a :: st) g Q := by
  obtain ⟨ci, fs, h1, h2, h3, h4⟩ := zpV_some hx
  simp only [List.mem_cons, List.not_mem_nil, or_false] at h2
  subst h4
  rcases h2 with rfl
  · exact ez_put (C := RX0) (Tt := TX0) (N := 20) (ty := (.array .int)) hd rfl 5 (by decide) ho q159 (Or.inl rfl) (Or.inr ⟨rfl, hini, ho⟩) (by decide +kernel) (by cases x <;> rfl) (by cases x <;> rfl) h1 h3 kk
theorem gX0_63 {x : Int32} (hd : decode Y.code pc = .ok (.getfield 63, 3)) (ho : RX0 = Y.nm.cls) (hx : zgI g [0] a 6 = some x) (kk : zEF G d K Y (pc + 3) lo (.int x :: st) g Q) : zEF G d K Y pc lo (.ref a :: st) g Q := by
  obtain ⟨ci, fs, h1, h2, h3⟩ := zgI_some hx
  simp only [List.mem_cons, List.not_mem_nil, or_false] at h2
  rcases h2 with rfl
  · exact ez_get (C := RX0) (Tt := TX0) (N := 20) hd rfl 6 (by decide) ho q160 (Or.inl rfl) h1 h3 kk
theorem pX0_63 {x : Int32} {g' : zS} (hd : decode Y.code pc = .ok (.putfield 63, 3)) (ho : RX0 = Y.nm.cls) (hx : zpV g [0] a 6 (.int x) = some g') (kk : zEF G d K Y (pc + 3) lo st g' Q) : zEF G d K Y pc lo (.int x :: .ref a :: st) g Q := by
  obtain ⟨ci, fs, h1, h2, h3, h4⟩ := zpV_some hx
  simp only [List.mem_cons, List.not_mem_nil, or_false] at h2
  subst h4
  rcases h2 with rfl
  · exact ez_put (C := RX0) (Tt := TX0) (N := 20) (ty := .int) hd rfl 6 (by decide) ho q160 (Or.inl rfl) (Or.inl rfl) (by decide +kernel) rfl rfl h1 h3 kk
theorem gX0_111 {x : Int32} (hd : decode Y.code pc = .ok (.getfield 111, 3)) (ho : RX0 = Y.nm.cls) (hx : zgI g [0] a 7 = some x) (kk : zEF G d K Y (pc + 3) lo (.int x :: st) g Q) : zEF G d K Y pc lo (.ref a :: st) g Q := by
  obtain ⟨ci, fs, h1, h2, h3⟩ := zgI_some hx
  simp only [List.mem_cons, List.not_mem_nil, or_false] at h2
  rcases h2 with rfl
  · exact ez_get (C := RX0) (Tt := TX0) (N := 20) hd rfl 7 (by decide) ho q161 (Or.inl rfl) h1 h3 kk
theorem pX0_111 {x : Int32} {g' : zS} (hd : decode Y.code pc = .ok (.putfield 111, 3)) (ho : RX0 = Y.nm.cls) (hb : zbl x) (hx : zpV g [0] a 7 (.int x) = some g') (kk : zEF G d K Y (pc + 3) lo st g' Q) : zEF G d K Y pc lo (.int x :: .ref a :: st) g Q := by
  obtain ⟨ci, fs, h1, h2, h3, h4⟩ := zpV_some hx
  simp only [List.mem_cons, List.not_mem_nil, or_false] at h2
  subst h4
  rcases h2 with rfl
  · exact ez_put (C := RX0) (Tt := TX0) (N := 20) (ty := .boolean) hd rfl 7 (by decide) ho q161 (Or.inl rfl) (Or.inl rfl) (by decide +kernel) hb.1 hb.2 h1 h3 kk
theorem gX0_223 {x : Int32} (hd : decode Y.code pc = .ok (.getfield 223, 3)) (ho : RX0 = Y.nm.cls) (hx : zgI g [0] a 8 = some x) (kk : zEF G d K Y (pc + 3) lo (.int x :: st) g Q) : zEF G d K Y pc lo (.ref a :: st) g Q := by
  obtain ⟨ci, fs, h1, h2, h3⟩ := zgI_some hx
  simp only [List.mem_cons, List.not_mem_nil, or_false] at h2
  rcases h2 with rfl
  · exact ez_get (C := RX0) (Tt := TX0) (N := 20) hd rfl 8 (by decide) ho q162 (Or.inl rfl) h1 h3 kk
theorem pX0_223 {x : Int32} {g' : zS} (hd : decode Y.code pc = .ok (.putfield 223, 3)) (ho : RX0 = Y.nm.cls) (hb : zbl x) (hx : zpV g [0] a 8 (.int x) = some g') (kk : zEF G d K Y (pc + 3) lo st g' Q) : zEF G d K Y pc lo (.int x :: .ref a :: st) g Q := by
  obtain ⟨ci, fs, h1, h2, h3, h4⟩ := zpV_some hx
  simp only [List.mem_cons, List.not_mem_nil, or_false] at h2
  subst h4
  rcases h2 with rfl
  · exact ez_put (C := RX0) (Tt := TX0) (N := 20) (ty := .boolean) hd rfl 8 (by decide) ho q162 (Or.inl rfl) (Or.inl rfl) (by decide +kernel) hb.1 hb.2 h1 h3 kk
theorem gX0_226 {x : Int32} (hd : decode Y.code pc = .ok (.getfield 226, 3)) (ho : RX0 = Y.nm.cls) (hx : zgI g [0] a 9 = some x) (kk : zEF G d K Y (pc + 3) lo (.int x :: st) g Q) : zEF G d K Y pc lo (.ref a :: st) g Q := by
  obtain ⟨ci, fs, h1, h2, h3⟩ := zgI_some hx
  simp only [List.mem_cons, List.not_mem_nil, or_false] at h2
  rcases h2 with rfl
  · exact ez_get (C := RX0) (Tt := TX0) (N := 20) hd rfl 9 (by decide) ho q163 (Or.inl rfl) h1 h3 kk
theorem pX0_226 {x : Int32} {g' : zS} (hd : decode Y.code pc = .ok (.putfield 226, 3)) (ho : RX0 = Y.nm.cls) (hx : zpV g [0] a 9 (.int x) = some g') (kk : zEF G d K Y (pc + 3) lo st g' Q) : zEF G d K Y pc lo (.int x :: .ref a :: st) g Q := by
  obtain ⟨ci, fs, h1, h2, h3, h4⟩ := zpV_some hx
  simp only [List.mem_cons, List.not_mem_nil, or_false] at h2
  subst h4
  rcases h2 with rfl
  · exact ez_put (C := RX0) (Tt := TX0) (N := 20) (ty := .int) hd rfl 9 (by decide) ho q163 (Or.inl rfl) (Or.inl rfl) (by decide +kernel) rfl rfl h1 h3 kk
theorem gX0_220 {x : Int32} (hd : decode Y.code pc = .ok (.getfield 220, 3)) (ho : RX0 = Y.nm.cls) (hx : zgI g [0] a 10 = some x) (kk : zEF G d K Y (pc + 3) lo (.int x :: st) g Q) : zEF G d K Y pc lo (.ref a :: st) g Q := by
  obtain ⟨ci, fs, h1, h2, h3⟩ := zgI_some hx
  simp only [List.mem_cons, List.not_mem_nil, or_false] at h2
  rcases h2 with rfl
  · exact ez_get (C := RX0) (Tt := TX0) (N := 20) hd rfl 10 (by decide) ho q164 (Or.inl rfl) h1 h3 kk
theorem pX0_220 {x : Int32} {g' : zS} (hd : decode Y.code pc = .ok (.putfield 220, 3)) (ho : RX0 = Y.nm.cls) (hx : zpV g [0] a 10 (.int x) = some g') (kk : zEF G d K Y (pc + 3) lo st g' Q) : zEF G d K Y pc lo (.int x :: .ref a :: st) g Q := by
  obtain ⟨ci, fs, h1, h2, h3, h4⟩ := zpV_some hx
  simp only [List.mem_cons, List.not_mem_nil, or_false] at h2
  subst h4
  rcases h2 with rfl
  · exact ez_put (C := RX0) (Tt := TX0) (N := 20) (ty := .int) hd rfl 10 (by decide) ho q164 (Or.inl rfl) (Or.inl rfl) (by decide +kernel) rfl rfl h1 h3 kk
theorem gX0_67 {x : Option Nat} (hd : decode Y.code pc = .ok (.getfield 67, 3)) (ho : RX0 = Y.nm.cls) (hx : zgR g [0] a 11 = some x) (kk : zEF G d K Y (pc + 3) lo (va_rf x :: st) g Q) : zEF G d K Y pc lo (.ref a :: st) g Q := by
  obtain ⟨ci, fs, h1, h2, h3⟩ := zgR_some hx
  simp only [List.mem_cons, List.not_mem_nil, or_false] at h2
  rcases h2 with rfl
  · exact ez_get (C := RX0) (Tt := TX0) (N := 20) hd rfl 11 (by decide) ho q165 (Or.inl rfl) h1 h3 kk
theorem pX0_67 {x : Option Nat} {g' : zS} (hd : decode Y.code pc = .ok (.putfield 67, 3)) (ho : RX0 = Y.nm.cls) (hini : Y.nm.name = "<init>") (hx : zpV g [0] a 11 (va_rf x) = some g') (kk : zEF G d K Y (pc + 3) lo st g' Q) : zEF G d K Y pc lo (va_rf x :: .ref a :: st) g Q := by
  obtain ⟨ci, fs, h1, h2, h3, h4⟩ := zpV_some hx
  simp only [List.mem_cons, List.not_mem_nil, or_false] at h2
  subst h4
  rcases h2 with rfl
  · exact ez_put (C := RX0) (Tt := TX0) (N := 20) (ty := (.array .float)) hd rfl 11 (by decide) ho q165 (Or.inl rfl) (Or.inr ⟨rfl, hini, ho⟩) (by decide +kernel) (by cases x <;> rfl) (by cases x <;> rfl) h1 h3 kk
theorem gX0_264 {x : Int32} (hd : decode Y.code pc = .ok (.getfield 264, 3)) (ho : RX0 = Y.nm.cls) (hx : zgI g [0] a 12 = some x) (kk : zEF G d K Y (pc + 3) lo (.int x :: st) g Q) : zEF G d K Y pc lo (.ref a :: st) g Q := by
  obtain ⟨ci, fs, h1, h2, h3⟩ := zgI_some hx
  simp only [List.mem_cons, List.not_mem_nil, or_false] at h2
  rcases h2 with rfl
  · exact ez_get (C := RX0) (Tt := TX0) (N := 20) hd rfl 12 (by decide) ho q166 (Or.inl rfl) h1 h3 kk
theorem pX0_264 {x : Int32} {g' : zS} (hd : decode Y.code pc = .ok (.putfield 264, 3)) (ho : RX0 = Y.nm.cls) (hx : zpV g [0] a 12 (.int x) = some g') (kk : zEF G d K Y (pc + 3) lo st g' Q) : zEF G d K Y pc lo (.int x :: .ref a :: st) g Q := by
  obtain ⟨ci, fs, h1, h2, h3, h4⟩ := zpV_some hx
  simp only [List.mem_cons, List.not_mem_nil, or_false] at h2
  subst h4
  rcases h2 with rfl
  · exact ez_put (C := RX0) (Tt := TX0) (N := 20) (ty := .int) hd rfl 12 (by decide) ho q166 (Or.inl rfl) (Or.inl rfl) (by decide +kernel) rfl rfl h1 h3 kk
theorem gX0_261 {x : Int32} (hd : decode Y.code pc = .ok (.getfield 261, 3)) (ho : RX0 = Y.nm.cls) (hx : zgI g [0] a 13 = some x) (kk : zEF G d K Y (pc + 3) lo (.int x :: st) g Q) : zEF G d K Y pc lo (.ref a :: st) g Q := by
  obtain ⟨ci, fs, h1, h2, h3⟩ := zgI_some hx
  simp only [List.mem_cons, List.not_mem_nil, or_false] at h2
  rcases h2 with rfl
  · exact ez_get (C := RX0) (Tt := TX0) (N := 20) hd rfl 13 (by decide) ho q167 (Or.inl rfl) h1 h3 kk
theorem pX0_261 {x : Int32} {g' : zS} (hd : decode Y.code pc = .ok (.putfield 261, 3)) (ho : RX0 = Y.nm.cls) (hx : zpV g [0] a 13 (.int x) = some g') (kk : zEF G d K Y (pc + 3) lo st g' Q) : zEF G d K Y pc lo (.int x :: .ref a :: st) g Q := by
  obtain ⟨ci, fs, h1, h2, h3, h4⟩ := zpV_some hx
  simp only [List.mem_cons, List.not_mem_nil, or_false] at h2
  subst h4
  rcases h2 with rfl
  · exact ez_put (C := RX0) (Tt := TX0) (N := 20) (ty := .int) hd rfl 13 (by decide) ho q167 (Or.inl rfl) (Or.inl rfl) (by decide +kernel) rfl rfl h1 h3 kk
theorem gX0_71 {x : Option Nat} (hd : decode Y.code pc = .ok (.getfield 71, 3)) (ho : RX0 = Y.nm.cls) (hx : zgR g [0] a 14 = some x) (kk : zEF G d K Y (pc + 3) lo (va_rf x :: st) g Q) : zEF G d K Y pc lo (.ref a :: st) g Q := by
  obtain ⟨ci, fs, h1, h2, h3⟩ := zgR_some hx
  simp only [List.mem_cons, List.not_mem_nil, or_false] at h2
  rcases h2 with rfl
  · exact ez_get (C := RX0) (Tt := TX0) (N := 20) hd rfl 14 (by decide) ho q168 (Or.inl rfl) h1 h3 kk
theorem pX0_71 {x : Option Nat} {g' : zS} (hd : decode Y.code pc = .ok (.putfield 71, 3)) (ho : RX0 = Y.nm.cls) (hini : Y.nm.name = "<init>") (hx : zpV g [0] a 14 (va_rf x) = some g') (kk : zEF G d K Y (pc + 3) lo st g' Q) : zEF G d K Y pc lo (va_rf x :: .ref a :: st) g Q := by
  obtain ⟨ci, fs, h1, h2, h3, h4⟩ := zpV_some hx
  simp only [List.mem_cons, List.not_mem_nil, or_false] at h2
  subst h4
  rcases h2 with rfl
  · exact ez_put (C := RX0) (Tt := TX0) (N := 20) (ty := (.array .int)) hd rfl 14 (by decide) ho q168 (Or.inl rfl) (Or.inr ⟨rfl, hini, ho⟩) (by decide +kernel) (by cases x <;> rfl) (by cases x <;> rfl) h1 h3 kk
theorem gX0_74 {x : Option Nat} (hd : decode Y.code pc = .ok (.getfield 74, 3)) (ho : RX0 = Y.nm.cls) (hx : zgR g [0] a 15 = some x) (kk : zEF G d K Y (pc + 3) lo (va_rf x :: st) g Q) : zEF G d K Y pc lo (.ref a :: st) g Q := by
  obtain ⟨ci, fs, h1, h2, h3⟩ := zgR_some hx
  simp only [List.mem_cons, List.not_mem_nil, or_false] at h2
  rcases h2 with rfl
  · exact ez_get (C := RX0) (Tt := TX0) (N := 20) hd rfl 15 (by decide) ho q169 (Or.inl rfl) h1 h3 kk
theorem pX0_74 {x : Option Nat} {g' : zS} (hd : decode Y.code pc = .ok (.putfield 74, 3)) (ho : RX0 = Y.nm.cls) (hini : Y.nm.name = "<init>") (hx : zpV g [0] a 15 (va_rf x) = some g') (kk : zEF G d K Y (pc + 3) lo st g' Q) : zEF G d K Y pc lo (va_rf x :: .ref a :: st) g Q := by
  obtain ⟨ci, fs, h1, h2, h3, h4⟩ := zpV_some hx
  simp only [List.mem_cons, List.not_mem_nil, or_false] at h2
  subst h4
  rcases h2 with rfl
  · exact ez_put (C := RX0) (Tt := TX0) (N := 20) (ty := (.array .int)) hd rfl 15 (by decide) ho q169 (Or.inl rfl) (Or.inr ⟨rfl, hini, ho⟩) (by decide +kernel) (by cases x <;> rfl) (by cases x <;> rfl) h1 h3 kk
theorem gX0_314 {x : Int32} (hd : decode Y.code pc = .ok (.getfield 314, 3)) (ho : RX0 = Y.nm.cls) (hx : zgI g [0] a 16 = some x) (kk : zEF G d K Y (pc + 3) lo (.int x :: st) g Q) : zEF G d K Y pc lo (.ref a :: st) g Q := by
  obtain ⟨ci, fs, h1, h2, h3⟩ := zgI_some hx
  simp only [List.mem_cons, List.not_mem_nil, or_false] at h2
  rcases h2 with rfl
  · exact ez_get (C := RX0) (Tt := TX0) (N := 20) hd rfl 16 (by decide) ho q170 (Or.inl rfl) h1 h3 kk
theorem pX0_314 {x : Int32} {g' : zS} (hd : decode Y.code pc = .ok (.putfield 314, 3)) (ho : RX0 = Y.nm.cls) (hx : zpV g [0] a 16 (.int x) = some g') (kk : zEF G d K Y (pc + 3) lo st g' Q) : zEF G d K Y pc lo (.int x :: .ref a :: st) g Q := by
  obtain ⟨ci, fs, h1, h2, h3, h4⟩ := zpV_some hx
  simp only [List.mem_cons, List.not_mem_nil, or_false] at h2
  subst h4
  rcases h2 with rfl
  · exact ez_put (C := RX0) (Tt := TX0) (N := 20) (ty := .int) hd rfl 16 (by decide) ho q170 (Or.inl rfl) (Or.inl rfl) (by decide +kernel) rfl rfl h1 h3 kk
theorem gX0_77 {x : Option Nat} (hd : decode Y.code pc = .ok (.getfield 77, 3)) (ho : RX0 = Y.nm.cls) (hx : zgR g [0] a 17 = some x) (kk : zEF G d K Y (pc + 3) lo (va_rf x :: st) g Q) : zEF G d K Y pc lo (.ref a :: st) g Q := by
  obtain ⟨ci, fs, h1, h2, h3⟩ := zgR_some hx
  simp only [List.mem_cons, List.not_mem_nil, or_false] at h2
  rcases h2 with rfl
  · exact ez_get (C := RX0) (Tt := TX0) (N := 20) hd rfl 17 (by decide) ho q171 (Or.inl rfl) h1 h3 kk
theorem pX0_77 {x : Option Nat} {g' : zS} (hd : decode Y.code pc = .ok (.putfield 77, 3)) (ho : RX0 = Y.nm.cls) (hini : Y.nm.name = "<init>") (hx : zpV g [0] a 17 (va_rf x) = some g') (kk : zEF G d K Y (pc + 3) lo st g' Q) : zEF G d K Y pc lo (va_rf x :: .ref a :: st) g Q := by
  obtain ⟨ci, fs, h1, h2, h3, h4⟩ := zpV_some hx
  simp only [List.mem_cons, List.not_mem_nil, or_false] at h2
  subst h4
  rcases h2 with rfl
  · exact ez_put (C := RX0) (Tt := TX0) (N := 20) (ty := (.array .int)) hd rfl 17 (by decide) ho q171 (Or.inl rfl) (Or.inr ⟨rfl, hini, ho⟩) (by decide +kernel) (by cases x <;> rfl) (by cases x <;> rfl) h1 h3 kk
theorem gX0_180 {x : Int32} (hd : decode Y.code pc = .ok (.getfield 180, 3)) (ho : RX0 = Y.nm.cls) (hx : zgI g [0] a 18 = some x) (kk : zEF G d K Y (pc + 3) lo (.int x :: st) g Q) : zEF G d K Y pc lo (.ref a :: st) g Q := by
  obtain ⟨ci, fs, h1, h2, h3⟩ := zgI_some hx
  simp only [List.mem_cons, List.not_mem_nil, or_false] at h2
  rcases h2 with rfl
  · exact ez_get (C := RX0) (Tt := TX0) (N := 20) hd rfl 18 (by decide) ho q172 (Or.inl rfl) h1 h3 kk
theorem pX0_180 {x : Int32} {g' : zS} (hd : decode Y.code pc = .ok (.putfield 180, 3)) (ho : RX0 = Y.nm.cls) (hx : zpV g [0] a 18 (.int x) = some g') (kk : zEF G d K Y (pc + 3) lo st g' Q) : zEF G d K Y pc lo (.int x :: .ref a :: st) g Q := by
  obtain ⟨ci, fs, h1, h2, h3, h4⟩ := zpV_some hx
  simp only [List.mem_cons, List.not_mem_nil, or_false] at h2
  subst h4
  rcases h2 with rfl
  · exact ez_put (C := RX0) (Tt := TX0) (N := 20) (ty := .int) hd rfl 18 (by decide) ho q172 (Or.inl rfl) (Or.inl rfl) (by decide +kernel) rfl rfl h1 h3 kk
theorem gX0_189 {x : Int32} (hd : decode Y.code pc = .ok (.getfield 189, 3)) (ho : RX0 = Y.nm.cls) (hx : zgI g [0] a 19 = some x) (kk : zEF G d K Y (pc + 3) lo (.int x :: st) g Q) : zEF G d K Y pc lo (.ref a :: st) g Q := by
  obtain ⟨ci, fs, h1, h2, h3⟩ := zgI_some hx
  simp only [List.mem_cons, List.not_mem_nil, or_false] at h2
  rcases h2 with rfl
  · exact ez_get (C := RX0) (Tt := TX0) (N := 20) hd rfl 19 (by decide) ho q173 (Or.inl rfl) h1 h3 kk
theorem pX0_189 {x : Int32} {g' : zS} (hd : decode Y.code pc = .ok (.putfield 189, 3)) (ho : RX0 = Y.nm.cls) (hx : zpV g [0] a 19 (.int x) = some g') (kk : zEF G d K Y (pc + 3) lo st g' Q) : zEF G d K Y pc lo (.int x :: .ref a :: st) g Q := by
  obtain ⟨ci, fs, h1, h2, h3, h4⟩ := zpV_some hx
  simp only [List.mem_cons, List.not_mem_nil, or_false] at h2
  subst h4
  rcases h2 with rfl
  · exact ez_put (C := RX0) (Tt := TX0) (N := 20) (ty := .int) hd rfl 19 (by decide) ho q173 (Or.inl rfl) (Or.inl rfl) (by decide +kernel) rfl rfl h1 h3 kk
theorem gX0_160 {x : Int32} (hd : decode Y.code pc = .ok (.getfield 160, 3)) (ho : RX0 = Y.nm.cls) (hx : zgI g [4, 5, 6, 7, 8, 9, 10, 11] a 0 = some x) (kk : zEF G d K Y (pc + 3) lo (.int x :: st) g Q) : zEF G d K Y pc lo (.ref a :: st) g Q := by
  obtain ⟨ci, fs, h1, h2, h3⟩ := zgI_some hx
  simp only [List.mem_cons, List.not_mem_nil, or_false] at h2
  rcases h2 with rfl | rfl | rfl | rfl | rfl | rfl | rfl | rfl
  · exact ez_get (C := RX5) (Tt := TX5) (N := 4) hd rfl 0 (by decide) ho q453 (Or.inl rfl) h1 h3 kk
  · exact ez_get (C := RX6) (Tt := TX6) (N := 4) hd rfl 0 (by decide) ho q453 (Or.inl rfl) h1 h3 kk
  · exact ez_get (C := RX7) (Tt := TX7) (N := 4) hd rfl 0 (by decide) ho q453 (Or.inl rfl) h1 h3 kk
  · exact ez_get (C := RX8) (Tt := TX8) (N := 4) hd rfl 0 (by decide) ho q453 (Or.inl rfl) h1 h3 kk
  · exact ez_get (C := RX9) (Tt := TX9) (N := 6) hd rfl 0 (by decide) ho q453 (Or.inl rfl) h1 h3 kk
  · exact ez_get (C := RX10) (Tt := TX10) (N := 6) hd rfl 0 (by decide) ho q453 (Or.inl rfl) h1 h3 kk
  · exact ez_get (C := RX11) (Tt := TX11) (N := 4) hd rfl 0 (by decide) ho q453 (Or.inl rfl) h1 h3 kk
  · exact ez_get (C := RX12) (Tt := TX12) (N := 5) hd rfl 0 (by decide) ho q453 (Or.inl rfl) h1 h3 kk
theorem gX0_154 {x : Option Nat} (hd : decode Y.code pc = .ok (.getfield 154, 3)) (ho : RX0 = Y.nm.cls) (hx : zgR g [8, 9] a 4 = some x) (kk : zEF G d K Y (pc + 3) lo (va_rf x :: st) g Q) : zEF G d K Y pc lo (.ref a :: st) g Q := by
  obtain ⟨ci, fs, h1, h2, h3⟩ := zgR_some hx
  simp only [List.mem_cons, List.not_mem_nil, or_false] at h2
  rcases h2 with rfl | rfl
  · exact ez_get (C := RX9) (Tt := TX9) (N := 6) hd rfl 4 (by decide) ho q518 (Or.inl rfl) h1 h3 kk
  · exact ez_get (C := RX10) (Tt := TX10) (N := 6) hd rfl 4 (by decide) ho q518 (Or.inl rfl) h1 h3 kk
theorem pX0_154 {x : Option Nat} {g' : zS} (hd : decode Y.code pc = .ok (.putfield 154, 3)) (ho : RX0 = Y.nm.cls) (hx : zpV g [8, 9] a 4 (va_rf x) = some g') (kk : zEF G d K Y (pc + 3) lo st g' Q) : zEF G d K Y pc lo (va_rf x :: .ref a :: st) g Q := by
  obtain ⟨ci, fs, h1, h2, h3, h4⟩ := zpV_some hx
  simp only [List.mem_cons, List.not_mem_nil, or_false] at h2
  subst h4
  rcases h2 with rfl | rfl
  · exact ez_put (C := RX9) (Tt := TX9) (N := 6) (ty := (.array .float)) hd rfl 4 (by decide) ho q518 (Or.inl rfl) (Or.inl rfl) (by decide +kernel) (by cases x <;> rfl) (by cases x <;> rfl) h1 h3 kk
  · exact ez_put (C := RX10) (Tt := TX10) (N := 6) (ty := (.array .float)) hd rfl 4 (by decide) ho q518 (Or.inl rfl) (Or.inl rfl) (by decide +kernel) (by cases x <;> rfl) (by cases x <;> rfl) h1 h3 kk
theorem gX0_151 {x : Int32} (hd : decode Y.code pc = .ok (.getfield 151, 3)) (ho : RX0 = Y.nm.cls) (hx : zgI g [8, 9] a 5 = some x) (kk : zEF G d K Y (pc + 3) lo (.int x :: st) g Q) : zEF G d K Y pc lo (.ref a :: st) g Q := by
  obtain ⟨ci, fs, h1, h2, h3⟩ := zgI_some hx
  simp only [List.mem_cons, List.not_mem_nil, or_false] at h2
  rcases h2 with rfl | rfl
  · exact ez_get (C := RX9) (Tt := TX9) (N := 6) hd rfl 5 (by decide) ho q520 (Or.inl rfl) h1 h3 kk
  · exact ez_get (C := RX10) (Tt := TX10) (N := 6) hd rfl 5 (by decide) ho q520 (Or.inl rfl) h1 h3 kk
theorem pX0_151 {x : Int32} {g' : zS} (hd : decode Y.code pc = .ok (.putfield 151, 3)) (ho : RX0 = Y.nm.cls) (hx : zpV g [8, 9] a 5 (.int x) = some g') (kk : zEF G d K Y (pc + 3) lo st g' Q) : zEF G d K Y pc lo (.int x :: .ref a :: st) g Q := by
  obtain ⟨ci, fs, h1, h2, h3, h4⟩ := zpV_some hx
  simp only [List.mem_cons, List.not_mem_nil, or_false] at h2
  subst h4
  rcases h2 with rfl | rfl
  · exact ez_put (C := RX9) (Tt := TX9) (N := 6) (ty := .int) hd rfl 5 (by decide) ho q520 (Or.inl rfl) (Or.inl rfl) (by decide +kernel) rfl rfl h1 h3 kk
  · exact ez_put (C := RX10) (Tt := TX10) (N := 6) (ty := .int) hd rfl 5 (by decide) ho q520 (Or.inl rfl) (Or.inl rfl) (by decide +kernel) rfl rfl h1 h3 kk
theorem lX_ia {i : Int32} {x : Int32} (hd : decode Y.code pc = .ok (.iaload, 1)) (hx : zaI g 0 a i = some x) (kk : zEF G d K Y (pc + 1) lo (.int x :: st) g Q) : zEF G d K Y pc lo (.int i :: .ref a :: st) g Q := by
  obtain ⟨n, f, h1, h2, h3⟩ := zaI_some hx
  subst h3
  exact ez_iald hd h1 h2 kk
theorem sX_ia {i : Int32} {x : Int32} {g' : zS} (hd : decode Y.code pc = .ok (.iastore, 1)) (hx : zsI g 0 a i (x) = some g') (kk : zEF G d K Y (pc + 1) lo st g' Q) : zEF G d K Y pc lo (.int x :: .int i :: .ref a :: st) g Q := by
  obtain ⟨n, f, h1, h2, h3⟩ := zsI_some hx
  subst h3
  exact ez_iast hd h1 h2 kk
theorem lX_ba {i : Int32} {x : Int32} (hd : decode Y.code pc = .ok (.baload, 1)) (hx : zaI g 2 a i = some x) (kk : zEF G d K Y (pc + 1) lo (.int x :: st) g Q) : zEF G d K Y pc lo (.int i :: .ref a :: st) g Q := by
  obtain ⟨n, f, h1, h2, h3⟩ := zaI_some hx
  subst h3
  exact ez_bald hd h1 h2 kk
theorem sX_ba {i : Int32} {x : Int32} {g' : zS} (hd : decode Y.code pc = .ok (.bastore, 1)) (hx : zsI g 2 a i (x.toInt8.toInt32) = some g') (kk : zEF G d K Y (pc + 1) lo st g' Q) : zEF G d K Y pc lo (.int x :: .int i :: .ref a :: st) g Q := by
  obtain ⟨n, f, h1, h2, h3⟩ := zsI_some hx
  subst h3
  exact ez_bast hd h1 h2 kk
theorem lX_sa {i : Int32} {x : Int32} (hd : decode Y.code pc = .ok (.saload, 1)) (hx : zaI g 3 a i = some x) (kk : zEF G d K Y (pc + 1) lo (.int x :: st) g Q) : zEF G d K Y pc lo (.int i :: .ref a :: st) g Q := by
  obtain ⟨n, f, h1, h2, h3⟩ := zaI_some hx
  subst h3
  exact ez_sald hd h1 h2 kk
theorem sX_sa {i : Int32} {x : Int32} {g' : zS} (hd : decode Y.code pc = .ok (.sastore, 1)) (hx : zsI g 3 a i (x.toInt16.toInt32) = some g') (kk : zEF G d K Y (pc + 1) lo st g' Q) : zEF G d K Y pc lo (.int x :: .int i :: .ref a :: st) g Q := by
  obtain ⟨n, f, h1, h2, h3⟩ := zsI_some hx
  subst h3
  exact ez_sast hd h1 h2 kk
theorem lX_fa {i : Int32} {x : UInt32} (hd : decode Y.code pc = .ok (.faload, 1)) (hx : zaF g 1 a i = some x) (kk : zEF G d K Y (pc + 1) lo (.float x :: st) g Q) : zEF G d K Y pc lo (.int i :: .ref a :: st) g Q := by
  obtain ⟨n, f, h1, h2, h3⟩ := zaF_some hx
  subst h3
  exact ez_fald hd h1 h2 kk
theorem sX_fa {i : Int32} {x : UInt32} {g' : zS} (hd : decode Y.code pc = .ok (.fastore, 1)) (hx : zsF g 1 a i (x) = some g') (kk : zEF G d K Y (pc + 1) lo st g' Q) : zEF G d K Y pc lo (.float x :: .int i :: .ref a :: st) g Q := by
  obtain ⟨n, f, h1, h2, h3⟩ := zsF_some hx
  subst h3
  exact ez_fast hd h1 h2 kk
theorem lX_da {i : Int32} {x : UInt64} (hd : decode Y.code pc = .ok (.daload, 1)) (hx : zaD g 4 a i = some x) (kk : zEF G d K Y (pc + 1) lo (.double x :: st) g Q) : zEF G d K Y pc lo (.int i :: .ref a :: st) g Q := by
  obtain ⟨n, f, h1, h2, h3⟩ := zaD_some hx
  subst h3
  exact ez_dald hd h1 h2 kk
theorem sX_da {i : Int32} {x : UInt64} {g' : zS} (hd : decode Y.code pc = .ok (.dastore, 1)) (hx : zsD g 4 a i (x) = some g') (kk : zEF G d K Y (pc + 1) lo st g' Q) : zEF G d K Y pc lo (.double x :: .int i :: .ref a :: st) g Q := by
  obtain ⟨n, f, h1, h2, h3⟩ := zsD_some hx
  subst h3
  exact ez_dast hd h1 h2 kk
theorem lX_aa7 {i : Int32} {x : Option Nat} (hd : decode Y.code pc = .ok (.aaload, 1)) (hx : zaR g 7 a i = some x) (kk : zEF G d K Y (pc + 1) lo (va_rf x :: st) g Q) : zEF G d K Y pc lo (.int i :: .ref a :: st) g Q := by
  obtain ⟨n, f, h1, h2, h3⟩ := zaR_some hx
  subst h3
  exact ez_aald hd h1 (by decide) (by decide) h2 kk
theorem sX_aaN7 {i : Int32} {g' : zS} (hd : decode Y.code pc = .ok (.aastore, 1)) (hx : zsR g 7 a i none = some g') (kk : zEF G d K Y (pc + 1) lo st g' Q) : zEF G d K Y pc lo (.null :: .int i :: .ref a :: st) g Q := by
  obtain ⟨n, f, h1, h2, h3⟩ := zsR_some hx
  subst h3
  exact ez_aastN (nm := "ScoreThreads$Clip") hd h1 (by decide) rfl h2 kk
theorem sX_aa7 {i : Int32} {v : Nat} {ob : Nat × List Value} {g' : zS} (hd : decode Y.code pc = .ok (.aastore, 1)) (hv : zob g [3] v = some ob) (hx : zsR g 7 a i (some v) = some g') (kk : zEF G d K Y (pc + 1) lo st g' Q) : zEF G d K Y pc lo (.ref v :: .int i :: .ref a :: st) g Q := by
  obtain ⟨n, f, h1, h2, h3⟩ := zsR_some hx
  obtain ⟨hv1, hv2⟩ := zob_some hv
  obtain ⟨ci, vs⟩ := ob
  subst h3
  simp only [List.mem_cons, List.not_mem_nil, or_false] at hv2
  rcases hv2 with rfl
  · exact ez_aast (C := RX3) (Tt := TX3) (N := 3) (nm := "ScoreThreads$Clip") hd h1 (by decide) rfl h2 hv1 rfl (Or.inr rfl) kk
theorem lX_aa8 {i : Int32} {x : Option Nat} (hd : decode Y.code pc = .ok (.aaload, 1)) (hx : zaR g 8 a i = some x) (kk : zEF G d K Y (pc + 1) lo (va_rf x :: st) g Q) : zEF G d K Y pc lo (.int i :: .ref a :: st) g Q := by
  obtain ⟨n, f, h1, h2, h3⟩ := zaR_some hx
  subst h3
  exact ez_aald hd h1 (by decide) (by decide) h2 kk
theorem sX_aaN8 {i : Int32} {g' : zS} (hd : decode Y.code pc = .ok (.aastore, 1)) (hx : zsR g 8 a i none = some g') (kk : zEF G d K Y (pc + 1) lo st g' Q) : zEF G d K Y pc lo (.null :: .int i :: .ref a :: st) g Q := by
  obtain ⟨n, f, h1, h2, h3⟩ := zsR_some hx
  subst h3
  exact ez_aastN (nm := "ScoreThreads$Plug") hd h1 (by decide) rfl h2 kk
theorem sX_aa8 {i : Int32} {v : Nat} {ob : Nat × List Value} {g' : zS} (hd : decode Y.code pc = .ok (.aastore, 1)) (hv : zob g [4, 5, 6, 7, 8, 9, 10, 11] v = some ob) (hx : zsR g 8 a i (some v) = some g') (kk : zEF G d K Y (pc + 1) lo st g' Q) : zEF G d K Y pc lo (.ref v :: .int i :: .ref a :: st) g Q := by
  obtain ⟨n, f, h1, h2, h3⟩ := zsR_some hx
  obtain ⟨hv1, hv2⟩ := zob_some hv
  obtain ⟨ci, vs⟩ := ob
  subst h3
  simp only [List.mem_cons, List.not_mem_nil, or_false] at hv2
  rcases hv2 with rfl | rfl | rfl | rfl | rfl | rfl | rfl | rfl
  · exact ez_aast (C := RX5) (Tt := TX5) (N := 4) (nm := "ScoreThreads$Plug") hd h1 (by decide) rfl h2 hv1 rfl (Or.inl q1332) kk
  · exact ez_aast (C := RX6) (Tt := TX6) (N := 4) (nm := "ScoreThreads$Plug") hd h1 (by decide) rfl h2 hv1 rfl (Or.inl q1333) kk
  · exact ez_aast (C := RX7) (Tt := TX7) (N := 4) (nm := "ScoreThreads$Plug") hd h1 (by decide) rfl h2 hv1 rfl (Or.inl q1334) kk
  · exact ez_aast (C := RX8) (Tt := TX8) (N := 4) (nm := "ScoreThreads$Plug") hd h1 (by decide) rfl h2 hv1 rfl (Or.inl q1335) kk
  · exact ez_aast (C := RX9) (Tt := TX9) (N := 6) (nm := "ScoreThreads$Plug") hd h1 (by decide) rfl h2 hv1 rfl (Or.inl q1336) kk
  · exact ez_aast (C := RX10) (Tt := TX10) (N := 6) (nm := "ScoreThreads$Plug") hd h1 (by decide) rfl h2 hv1 rfl (Or.inl q1337) kk
  · exact ez_aast (C := RX11) (Tt := TX11) (N := 4) (nm := "ScoreThreads$Plug") hd h1 (by decide) rfl h2 hv1 rfl (Or.inl q1338) kk
  · exact ez_aast (C := RX12) (Tt := TX12) (N := 5) (nm := "ScoreThreads$Plug") hd h1 (by decide) rfl h2 hv1 rfl (Or.inl q1339) kk
theorem lX_aa9 {i : Int32} {x : Option Nat} (hd : decode Y.code pc = .ok (.aaload, 1)) (hx : zaR g 9 a i = some x) (kk : zEF G d K Y (pc + 1) lo (va_rf x :: st) g Q) : zEF G d K Y pc lo (.int i :: .ref a :: st) g Q := by
  obtain ⟨n, f, h1, h2, h3⟩ := zaR_some hx
  subst h3
  exact ez_aald hd h1 (by decide) (by decide) h2 kk
theorem sX_aaN9 {i : Int32} {g' : zS} (hd : decode Y.code pc = .ok (.aastore, 1)) (hx : zsR g 9 a i none = some g') (kk : zEF G d K Y (pc + 1) lo st g' Q) : zEF G d K Y pc lo (.null :: .int i :: .ref a :: st) g Q := by
  obtain ⟨n, f, h1, h2, h3⟩ := zsR_some hx
  subst h3
  exact ez_aastN (nm := "ScoreThreads$Track") hd h1 (by decide) rfl h2 kk
theorem sX_aa9 {i : Int32} {v : Nat} {ob : Nat × List Value} {g' : zS} (hd : decode Y.code pc = .ok (.aastore, 1)) (hv : zob g [1] v = some ob) (hx : zsR g 9 a i (some v) = some g') (kk : zEF G d K Y (pc + 1) lo st g' Q) : zEF G d K Y pc lo (.ref v :: .int i :: .ref a :: st) g Q := by
  obtain ⟨n, f, h1, h2, h3⟩ := zsR_some hx
  obtain ⟨hv1, hv2⟩ := zob_some hv
  obtain ⟨ci, vs⟩ := ob
  subst h3
  simp only [List.mem_cons, List.not_mem_nil, or_false] at hv2
  rcases hv2 with rfl
  · exact ez_aast (C := RX1) (Tt := TX1) (N := 14) (nm := "ScoreThreads$Track") hd h1 (by decide) rfl h2 hv1 rfl (Or.inr rfl) kk
theorem lX_aa10 {i : Int32} {x : Option Nat} (hd : decode Y.code pc = .ok (.aaload, 1)) (hx : zaR g 10 a i = some x) (kk : zEF G d K Y (pc + 1) lo (va_rf x :: st) g Q) : zEF G d K Y pc lo (.int i :: .ref a :: st) g Q := by
  obtain ⟨n, f, h1, h2, h3⟩ := zaR_some hx
  subst h3
  exact ez_aald hd h1 (by decide) (by decide) h2 kk
theorem sX_aaN10 {i : Int32} {g' : zS} (hd : decode Y.code pc = .ok (.aastore, 1)) (hx : zsR g 10 a i none = some g') (kk : zEF G d K Y (pc + 1) lo st g' Q) : zEF G d K Y pc lo (.null :: .int i :: .ref a :: st) g Q := by
  obtain ⟨n, f, h1, h2, h3⟩ := zsR_some hx
  subst h3
  exact ez_aastN (nm := "ScoreThreads$Gain") hd h1 (by decide) rfl h2 kk
theorem sX_aa10 {i : Int32} {v : Nat} {ob : Nat × List Value} {g' : zS} (hd : decode Y.code pc = .ok (.aastore, 1)) (hv : zob g [4, 5, 6] v = some ob) (hx : zsR g 10 a i (some v) = some g') (kk : zEF G d K Y (pc + 1) lo st g' Q) : zEF G d K Y pc lo (.ref v :: .int i :: .ref a :: st) g Q := by
  obtain ⟨n, f, h1, h2, h3⟩ := zsR_some hx
  obtain ⟨hv1, hv2⟩ := zob_some hv
  obtain ⟨ci, vs⟩ := ob
  subst h3
  simp only [List.mem_cons, List.not_mem_nil, or_false] at hv2
  rcases hv2 with rfl | rfl | rfl
  · exact ez_aast (C := RX5) (Tt := TX5) (N := 4) (nm := "ScoreThreads$Gain") hd h1 (by decide) rfl h2 hv1 rfl (Or.inr rfl) kk
  · exact ez_aast (C := RX6) (Tt := TX6) (N := 4) (nm := "ScoreThreads$Gain") hd h1 (by decide) rfl h2 hv1 rfl (Or.inl q1340) kk
  · exact ez_aast (C := RX7) (Tt := TX7) (N := 4) (nm := "ScoreThreads$Gain") hd h1 (by decide) rfl h2 hv1 rfl (Or.inl q1341) kk
end ZXG

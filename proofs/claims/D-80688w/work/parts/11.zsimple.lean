set_option maxRecDepth 100000
section ZS
variable {G : zG} {d : Nat} {K : List Nat} {Y : zM} {pc : Nat} {lo : List (Option Value)} {st : List Value} {g : zS} {Q : zO → zS → Prop}
theorem ez_iconst {n : Int} {v : Int32} (hd : decode Y.code pc = .ok (.iconst n, 1)) (hv : Int32.ofInt n = v)
    (k : zEF G d K Y (pc + 1) lo (.int v :: st) g Q) : zEF G d K Y pc lo st g Q := by
  intro p l e R s m args below meth c T locs cells slots ls lk mr s1 C
  obtain ⟨t, a1, b1⟩ := k p l e R s m args below meth c T locs cells slots ls lk mr s1 C
  refine ⟨t, ?_, b1⟩
  have X := C.X
  have hexec := C.ex
  have hb := C.hb
  rw [← hv] at a1
  jvm_step X.here [X.here.top, hexec, hb, hd]
  exact a1
theorem ez_bipush {n : Int} {v : Int32} (hd : decode Y.code pc = .ok (.bipush n, 2)) (hv : (Int8.ofInt n).toInt32 = v)
    (k : zEF G d K Y (pc + 2) lo (.int v :: st) g Q) : zEF G d K Y pc lo st g Q := by
  intro p l e R s m args below meth c T locs cells slots ls lk mr s1 C
  obtain ⟨t, a1, b1⟩ := k p l e R s m args below meth c T locs cells slots ls lk mr s1 C
  refine ⟨t, ?_, b1⟩
  have X := C.X
  have hexec := C.ex
  have hb := C.hb
  rw [← hv] at a1
  jvm_step X.here [X.here.top, hexec, hb, hd]
  exact a1
theorem ez_sipush {n : Int} {v : Int32} (hd : decode Y.code pc = .ok (.sipush n, 3)) (hv : (Int16.ofInt n).toInt32 = v)
    (k : zEF G d K Y (pc + 3) lo (.int v :: st) g Q) : zEF G d K Y pc lo st g Q := by
  intro p l e R s m args below meth c T locs cells slots ls lk mr s1 C
  obtain ⟨t, a1, b1⟩ := k p l e R s m args below meth c T locs cells slots ls lk mr s1 C
  refine ⟨t, ?_, b1⟩
  have X := C.X
  have hexec := C.ex
  have hb := C.hb
  rw [← hv] at a1
  jvm_step X.here [X.here.top, hexec, hb, hd]
  exact a1
theorem ez_lconst {n : Fin 2} {v : Int64} (hd : decode Y.code pc = .ok (.lconst n, 1)) (hv : Int64.ofNat (n : Nat) = v)
    (k : zEF G d K Y (pc + 1) lo (.long v :: st) g Q) : zEF G d K Y pc lo st g Q := by
  intro p l e R s m args below meth c T locs cells slots ls lk mr s1 C
  obtain ⟨t, a1, b1⟩ := k p l e R s m args below meth c T locs cells slots ls lk mr s1 C
  refine ⟨t, ?_, b1⟩
  have X := C.X
  have hexec := C.ex
  have hb := C.hb
  rw [← hv] at a1
  jvm_step X.here [X.here.top, hexec, hb, hd]
  exact a1
theorem ez_fconst0  (hd : decode Y.code pc = .ok (.fconst 0, 1)) 
    (k : zEF G d K Y (pc + 1) lo (.float FP.fconst0 :: st) g Q) : zEF G d K Y pc lo st g Q := by
  intro p l e R s m args below meth c T locs cells slots ls lk mr s1 C
  obtain ⟨t, a1, b1⟩ := k p l e R s m args below meth c T locs cells slots ls lk mr s1 C
  refine ⟨t, ?_, b1⟩
  have X := C.X
  have hexec := C.ex
  have hb := C.hb
  jvm_step X.here [X.here.top, hexec, hb, hd]
  exact a1
theorem ez_fconst1  (hd : decode Y.code pc = .ok (.fconst 1, 1)) 
    (k : zEF G d K Y (pc + 1) lo (.float FP.fconst1 :: st) g Q) : zEF G d K Y pc lo st g Q := by
  intro p l e R s m args below meth c T locs cells slots ls lk mr s1 C
  obtain ⟨t, a1, b1⟩ := k p l e R s m args below meth c T locs cells slots ls lk mr s1 C
  refine ⟨t, ?_, b1⟩
  have X := C.X
  have hexec := C.ex
  have hb := C.hb
  jvm_step X.here [X.here.top, hexec, hb, hd]
  exact a1
theorem ez_dconst1  (hd : decode Y.code pc = .ok (.dconst 1, 1)) 
    (k : zEF G d K Y (pc + 1) lo (.double FP.dconst1 :: st) g Q) : zEF G d K Y pc lo st g Q := by
  intro p l e R s m args below meth c T locs cells slots ls lk mr s1 C
  obtain ⟨t, a1, b1⟩ := k p l e R s m args below meth c T locs cells slots ls lk mr s1 C
  refine ⟨t, ?_, b1⟩
  have X := C.X
  have hexec := C.ex
  have hb := C.hb
  jvm_step X.here [X.here.top, hexec, hb, hd]
  exact a1
theorem ez_null  (hd : decode Y.code pc = .ok (.aconst_null, 1)) 
    (k : zEF G d K Y (pc + 1) lo (.null :: st) g Q) : zEF G d K Y pc lo (st) g Q := by
  intro p l e R s m args below meth c T locs cells slots ls lk mr s1 C
  obtain ⟨t, a1, b1⟩ := k p l e R s m args below meth c T locs cells slots ls lk mr s1 C
  refine ⟨t, ?_, b1⟩
  have X := C.X
  have hexec := C.ex
  have hb := C.hb
  jvm_step X.here [X.here.top, hexec, hb, hd, Op.aconst_null.sem]
  exact a1
theorem ez_iload_n {k : Fin 4} {i : Nat} {x : Int32} (hd : decode Y.code pc = .ok (.iload_n k, 1)) (hi : (k : Nat) = i) (hl : lo[i]? = some (some (.int x)))
    (k : zEF G d K Y (pc + 1) lo (.int x :: st) g Q) : zEF G d K Y pc lo st g Q := by
  intro p l e R s m args below meth c T locs cells slots ls lk mr s1 C
  obtain ⟨t, a1, b1⟩ := k p l e R s m args below meth c T locs cells slots ls lk mr s1 C
  refine ⟨t, ?_, b1⟩
  have X := C.X
  have hexec := C.ex
  have hb := C.hb
  have hl := C.hlo.2.2 _ _ hl
  subst hi
  jvm_step X.here [X.here.top, hexec, hb, hd, hl]
  exact a1
theorem ez_iload {i : Nat} {x : Int32} (hd : decode Y.code pc = .ok (.iload i, 2))  (hl : lo[i]? = some (some (.int x)))
    (k : zEF G d K Y (pc + 2) lo (.int x :: st) g Q) : zEF G d K Y pc lo st g Q := by
  intro p l e R s m args below meth c T locs cells slots ls lk mr s1 C
  obtain ⟨t, a1, b1⟩ := k p l e R s m args below meth c T locs cells slots ls lk mr s1 C
  refine ⟨t, ?_, b1⟩
  have X := C.X
  have hexec := C.ex
  have hb := C.hb
  have hl := C.hlo.2.2 _ _ hl
  jvm_step X.here [X.here.top, hexec, hb, hd, hl]
  exact a1
theorem ez_lload_n {k : Fin 4} {i : Nat} {x : Int64} (hd : decode Y.code pc = .ok (.lload_n k, 1)) (hi : (k : Nat) = i) (hl : lo[i]? = some (some (.long x)))
    (k : zEF G d K Y (pc + 1) lo (.long x :: st) g Q) : zEF G d K Y pc lo st g Q := by
  intro p l e R s m args below meth c T locs cells slots ls lk mr s1 C
  obtain ⟨t, a1, b1⟩ := k p l e R s m args below meth c T locs cells slots ls lk mr s1 C
  refine ⟨t, ?_, b1⟩
  have X := C.X
  have hexec := C.ex
  have hb := C.hb
  have hl := C.hlo.2.2 _ _ hl
  subst hi
  jvm_step X.here [X.here.top, hexec, hb, hd, hl]
  exact a1
theorem ez_lload {i : Nat} {x : Int64} (hd : decode Y.code pc = .ok (.lload i, 2))  (hl : lo[i]? = some (some (.long x)))
    (k : zEF G d K Y (pc + 2) lo (.long x :: st) g Q) : zEF G d K Y pc lo st g Q := by
  intro p l e R s m args below meth c T locs cells slots ls lk mr s1 C
  obtain ⟨t, a1, b1⟩ := k p l e R s m args below meth c T locs cells slots ls lk mr s1 C
  refine ⟨t, ?_, b1⟩
  have X := C.X
  have hexec := C.ex
  have hb := C.hb
  have hl := C.hlo.2.2 _ _ hl
  jvm_step X.here [X.here.top, hexec, hb, hd, hl]
  exact a1
theorem ez_fload_n {k : Fin 4} {i : Nat} {x : UInt32} (hd : decode Y.code pc = .ok (.fload_n k, 1)) (hi : (k : Nat) = i) (hl : lo[i]? = some (some (.float x)))
    (k : zEF G d K Y (pc + 1) lo (.float x :: st) g Q) : zEF G d K Y pc lo st g Q := by
  intro p l e R s m args below meth c T locs cells slots ls lk mr s1 C
  obtain ⟨t, a1, b1⟩ := k p l e R s m args below meth c T locs cells slots ls lk mr s1 C
  refine ⟨t, ?_, b1⟩
  have X := C.X
  have hexec := C.ex
  have hb := C.hb
  have hl := C.hlo.2.2 _ _ hl
  subst hi
  jvm_step X.here [X.here.top, hexec, hb, hd, hl, Op.fload_n.sem]
  exact a1
theorem ez_fload {i : Nat} {x : UInt32} (hd : decode Y.code pc = .ok (.fload i, 2))  (hl : lo[i]? = some (some (.float x)))
    (k : zEF G d K Y (pc + 2) lo (.float x :: st) g Q) : zEF G d K Y pc lo st g Q := by
  intro p l e R s m args below meth c T locs cells slots ls lk mr s1 C
  obtain ⟨t, a1, b1⟩ := k p l e R s m args below meth c T locs cells slots ls lk mr s1 C
  refine ⟨t, ?_, b1⟩
  have X := C.X
  have hexec := C.ex
  have hb := C.hb
  have hl := C.hlo.2.2 _ _ hl
  jvm_step X.here [X.here.top, hexec, hb, hd, hl, Op.fload.sem]
  exact a1
theorem ez_dload_n {k : Fin 4} {i : Nat} {x : UInt64} (hd : decode Y.code pc = .ok (.dload_n k, 1)) (hi : (k : Nat) = i) (hl : lo[i]? = some (some (.double x)))
    (k : zEF G d K Y (pc + 1) lo (.double x :: st) g Q) : zEF G d K Y pc lo st g Q := by
  intro p l e R s m args below meth c T locs cells slots ls lk mr s1 C
  obtain ⟨t, a1, b1⟩ := k p l e R s m args below meth c T locs cells slots ls lk mr s1 C
  refine ⟨t, ?_, b1⟩
  have X := C.X
  have hexec := C.ex
  have hb := C.hb
  have hl := C.hlo.2.2 _ _ hl
  subst hi
  jvm_step X.here [X.here.top, hexec, hb, hd, hl, Op.dload_n.sem]
  exact a1
theorem ez_dload {i : Nat} {x : UInt64} (hd : decode Y.code pc = .ok (.dload i, 2))  (hl : lo[i]? = some (some (.double x)))
    (k : zEF G d K Y (pc + 2) lo (.double x :: st) g Q) : zEF G d K Y pc lo st g Q := by
  intro p l e R s m args below meth c T locs cells slots ls lk mr s1 C
  obtain ⟨t, a1, b1⟩ := k p l e R s m args below meth c T locs cells slots ls lk mr s1 C
  refine ⟨t, ?_, b1⟩
  have X := C.X
  have hexec := C.ex
  have hb := C.hb
  have hl := C.hlo.2.2 _ _ hl
  jvm_step X.here [X.here.top, hexec, hb, hd, hl, Op.dload.sem]
  exact a1
theorem ez_aload_n {k : Fin 4} {i : Nat} {v : Value} (hd : decode Y.code pc = .ok (.aload_n k, 1)) (hi : (k : Nat) = i) (hl : lo[i]? = some (some v)) (hv : v.isRef = true)
    (k : zEF G d K Y (pc + 1) lo (v :: st) g Q) : zEF G d K Y pc lo st g Q := by
  intro p l e R s m args below meth c T locs cells slots ls lk mr s1 C
  obtain ⟨t, a1, b1⟩ := k p l e R s m args below meth c T locs cells slots ls lk mr s1 C
  refine ⟨t, ?_, b1⟩
  have X := C.X
  have hexec := C.ex
  have hb := C.hb
  have hl := C.hlo.2.2 _ _ hl
  subst hi
  jvm_step X.here [X.here.top, hexec, hb, hd, hl, hv]
  exact a1
theorem ez_aload {i : Nat} {v : Value} (hd : decode Y.code pc = .ok (.aload i, 2))  (hl : lo[i]? = some (some v)) (hv : v.isRef = true)
    (k : zEF G d K Y (pc + 2) lo (v :: st) g Q) : zEF G d K Y pc lo st g Q := by
  intro p l e R s m args below meth c T locs cells slots ls lk mr s1 C
  obtain ⟨t, a1, b1⟩ := k p l e R s m args below meth c T locs cells slots ls lk mr s1 C
  refine ⟨t, ?_, b1⟩
  have X := C.X
  have hexec := C.ex
  have hb := C.hb
  have hl := C.hlo.2.2 _ _ hl
  jvm_step X.here [X.here.top, hexec, hb, hd, hl, hv]
  exact a1
/-- a place of the locals is forgotten if it holds a long or a double -/
def zc2 : Option Value → Option Value
  | some (.long _) => none
  | some (.double _) => none
  | x => x
/-- a value of one place is stored at i: the long or double that lay one below is gone -/
def zset1 : List (Option Value) → Nat → Value → List (Option Value)
  | [], _, _ => []
  | _ :: l, 0, v => some v :: l
  | x :: l, i + 1, v => (match i with
    | 0 => zc2 x
    | _ + 1 => x) :: zset1 l i v
def zn1 : List (Option Value) → List (Option Value)
  | [] => []
  | _ :: l => none :: l
/-- a value of two places -/
def zset2 : List (Option Value) → Nat → Value → List (Option Value)
  | [], _, _ => []
  | _ :: l, 0, v => some v :: zn1 l
  | x :: l, i + 1, v => (match i with
    | 0 => zc2 x
    | _ + 1 => x) :: zset2 l i v
theorem zc2_cat {x : Option Value} {w : Value} (h : zc2 x = some w) : x = some w ∧ w.category = 1 := by
  cases x with
  | none => cases h
  | some y => cases y <;> first | (cases h; done) | (cases h; exact ⟨rfl, rfl⟩)
theorem zset1_at : ∀ (l : List (Option Value)) (i : Nat) (v : Value) (j : Nat) (w : Value), (zset1 l i v)[j]? = some (some w) → (j = i ∧ w = v) ∨ (j ≠ i ∧ l[j]? = some (some w) ∧ ¬ (j + 1 = i ∧ w.category = 2))
  | [], i, v, j, w, h => by cases i <;> simp [zset1] at h
  | x :: l, 0, v, j, w, h => by
    cases j with
    | zero => simp [zset1] at h; exact Or.inl ⟨rfl, h.symm⟩
    | succ j => simp [zset1] at h; exact Or.inr ⟨by omega, by simpa using h, by omega⟩
  | x :: l, i + 1, v, j, w, h => by
    cases j with
    | zero =>
      cases i with
      | zero =>
        have h1 : zc2 x = some w := by simpa [zset1] using h
        obtain ⟨h2, h3⟩ := zc2_cat h1
        exact Or.inr ⟨by omega, by simp [h2], fun q => by rw [h3] at q; omega⟩
      | succ i => simp [zset1] at h; exact Or.inr ⟨by omega, by simpa using h, by omega⟩
    | succ j =>
      have h1 : (zset1 l i v)[j]? = some (some w) := by simpa [zset1] using h
      rcases zset1_at l i v j w h1 with ⟨a, b⟩ | ⟨a, b, c⟩
      · exact Or.inl ⟨by omega, b⟩
      · exact Or.inr ⟨by omega, by simpa using b, fun q => c ⟨by omega, q.2⟩⟩
theorem zset2_at : ∀ (l : List (Option Value)) (i : Nat) (v : Value) (j : Nat) (w : Value), (zset2 l i v)[j]? = some (some w) → (j = i ∧ w = v) ∨ (j ≠ i ∧ j ≠ i + 1 ∧ l[j]? = some (some w) ∧ ¬ (j + 1 = i ∧ w.category = 2))
  | [], i, v, j, w, h => by cases i <;> simp [zset2] at h
  | x :: l, 0, v, j, w, h => by
    cases j with
    | zero => simp [zset2] at h; exact Or.inl ⟨rfl, h.symm⟩
    | succ j =>
      cases l with
      | nil => simp [zset2, zn1] at h
      | cons y l =>
        cases j with
        | zero => simp [zset2, zn1] at h
        | succ j => simp [zset2, zn1] at h; exact Or.inr ⟨by omega, by omega, by simpa using h, by omega⟩
  | x :: l, i + 1, v, j, w, h => by
    cases j with
    | zero =>
      cases i with
      | zero =>
        have h1 : zc2 x = some w := by simpa [zset2] using h
        obtain ⟨h2, h3⟩ := zc2_cat h1
        exact Or.inr ⟨by omega, by omega, by simp [h2], fun q => by rw [h3] at q; omega⟩
      | succ i => simp [zset2] at h; exact Or.inr ⟨by omega, by omega, by simpa using h, by omega⟩
    | succ j =>
      have h1 : (zset2 l i v)[j]? = some (some w) := by simpa [zset2] using h
      rcases zset2_at l i v j w h1 with ⟨a, b⟩ | ⟨a, a2, b, c⟩
      · exact Or.inl ⟨by omega, b⟩
      · exact Or.inr ⟨by omega, by omega, by simpa using b, fun q => c ⟨by omega, q.2⟩⟩
def zpl (lo : List (Option Value)) : List (Nat × Value) := (List.range lo.length).filterMap fun j => (lo[j]?.join).map fun v => (j, v)
theorem zpl_in {lo : List (Option Value)} {j : Nat} {v : Value} (h : lo[j]? = some (some v)) : (j, v) ∈ zpl lo := by
  have hl := (List.getElem?_eq_some_iff.mp h).1
  exact List.mem_filterMap.mpr ⟨j, List.mem_range.mpr hl, by simp [h]⟩
theorem zpl_of {lo : List (Option Value)} {q : Nat × Value} (h : q ∈ zpl lo) : lo[q.1]? = some (some q.2) := by
  obtain ⟨j, -, hj⟩ := List.mem_filterMap.mp h
  cases hx : lo[j]? with
  | none => simp [hx] at hj
  | some x =>
    cases x with
    | none => simp [hx] at hj
    | some y => simp [hx] at hj; subst hj; exact hx
theorem zLo.has {ls : Array Slot} {n : Nat} {lo : List (Option Value)} (h : zLo ls n lo) : lv_has ls n (zpl lo) := ⟨h.1, h.2.1, fun q hq => h.2.2 _ _ (zpl_of hq)⟩
theorem zLo.set1 {ls : Array Slot} {n : Nat} {lo : List (Option Value)} (h : zLo ls n lo) {i : Nat} {v : Value} (hi : i < n) (hc : v.category = 1) : ∃ ls', storeLocals ls i v = some ls' ∧ zLo ls' n (zset1 lo i v) := by
  obtain ⟨ls', e, h1, h2, h3⟩ := lv_store1 h.has hi hc
  refine ⟨ls', e, h1, h2, fun j w hj => ?_⟩
  rcases zset1_at lo i v j w hj with ⟨rfl, rfl⟩ | ⟨a, b, q⟩
  · exact h3 (j, w) List.mem_cons_self
  · refine h3 (j, w) (List.mem_cons_of_mem _ (List.mem_filter.mpr ⟨zpl_in b, ?_⟩))
    have h4 : ¬ (j + 1 = i ∧ w.category = 2) := q
    simp only [Bool.and_eq_true, Bool.not_eq_true', beq_eq_false_iff_ne, ne_eq, Bool.and_eq_false_iff]
    refine ⟨a, ?_⟩
    by_cases h5 : j + 1 = i
    · exact Or.inr fun h6 => h4 ⟨h5, h6⟩
    · exact Or.inl h5
theorem zLo.set2 {ls : Array Slot} {n : Nat} {lo : List (Option Value)} (h : zLo ls n lo) {i : Nat} {v : Value} (hi : i + 1 < n) (hc : v.category = 2) : ∃ ls', storeLocals ls i v = some ls' ∧ zLo ls' n (zset2 lo i v) := by
  obtain ⟨ls', e, h1, h2, h3⟩ := lv_store2 h.has hi hc
  refine ⟨ls', e, h1, h2, fun j w hj => ?_⟩
  rcases zset2_at lo i v j w hj with ⟨rfl, rfl⟩ | ⟨a, a2, b, q⟩
  · exact h3 (j, w) List.mem_cons_self
  · refine h3 (j, w) (List.mem_cons_of_mem _ (List.mem_filter.mpr ⟨zpl_in b, ?_⟩))
    have h4 : ¬ (j + 1 = i ∧ w.category = 2) := q
    simp only [Bool.and_eq_true, Bool.not_eq_true', beq_eq_false_iff_ne, ne_eq, Bool.and_eq_false_iff]
    refine ⟨a, a2, ?_⟩
    by_cases h5 : j + 1 = i
    · exact Or.inr fun h6 => h4 ⟨h5, h6⟩
    · exact Or.inl h5
/-- a place is forgotten -/
theorem ez_clr (i : Nat) (k : zEF G d K Y pc (lo.set i none) st g Q) : zEF G d K Y pc lo st g Q := by
  intro p l e R s m args below meth c T locs cells slots ls lk mr s1 C
  refine k p l e R s m args below meth c T locs cells slots ls lk mr s1 (C.setLo ⟨C.hlo.1, C.hlo.2.1, fun j w hj => C.hlo.2.2 j w ?_⟩)
  rw [List.getElem?_set] at hj
  by_cases e : i = j
  · subst e
    rw [if_pos rfl] at hj
    split at hj <;> cases hj
  · rw [if_neg e] at hj
    exact hj
theorem ez_istore_n {k : Fin 4} {i : Nat} {x : Int32} (hd : decode Y.code pc = .ok (.istore_n k, 1)) (hi : (k : Nat) = i) (hn : i < Y.mL)
    (k : zEF G d K Y (pc + 1) (zset1 lo i (.int x)) st g Q) : zEF G d K Y pc lo (.int x :: st) g Q := by
  intro p l e R s m args below meth c T locs cells slots ls lk mr s1 C
  obtain ⟨ls', e', hL⟩ := C.hlo.set1 (v := .int x) hn rfl
  obtain ⟨t, a1, b1⟩ := k p l e R s m args below meth c T locs cells slots ls' lk mr s1 (C.setLo hL)
  refine ⟨t, ?_, b1⟩
  have X := C.X
  have hexec := C.ex
  have hb := C.hb
  subst hi
  jvm_step X.here [X.here.top, ↓top_set X.here.top, hexec, hb, hd, e']
  exact a1
theorem ez_istore {i : Nat} {x : Int32} (hd : decode Y.code pc = .ok (.istore i, 2))  (hn : i < Y.mL)
    (k : zEF G d K Y (pc + 2) (zset1 lo i (.int x)) st g Q) : zEF G d K Y pc lo (.int x :: st) g Q := by
  intro p l e R s m args below meth c T locs cells slots ls lk mr s1 C
  obtain ⟨ls', e', hL⟩ := C.hlo.set1 (v := .int x) hn rfl
  obtain ⟨t, a1, b1⟩ := k p l e R s m args below meth c T locs cells slots ls' lk mr s1 (C.setLo hL)
  refine ⟨t, ?_, b1⟩
  have X := C.X
  have hexec := C.ex
  have hb := C.hb
  jvm_step X.here [X.here.top, ↓top_set X.here.top, hexec, hb, hd, e']
  exact a1
theorem ez_lstore_n {k : Fin 4} {i : Nat} {x : Int64} (hd : decode Y.code pc = .ok (.lstore_n k, 1)) (hi : (k : Nat) = i) (hn : i + 1 < Y.mL)
    (k : zEF G d K Y (pc + 1) (zset2 lo i (.long x)) st g Q) : zEF G d K Y pc lo (.long x :: st) g Q := by
  intro p l e R s m args below meth c T locs cells slots ls lk mr s1 C
  obtain ⟨ls', e', hL⟩ := C.hlo.set2 (v := .long x) hn rfl
  obtain ⟨t, a1, b1⟩ := k p l e R s m args below meth c T locs cells slots ls' lk mr s1 (C.setLo hL)
  refine ⟨t, ?_, b1⟩
  have X := C.X
  have hexec := C.ex
  have hb := C.hb
  subst hi
  jvm_step X.here [X.here.top, ↓top_set X.here.top, hexec, hb, hd, e']
  exact a1
theorem ez_lstore {i : Nat} {x : Int64} (hd : decode Y.code pc = .ok (.lstore i, 2))  (hn : i + 1 < Y.mL)
    (k : zEF G d K Y (pc + 2) (zset2 lo i (.long x)) st g Q) : zEF G d K Y pc lo (.long x :: st) g Q := by
  intro p l e R s m args below meth c T locs cells slots ls lk mr s1 C
  obtain ⟨ls', e', hL⟩ := C.hlo.set2 (v := .long x) hn rfl
  obtain ⟨t, a1, b1⟩ := k p l e R s m args below meth c T locs cells slots ls' lk mr s1 (C.setLo hL)
  refine ⟨t, ?_, b1⟩
  have X := C.X
  have hexec := C.ex
  have hb := C.hb
  jvm_step X.here [X.here.top, ↓top_set X.here.top, hexec, hb, hd, e']
  exact a1
theorem ez_fstore_n {k : Fin 4} {i : Nat} {x : UInt32} (hd : decode Y.code pc = .ok (.fstore_n k, 1)) (hi : (k : Nat) = i) (hn : i < Y.mL)
    (k : zEF G d K Y (pc + 1) (zset1 lo i (.float x)) st g Q) : zEF G d K Y pc lo (.float x :: st) g Q := by
  intro p l e R s m args below meth c T locs cells slots ls lk mr s1 C
  obtain ⟨ls', e', hL⟩ := C.hlo.set1 (v := .float x) hn rfl
  obtain ⟨t, a1, b1⟩ := k p l e R s m args below meth c T locs cells slots ls' lk mr s1 (C.setLo hL)
  refine ⟨t, ?_, b1⟩
  have X := C.X
  have hexec := C.ex
  have hb := C.hb
  subst hi
  jvm_step X.here [X.here.top, ↓top_set X.here.top, hexec, hb, hd, e', Op.fstore_n.sem]
  exact a1
theorem ez_fstore {i : Nat} {x : UInt32} (hd : decode Y.code pc = .ok (.fstore i, 2))  (hn : i < Y.mL)
    (k : zEF G d K Y (pc + 2) (zset1 lo i (.float x)) st g Q) : zEF G d K Y pc lo (.float x :: st) g Q := by
  intro p l e R s m args below meth c T locs cells slots ls lk mr s1 C
  obtain ⟨ls', e', hL⟩ := C.hlo.set1 (v := .float x) hn rfl
  obtain ⟨t, a1, b1⟩ := k p l e R s m args below meth c T locs cells slots ls' lk mr s1 (C.setLo hL)
  refine ⟨t, ?_, b1⟩
  have X := C.X
  have hexec := C.ex
  have hb := C.hb
  jvm_step X.here [X.here.top, ↓top_set X.here.top, hexec, hb, hd, e', Op.fstore.sem]
  exact a1
theorem ez_dstore_n {k : Fin 4} {i : Nat} {x : UInt64} (hd : decode Y.code pc = .ok (.dstore_n k, 1)) (hi : (k : Nat) = i) (hn : i + 1 < Y.mL)
    (k : zEF G d K Y (pc + 1) (zset2 lo i (.double x)) st g Q) : zEF G d K Y pc lo (.double x :: st) g Q := by
  intro p l e R s m args below meth c T locs cells slots ls lk mr s1 C
  obtain ⟨ls', e', hL⟩ := C.hlo.set2 (v := .double x) hn rfl
  obtain ⟨t, a1, b1⟩ := k p l e R s m args below meth c T locs cells slots ls' lk mr s1 (C.setLo hL)
  refine ⟨t, ?_, b1⟩
  have X := C.X
  have hexec := C.ex
  have hb := C.hb
  subst hi
  jvm_step X.here [X.here.top, ↓top_set X.here.top, hexec, hb, hd, e', Op.dstore_n.sem]
  exact a1
theorem ez_dstore {i : Nat} {x : UInt64} (hd : decode Y.code pc = .ok (.dstore i, 2))  (hn : i + 1 < Y.mL)
    (k : zEF G d K Y (pc + 2) (zset2 lo i (.double x)) st g Q) : zEF G d K Y pc lo (.double x :: st) g Q := by
  intro p l e R s m args below meth c T locs cells slots ls lk mr s1 C
  obtain ⟨ls', e', hL⟩ := C.hlo.set2 (v := .double x) hn rfl
  obtain ⟨t, a1, b1⟩ := k p l e R s m args below meth c T locs cells slots ls' lk mr s1 (C.setLo hL)
  refine ⟨t, ?_, b1⟩
  have X := C.X
  have hexec := C.ex
  have hb := C.hb
  jvm_step X.here [X.here.top, ↓top_set X.here.top, hexec, hb, hd, e', Op.dstore.sem]
  exact a1
theorem ez_astore_n {k : Fin 4} {i : Nat} {v : Value} (hd : decode Y.code pc = .ok (.astore_n k, 1)) (hi : (k : Nat) = i) (hn : i < Y.mL) (hv : v.isRef = true)
    (k : zEF G d K Y (pc + 1) (zset1 lo i (v)) st g Q) : zEF G d K Y pc lo (v :: st) g Q := by
  intro p l e R s m args below meth c T locs cells slots ls lk mr s1 C
  obtain ⟨ls', e', hL⟩ := C.hlo.set1 (v := v) hn (by cases v <;> first | rfl | cases hv)
  obtain ⟨t, a1, b1⟩ := k p l e R s m args below meth c T locs cells slots ls' lk mr s1 (C.setLo hL)
  refine ⟨t, ?_, b1⟩
  have X := C.X
  have hexec := C.ex
  have hb := C.hb
  subst hi
  jvm_step X.here [X.here.top, ↓top_set X.here.top, hexec, hb, hd, e', hv]
  exact a1
theorem ez_astore {i : Nat} {v : Value} (hd : decode Y.code pc = .ok (.astore i, 2))  (hn : i < Y.mL) (hv : v.isRef = true)
    (k : zEF G d K Y (pc + 2) (zset1 lo i (v)) st g Q) : zEF G d K Y pc lo (v :: st) g Q := by
  intro p l e R s m args below meth c T locs cells slots ls lk mr s1 C
  obtain ⟨ls', e', hL⟩ := C.hlo.set1 (v := v) hn (by cases v <;> first | rfl | cases hv)
  obtain ⟨t, a1, b1⟩ := k p l e R s m args below meth c T locs cells slots ls' lk mr s1 (C.setLo hL)
  refine ⟨t, ?_, b1⟩
  have X := C.X
  have hexec := C.ex
  have hb := C.hb
  jvm_step X.here [X.here.top, ↓top_set X.here.top, hexec, hb, hd, e', hv]
  exact a1
theorem ez_iinc {i : Nat} {n : Int} {x v : Int32} (hd : decode Y.code pc = .ok (.iinc i n, 3)) (hl : lo[i]? = some (some (.int x))) (hv : x + Int32.ofInt n = v) (hn : i < Y.mL)
    (k : zEF G d K Y (pc + 3) (zset1 lo i (.int v)) st g Q) : zEF G d K Y pc lo st g Q := by
  subst hv
  intro p l e R s m args below meth c T locs cells slots ls lk mr s1 C
  have hg := C.hlo.2.2 _ _ hl
  obtain ⟨ls', e', hL⟩ := C.hlo.set1 (v := .int (x + Int32.ofInt n)) hn rfl
  obtain ⟨t, a1, b1⟩ := k p l e R s m args below meth c T locs cells slots ls' lk mr s1 (C.setLo hL)
  refine ⟨t, ?_, b1⟩
  have X := C.X
  have hexec := C.ex
  have hb := C.hb
  jvm_step X.here [X.here.top, ↓top_set X.here.top, hexec, hb, hd, hg, e']
  exact a1
theorem ez_iadd {x y : Int32} (hd : decode Y.code pc = .ok (.iadd, 1)) 
    (k : zEF G d K Y (pc + 1) lo (.int (x + y) :: st) g Q) : zEF G d K Y pc lo (.int y :: .int x :: st) g Q := by
  intro p l e R s m args below meth c T locs cells slots ls lk mr s1 C
  obtain ⟨t, a1, b1⟩ := k p l e R s m args below meth c T locs cells slots ls lk mr s1 C
  refine ⟨t, ?_, b1⟩
  have X := C.X
  have hexec := C.ex
  have hb := C.hb
  jvm_step X.here [X.here.top, hexec, hb, hd]
  exact a1
theorem ez_isub {x y : Int32} (hd : decode Y.code pc = .ok (.isub, 1)) 
    (k : zEF G d K Y (pc + 1) lo (.int (x - y) :: st) g Q) : zEF G d K Y pc lo (.int y :: .int x :: st) g Q := by
  intro p l e R s m args below meth c T locs cells slots ls lk mr s1 C
  obtain ⟨t, a1, b1⟩ := k p l e R s m args below meth c T locs cells slots ls lk mr s1 C
  refine ⟨t, ?_, b1⟩
  have X := C.X
  have hexec := C.ex
  have hb := C.hb
  jvm_step X.here [X.here.top, hexec, hb, hd]
  exact a1
theorem ez_imul {x y : Int32} (hd : decode Y.code pc = .ok (.imul, 1)) 
    (k : zEF G d K Y (pc + 1) lo (.int (x * y) :: st) g Q) : zEF G d K Y pc lo (.int y :: .int x :: st) g Q := by
  intro p l e R s m args below meth c T locs cells slots ls lk mr s1 C
  obtain ⟨t, a1, b1⟩ := k p l e R s m args below meth c T locs cells slots ls lk mr s1 C
  refine ⟨t, ?_, b1⟩
  have X := C.X
  have hexec := C.ex
  have hb := C.hb
  jvm_step X.here [X.here.top, hexec, hb, hd]
  exact a1
theorem ez_iand {x y : Int32} (hd : decode Y.code pc = .ok (.iand, 1)) 
    (k : zEF G d K Y (pc + 1) lo (.int (x &&& y) :: st) g Q) : zEF G d K Y pc lo (.int y :: .int x :: st) g Q := by
  intro p l e R s m args below meth c T locs cells slots ls lk mr s1 C
  obtain ⟨t, a1, b1⟩ := k p l e R s m args below meth c T locs cells slots ls lk mr s1 C
  refine ⟨t, ?_, b1⟩
  have X := C.X
  have hexec := C.ex
  have hb := C.hb
  jvm_step X.here [X.here.top, hexec, hb, hd]
  exact a1
theorem ez_ior {x y : Int32} (hd : decode Y.code pc = .ok (.ior, 1)) 
    (k : zEF G d K Y (pc + 1) lo (.int (x ||| y) :: st) g Q) : zEF G d K Y pc lo (.int y :: .int x :: st) g Q := by
  intro p l e R s m args below meth c T locs cells slots ls lk mr s1 C
  obtain ⟨t, a1, b1⟩ := k p l e R s m args below meth c T locs cells slots ls lk mr s1 C
  refine ⟨t, ?_, b1⟩
  have X := C.X
  have hexec := C.ex
  have hb := C.hb
  jvm_step X.here [X.here.top, hexec, hb, hd]
  exact a1
theorem ez_ineg {x : Int32} (hd : decode Y.code pc = .ok (.ineg, 1)) 
    (k : zEF G d K Y (pc + 1) lo (.int (-x) :: st) g Q) : zEF G d K Y pc lo (.int x :: st) g Q := by
  intro p l e R s m args below meth c T locs cells slots ls lk mr s1 C
  obtain ⟨t, a1, b1⟩ := k p l e R s m args below meth c T locs cells slots ls lk mr s1 C
  refine ⟨t, ?_, b1⟩
  have X := C.X
  have hexec := C.ex
  have hb := C.hb
  jvm_step X.here [X.here.top, hexec, hb, hd]
  exact a1
theorem ez_idiv {x y : Int32} (hd : decode Y.code pc = .ok (.idiv, 1)) (hne : ¬ y = 0)
    (k : zEF G d K Y (pc + 1) lo (.int (x / y) :: st) g Q) : zEF G d K Y pc lo (.int y :: .int x :: st) g Q := by
  intro p l e R s m args below meth c T locs cells slots ls lk mr s1 C
  obtain ⟨t, a1, b1⟩ := k p l e R s m args below meth c T locs cells slots ls lk mr s1 C
  refine ⟨t, ?_, b1⟩
  have X := C.X
  have hexec := C.ex
  have hb := C.hb
  jvm_step X.here [X.here.top, hexec, hb, hd, hne]
  exact a1
theorem ez_irem {x y : Int32} (hd : decode Y.code pc = .ok (.irem, 1)) (hne : ¬ y = 0)
    (k : zEF G d K Y (pc + 1) lo (.int (x - x / y * y) :: st) g Q) : zEF G d K Y pc lo (.int y :: .int x :: st) g Q := by
  intro p l e R s m args below meth c T locs cells slots ls lk mr s1 C
  obtain ⟨t, a1, b1⟩ := k p l e R s m args below meth c T locs cells slots ls lk mr s1 C
  refine ⟨t, ?_, b1⟩
  have X := C.X
  have hexec := C.ex
  have hb := C.hb
  jvm_step X.here [X.here.top, hexec, hb, hd, hne]
  exact a1
theorem ez_ladd {x y : Int64} (hd : decode Y.code pc = .ok (.ladd, 1)) 
    (k : zEF G d K Y (pc + 1) lo (.long (x + y) :: st) g Q) : zEF G d K Y pc lo (.long y :: .long x :: st) g Q := by
  intro p l e R s m args below meth c T locs cells slots ls lk mr s1 C
  obtain ⟨t, a1, b1⟩ := k p l e R s m args below meth c T locs cells slots ls lk mr s1 C
  refine ⟨t, ?_, b1⟩
  have X := C.X
  have hexec := C.ex
  have hb := C.hb
  jvm_step X.here [X.here.top, hexec, hb, hd]
  exact a1
theorem ez_lmul {x y : Int64} (hd : decode Y.code pc = .ok (.lmul, 1)) 
    (k : zEF G d K Y (pc + 1) lo (.long (x * y) :: st) g Q) : zEF G d K Y pc lo (.long y :: .long x :: st) g Q := by
  intro p l e R s m args below meth c T locs cells slots ls lk mr s1 C
  obtain ⟨t, a1, b1⟩ := k p l e R s m args below meth c T locs cells slots ls lk mr s1 C
  refine ⟨t, ?_, b1⟩
  have X := C.X
  have hexec := C.ex
  have hb := C.hb
  jvm_step X.here [X.here.top, hexec, hb, hd]
  exact a1
theorem ez_land {x y : Int64} (hd : decode Y.code pc = .ok (.land, 1)) 
    (k : zEF G d K Y (pc + 1) lo (.long (x &&& y) :: st) g Q) : zEF G d K Y pc lo (.long y :: .long x :: st) g Q := by
  intro p l e R s m args below meth c T locs cells slots ls lk mr s1 C
  obtain ⟨t, a1, b1⟩ := k p l e R s m args below meth c T locs cells slots ls lk mr s1 C
  refine ⟨t, ?_, b1⟩
  have X := C.X
  have hexec := C.ex
  have hb := C.hb
  jvm_step X.here [X.here.top, hexec, hb, hd]
  exact a1
theorem ez_lor {x y : Int64} (hd : decode Y.code pc = .ok (.lor, 1)) 
    (k : zEF G d K Y (pc + 1) lo (.long (x ||| y) :: st) g Q) : zEF G d K Y pc lo (.long y :: .long x :: st) g Q := by
  intro p l e R s m args below meth c T locs cells slots ls lk mr s1 C
  obtain ⟨t, a1, b1⟩ := k p l e R s m args below meth c T locs cells slots ls lk mr s1 C
  refine ⟨t, ?_, b1⟩
  have X := C.X
  have hexec := C.ex
  have hb := C.hb
  jvm_step X.here [X.here.top, hexec, hb, hd]
  exact a1
theorem ez_lshl {x : Int64} {y : Int32} (hd : decode Y.code pc = .ok (.lshl, 1)) 
    (k : zEF G d K Y (pc + 1) lo (.long (x <<< (y.toInt64 &&& 63)) :: st) g Q) : zEF G d K Y pc lo (.int y :: .long x :: st) g Q := by
  intro p l e R s m args below meth c T locs cells slots ls lk mr s1 C
  obtain ⟨t, a1, b1⟩ := k p l e R s m args below meth c T locs cells slots ls lk mr s1 C
  refine ⟨t, ?_, b1⟩
  have X := C.X
  have hexec := C.ex
  have hb := C.hb
  jvm_step X.here [X.here.top, hexec, hb, hd]
  exact a1
theorem ez_fadd {x y : UInt32} (hd : decode Y.code pc = .ok (.fadd, 1)) (hne : vf_n32 (FP.fadd x y))
    (k : zEF G d K Y (pc + 1) lo (.float (FP.fadd x y) :: st) g Q) : zEF G d K Y pc lo (.float y :: .float x :: st) g Q := by
  intro p l e R s m args below meth c T locs cells slots ls lk mr s1 C
  obtain ⟨t, a1, b1⟩ := k p l e R s m args below meth c T locs cells slots ls lk mr s1 C
  refine ⟨t, ?_, b1⟩
  have X := C.X
  have hexec := C.ex
  have hb := C.hb
  unfold vf_n32 at hne
  jvm_step X.here [X.here.top, hexec, hb, hd, Op.fadd.sem, anyNaN32, hne]
  exact a1
theorem ez_fsub {x y : UInt32} (hd : decode Y.code pc = .ok (.fsub, 1)) (hne : vf_n32 (FP.fsub x y))
    (k : zEF G d K Y (pc + 1) lo (.float (FP.fsub x y) :: st) g Q) : zEF G d K Y pc lo (.float y :: .float x :: st) g Q := by
  intro p l e R s m args below meth c T locs cells slots ls lk mr s1 C
  obtain ⟨t, a1, b1⟩ := k p l e R s m args below meth c T locs cells slots ls lk mr s1 C
  refine ⟨t, ?_, b1⟩
  have X := C.X
  have hexec := C.ex
  have hb := C.hb
  unfold vf_n32 at hne
  jvm_step X.here [X.here.top, hexec, hb, hd, Op.fsub.sem, anyNaN32, hne]
  exact a1
theorem ez_fmul {x y : UInt32} (hd : decode Y.code pc = .ok (.fmul, 1)) (hne : vf_n32 (FP.fmul x y))
    (k : zEF G d K Y (pc + 1) lo (.float (FP.fmul x y) :: st) g Q) : zEF G d K Y pc lo (.float y :: .float x :: st) g Q := by
  intro p l e R s m args below meth c T locs cells slots ls lk mr s1 C
  obtain ⟨t, a1, b1⟩ := k p l e R s m args below meth c T locs cells slots ls lk mr s1 C
  refine ⟨t, ?_, b1⟩
  have X := C.X
  have hexec := C.ex
  have hb := C.hb
  unfold vf_n32 at hne
  jvm_step X.here [X.here.top, hexec, hb, hd, Op.fmul.sem, anyNaN32, hne]
  exact a1
theorem ez_fdiv {x y : UInt32} (hd : decode Y.code pc = .ok (.fdiv, 1)) (hne : vf_n32 (FP.fdiv x y))
    (k : zEF G d K Y (pc + 1) lo (.float (FP.fdiv x y) :: st) g Q) : zEF G d K Y pc lo (.float y :: .float x :: st) g Q := by
  intro p l e R s m args below meth c T locs cells slots ls lk mr s1 C
  obtain ⟨t, a1, b1⟩ := k p l e R s m args below meth c T locs cells slots ls lk mr s1 C
  refine ⟨t, ?_, b1⟩
  have X := C.X
  have hexec := C.ex
  have hb := C.hb
  unfold vf_n32 at hne
  jvm_step X.here [X.here.top, hexec, hb, hd, Op.fdiv.sem, anyNaN32, hne]
  exact a1
theorem ez_frem {x y : UInt32} (hd : decode Y.code pc = .ok (.frem, 1)) (hne : vf_n32 (FP.frem x y))
    (k : zEF G d K Y (pc + 1) lo (.float (FP.frem x y) :: st) g Q) : zEF G d K Y pc lo (.float y :: .float x :: st) g Q := by
  intro p l e R s m args below meth c T locs cells slots ls lk mr s1 C
  obtain ⟨t, a1, b1⟩ := k p l e R s m args below meth c T locs cells slots ls lk mr s1 C
  refine ⟨t, ?_, b1⟩
  have X := C.X
  have hexec := C.ex
  have hb := C.hb
  unfold vf_n32 at hne
  jvm_step X.here [X.here.top, hexec, hb, hd, Op.frem.sem, anyNaN32, hne]
  exact a1
theorem ez_dadd {x y : UInt64} (hd : decode Y.code pc = .ok (.dadd, 1)) (hne : vf_n64 (FP.dadd x y))
    (k : zEF G d K Y (pc + 1) lo (.double (FP.dadd x y) :: st) g Q) : zEF G d K Y pc lo (.double y :: .double x :: st) g Q := by
  intro p l e R s m args below meth c T locs cells slots ls lk mr s1 C
  obtain ⟨t, a1, b1⟩ := k p l e R s m args below meth c T locs cells slots ls lk mr s1 C
  refine ⟨t, ?_, b1⟩
  have X := C.X
  have hexec := C.ex
  have hb := C.hb
  unfold vf_n64 at hne
  jvm_step X.here [X.here.top, hexec, hb, hd, Op.dadd.sem, anyNaN64, hne]
  exact a1
theorem ez_dsub {x y : UInt64} (hd : decode Y.code pc = .ok (.dsub, 1)) (hne : vf_n64 (FP.dsub x y))
    (k : zEF G d K Y (pc + 1) lo (.double (FP.dsub x y) :: st) g Q) : zEF G d K Y pc lo (.double y :: .double x :: st) g Q := by
  intro p l e R s m args below meth c T locs cells slots ls lk mr s1 C
  obtain ⟨t, a1, b1⟩ := k p l e R s m args below meth c T locs cells slots ls lk mr s1 C
  refine ⟨t, ?_, b1⟩
  have X := C.X
  have hexec := C.ex
  have hb := C.hb
  unfold vf_n64 at hne
  jvm_step X.here [X.here.top, hexec, hb, hd, Op.dsub.sem, anyNaN64, hne]
  exact a1
theorem ez_dmul {x y : UInt64} (hd : decode Y.code pc = .ok (.dmul, 1)) (hne : vf_n64 (FP.dmul x y))
    (k : zEF G d K Y (pc + 1) lo (.double (FP.dmul x y) :: st) g Q) : zEF G d K Y pc lo (.double y :: .double x :: st) g Q := by
  intro p l e R s m args below meth c T locs cells slots ls lk mr s1 C
  obtain ⟨t, a1, b1⟩ := k p l e R s m args below meth c T locs cells slots ls lk mr s1 C
  refine ⟨t, ?_, b1⟩
  have X := C.X
  have hexec := C.ex
  have hb := C.hb
  unfold vf_n64 at hne
  jvm_step X.here [X.here.top, hexec, hb, hd, Op.dmul.sem, anyNaN64, hne]
  exact a1
theorem ez_ddiv {x y : UInt64} (hd : decode Y.code pc = .ok (.ddiv, 1)) (hne : vf_n64 (FP.ddiv x y))
    (k : zEF G d K Y (pc + 1) lo (.double (FP.ddiv x y) :: st) g Q) : zEF G d K Y pc lo (.double y :: .double x :: st) g Q := by
  intro p l e R s m args below meth c T locs cells slots ls lk mr s1 C
  obtain ⟨t, a1, b1⟩ := k p l e R s m args below meth c T locs cells slots ls lk mr s1 C
  refine ⟨t, ?_, b1⟩
  have X := C.X
  have hexec := C.ex
  have hb := C.hb
  unfold vf_n64 at hne
  jvm_step X.here [X.here.top, hexec, hb, hd, Op.ddiv.sem, anyNaN64, hne]
  exact a1
theorem ez_fneg {x : UInt32} (hd : decode Y.code pc = .ok (.fneg, 1)) 
    (k : zEF G d K Y (pc + 1) lo (.float (FP.fneg x) :: st) g Q) : zEF G d K Y pc lo (.float x :: st) g Q := by
  intro p l e R s m args below meth c T locs cells slots ls lk mr s1 C
  obtain ⟨t, a1, b1⟩ := k p l e R s m args below meth c T locs cells slots ls lk mr s1 C
  refine ⟨t, ?_, b1⟩
  have X := C.X
  have hexec := C.ex
  have hb := C.hb
  jvm_step X.here [X.here.top, hexec, hb, hd]
  exact a1
theorem ez_fcmp {x y : UInt32} {op : CmpOp} (hd : decode Y.code pc = .ok (.fcmp op, 1)) 
    (k : zEF G d K Y (pc + 1) lo (.int (Op.cmpValue (FP.fcmp x y) op) :: st) g Q) : zEF G d K Y pc lo (.float y :: .float x :: st) g Q := by
  intro p l e R s m args below meth c T locs cells slots ls lk mr s1 C
  obtain ⟨t, a1, b1⟩ := k p l e R s m args below meth c T locs cells slots ls lk mr s1 C
  refine ⟨t, ?_, b1⟩
  have X := C.X
  have hexec := C.ex
  have hb := C.hb
  jvm_step X.here [X.here.top, hexec, hb, hd]
  exact a1
theorem ez_dcmp {x y : UInt64} {op : CmpOp} (hd : decode Y.code pc = .ok (.dcmp op, 1)) 
    (k : zEF G d K Y (pc + 1) lo (.int (Op.cmpValue (FP.dcmp x y) op) :: st) g Q) : zEF G d K Y pc lo (.double y :: .double x :: st) g Q := by
  intro p l e R s m args below meth c T locs cells slots ls lk mr s1 C
  obtain ⟨t, a1, b1⟩ := k p l e R s m args below meth c T locs cells slots ls lk mr s1 C
  refine ⟨t, ?_, b1⟩
  have X := C.X
  have hexec := C.ex
  have hb := C.hb
  jvm_step X.here [X.here.top, hexec, hb, hd]
  exact a1
theorem ez_i2l {x : Int32} (hd : decode Y.code pc = .ok (.i2l, 1)) 
    (k : zEF G d K Y (pc + 1) lo (.long x.toInt64 :: st) g Q) : zEF G d K Y pc lo (.int x :: st) g Q := by
  intro p l e R s m args below meth c T locs cells slots ls lk mr s1 C
  obtain ⟨t, a1, b1⟩ := k p l e R s m args below meth c T locs cells slots ls lk mr s1 C
  refine ⟨t, ?_, b1⟩
  have X := C.X
  have hexec := C.ex
  have hb := C.hb
  jvm_step X.here [X.here.top, hexec, hb, hd]
  exact a1
theorem ez_l2i {x : Int64} (hd : decode Y.code pc = .ok (.l2i, 1)) 
    (k : zEF G d K Y (pc + 1) lo (.int x.toInt32 :: st) g Q) : zEF G d K Y pc lo (.long x :: st) g Q := by
  intro p l e R s m args below meth c T locs cells slots ls lk mr s1 C
  obtain ⟨t, a1, b1⟩ := k p l e R s m args below meth c T locs cells slots ls lk mr s1 C
  refine ⟨t, ?_, b1⟩
  have X := C.X
  have hexec := C.ex
  have hb := C.hb
  jvm_step X.here [X.here.top, hexec, hb, hd]
  exact a1
theorem ez_i2b {x : Int32} (hd : decode Y.code pc = .ok (.i2b, 1)) 
    (k : zEF G d K Y (pc + 1) lo (.int x.toInt8.toInt32 :: st) g Q) : zEF G d K Y pc lo (.int x :: st) g Q := by
  intro p l e R s m args below meth c T locs cells slots ls lk mr s1 C
  obtain ⟨t, a1, b1⟩ := k p l e R s m args below meth c T locs cells slots ls lk mr s1 C
  refine ⟨t, ?_, b1⟩
  have X := C.X
  have hexec := C.ex
  have hb := C.hb
  jvm_step X.here [X.here.top, hexec, hb, hd]
  exact a1
theorem ez_i2s {x : Int32} (hd : decode Y.code pc = .ok (.i2s, 1)) 
    (k : zEF G d K Y (pc + 1) lo (.int x.toInt16.toInt32 :: st) g Q) : zEF G d K Y pc lo (.int x :: st) g Q := by
  intro p l e R s m args below meth c T locs cells slots ls lk mr s1 C
  obtain ⟨t, a1, b1⟩ := k p l e R s m args below meth c T locs cells slots ls lk mr s1 C
  refine ⟨t, ?_, b1⟩
  have X := C.X
  have hexec := C.ex
  have hb := C.hb
  jvm_step X.here [X.here.top, hexec, hb, hd]
  exact a1
theorem ez_i2f {x : Int32} (hd : decode Y.code pc = .ok (.i2f, 1)) 
    (k : zEF G d K Y (pc + 1) lo (.float (FP.i2f x) :: st) g Q) : zEF G d K Y pc lo (.int x :: st) g Q := by
  intro p l e R s m args below meth c T locs cells slots ls lk mr s1 C
  obtain ⟨t, a1, b1⟩ := k p l e R s m args below meth c T locs cells slots ls lk mr s1 C
  refine ⟨t, ?_, b1⟩
  have X := C.X
  have hexec := C.ex
  have hb := C.hb
  jvm_step X.here [X.here.top, hexec, hb, hd]
  exact a1
theorem ez_i2d {x : Int32} (hd : decode Y.code pc = .ok (.i2d, 1)) 
    (k : zEF G d K Y (pc + 1) lo (.double (FP.i2d x) :: st) g Q) : zEF G d K Y pc lo (.int x :: st) g Q := by
  intro p l e R s m args below meth c T locs cells slots ls lk mr s1 C
  obtain ⟨t, a1, b1⟩ := k p l e R s m args below meth c T locs cells slots ls lk mr s1 C
  refine ⟨t, ?_, b1⟩
  have X := C.X
  have hexec := C.ex
  have hb := C.hb
  jvm_step X.here [X.here.top, hexec, hb, hd]
  exact a1
theorem ez_l2d {x : Int64} (hd : decode Y.code pc = .ok (.l2d, 1)) 
    (k : zEF G d K Y (pc + 1) lo (.double (FP.l2d x) :: st) g Q) : zEF G d K Y pc lo (.long x :: st) g Q := by
  intro p l e R s m args below meth c T locs cells slots ls lk mr s1 C
  obtain ⟨t, a1, b1⟩ := k p l e R s m args below meth c T locs cells slots ls lk mr s1 C
  refine ⟨t, ?_, b1⟩
  have X := C.X
  have hexec := C.ex
  have hb := C.hb
  jvm_step X.here [X.here.top, hexec, hb, hd]
  exact a1
theorem ez_f2i {x : UInt32} (hd : decode Y.code pc = .ok (.f2i, 1)) 
    (k : zEF G d K Y (pc + 1) lo (.int (FP.f2i x) :: st) g Q) : zEF G d K Y pc lo (.float x :: st) g Q := by
  intro p l e R s m args below meth c T locs cells slots ls lk mr s1 C
  obtain ⟨t, a1, b1⟩ := k p l e R s m args below meth c T locs cells slots ls lk mr s1 C
  refine ⟨t, ?_, b1⟩
  have X := C.X
  have hexec := C.ex
  have hb := C.hb
  jvm_step X.here [X.here.top, hexec, hb, hd]
  exact a1
theorem ez_f2d {x : UInt32} (hd : decode Y.code pc = .ok (.f2d, 1)) (hne : vf_n64 (FP.f2d x))
    (k : zEF G d K Y (pc + 1) lo (.double (FP.f2d x) :: st) g Q) : zEF G d K Y pc lo (.float x :: st) g Q := by
  intro p l e R s m args below meth c T locs cells slots ls lk mr s1 C
  obtain ⟨t, a1, b1⟩ := k p l e R s m args below meth c T locs cells slots ls lk mr s1 C
  refine ⟨t, ?_, b1⟩
  have X := C.X
  have hexec := C.ex
  have hb := C.hb
  unfold vf_n64 at hne
  jvm_step X.here [X.here.top, hexec, hb, hd, Op.f2d.sem, anyNaN64, hne]
  exact a1
theorem ez_d2f {x : UInt64} (hd : decode Y.code pc = .ok (.d2f, 1)) (hne : vf_n32 (FP.d2f x))
    (k : zEF G d K Y (pc + 1) lo (.float (FP.d2f x) :: st) g Q) : zEF G d K Y pc lo (.double x :: st) g Q := by
  intro p l e R s m args below meth c T locs cells slots ls lk mr s1 C
  obtain ⟨t, a1, b1⟩ := k p l e R s m args below meth c T locs cells slots ls lk mr s1 C
  refine ⟨t, ?_, b1⟩
  have X := C.X
  have hexec := C.ex
  have hb := C.hb
  unfold vf_n32 at hne
  jvm_step X.here [X.here.top, hexec, hb, hd, Op.d2f.sem, anyNaN32, hne]
  exact a1
theorem ez_dup {va : Value} (hd : decode Y.code pc = .ok (.dup, 1)) (hva : va.category = 1)
    (k : zEF G d K Y (pc + 1) lo (va :: va :: st) g Q) : zEF G d K Y pc lo (va :: st) g Q := by
  intro p l e R s m args below meth c T locs cells slots ls lk mr s1 C
  obtain ⟨t, a1, b1⟩ := k p l e R s m args below meth c T locs cells slots ls lk mr s1 C
  refine ⟨t, ?_, b1⟩
  have X := C.X
  have hexec := C.ex
  have hb := C.hb
  jvm_step X.here [X.here.top, hexec, hb, hd, hva]
  exact a1
theorem ez_pop {va : Value} (hd : decode Y.code pc = .ok (.pop, 1)) (hva : va.category = 1)
    (k : zEF G d K Y (pc + 1) lo (st) g Q) : zEF G d K Y pc lo (va :: st) g Q := by
  intro p l e R s m args below meth c T locs cells slots ls lk mr s1 C
  obtain ⟨t, a1, b1⟩ := k p l e R s m args below meth c T locs cells slots ls lk mr s1 C
  refine ⟨t, ?_, b1⟩
  have X := C.X
  have hexec := C.ex
  have hb := C.hb
  jvm_step X.here [X.here.top, hexec, hb, hd, hva]
  exact a1
theorem ez_dup2 {va vb : Value} (hd : decode Y.code pc = .ok (.dup2, 1)) (hva : va.category = 1) (hvb : vb.category = 1)
    (k : zEF G d K Y (pc + 1) lo (va :: vb :: va :: vb :: st) g Q) : zEF G d K Y pc lo (va :: vb :: st) g Q := by
  intro p l e R s m args below meth c T locs cells slots ls lk mr s1 C
  obtain ⟨t, a1, b1⟩ := k p l e R s m args below meth c T locs cells slots ls lk mr s1 C
  refine ⟨t, ?_, b1⟩
  have X := C.X
  have hexec := C.ex
  have hb := C.hb
  jvm_step X.here [X.here.top, hexec, hb, hd, hva, hvb]
  exact a1
theorem ez_if_eq {x : Int32} {off : Int} {tgt : Nat} (hd : decode Y.code pc = .ok (.ifCond .eq off, 3)) (ht : (pc : Int) + off = (tgt : Int))
    (kt : x = 0 → zEF G d K Y tgt lo st g Q) (kf : ¬ x = 0 → zEF G d K Y (pc + 3) lo st g Q) : zEF G d K Y pc lo (.int x :: st) g Q := by
  intro p l e R s m args below meth c T locs cells slots ls lk mr s1 C
  have X := C.X
  have hexec := C.ex
  have hb := C.hb
  by_cases hP : x = 0
  · obtain ⟨t, a1, b1⟩ := kt hP p l e R s m args below meth c T locs cells slots ls lk mr s1 C
    refine ⟨t, ?_, b1⟩
    jvm_step X.here [X.here.top, hexec, hb, hd, Op.ifCond.holds, hP, ht]
    exact a1
  · obtain ⟨t, a1, b1⟩ := kf hP p l e R s m args below meth c T locs cells slots ls lk mr s1 C
    refine ⟨t, ?_, b1⟩
    jvm_step X.here [X.here.top, hexec, hb, hd, Op.ifCond.holds, hP, ht]
    exact a1
theorem ez_icmp_eq {x y : Int32} {off : Int} {tgt : Nat} (hd : decode Y.code pc = .ok (.if_icmp .eq off, 3)) (ht : (pc : Int) + off = (tgt : Int))
    (kt : x = y → zEF G d K Y tgt lo st g Q) (kf : ¬ x = y → zEF G d K Y (pc + 3) lo st g Q) : zEF G d K Y pc lo (.int y :: .int x :: st) g Q := by
  intro p l e R s m args below meth c T locs cells slots ls lk mr s1 C
  have X := C.X
  have hexec := C.ex
  have hb := C.hb
  by_cases hP : x = y
  · obtain ⟨t, a1, b1⟩ := kt hP p l e R s m args below meth c T locs cells slots ls lk mr s1 C
    refine ⟨t, ?_, b1⟩
    jvm_step X.here [X.here.top, hexec, hb, hd, Op.if_icmp.holds, hP, ht]
    exact a1
  · obtain ⟨t, a1, b1⟩ := kf hP p l e R s m args below meth c T locs cells slots ls lk mr s1 C
    refine ⟨t, ?_, b1⟩
    jvm_step X.here [X.here.top, hexec, hb, hd, Op.if_icmp.holds, hP, ht]
    exact a1
theorem ez_if_ne {x : Int32} {off : Int} {tgt : Nat} (hd : decode Y.code pc = .ok (.ifCond .ne off, 3)) (ht : (pc : Int) + off = (tgt : Int))
    (kt : ¬ x = 0 → zEF G d K Y tgt lo st g Q) (kf : x = 0 → zEF G d K Y (pc + 3) lo st g Q) : zEF G d K Y pc lo (.int x :: st) g Q := by
  intro p l e R s m args below meth c T locs cells slots ls lk mr s1 C
  have X := C.X
  have hexec := C.ex
  have hb := C.hb
  by_cases hP : x = 0
  · obtain ⟨t, a1, b1⟩ := kf hP p l e R s m args below meth c T locs cells slots ls lk mr s1 C
    refine ⟨t, ?_, b1⟩
    jvm_step X.here [X.here.top, hexec, hb, hd, Op.ifCond.holds, hP, ht]
    exact a1
  · obtain ⟨t, a1, b1⟩ := kt hP p l e R s m args below meth c T locs cells slots ls lk mr s1 C
    refine ⟨t, ?_, b1⟩
    jvm_step X.here [X.here.top, hexec, hb, hd, Op.ifCond.holds, hP, ht]
    exact a1
theorem ez_icmp_ne {x y : Int32} {off : Int} {tgt : Nat} (hd : decode Y.code pc = .ok (.if_icmp .ne off, 3)) (ht : (pc : Int) + off = (tgt : Int))
    (kt : ¬ x = y → zEF G d K Y tgt lo st g Q) (kf : x = y → zEF G d K Y (pc + 3) lo st g Q) : zEF G d K Y pc lo (.int y :: .int x :: st) g Q := by
  intro p l e R s m args below meth c T locs cells slots ls lk mr s1 C
  have X := C.X
  have hexec := C.ex
  have hb := C.hb
  by_cases hP : x = y
  · obtain ⟨t, a1, b1⟩ := kf hP p l e R s m args below meth c T locs cells slots ls lk mr s1 C
    refine ⟨t, ?_, b1⟩
    jvm_step X.here [X.here.top, hexec, hb, hd, Op.if_icmp.holds, hP, ht]
    exact a1
  · obtain ⟨t, a1, b1⟩ := kt hP p l e R s m args below meth c T locs cells slots ls lk mr s1 C
    refine ⟨t, ?_, b1⟩
    jvm_step X.here [X.here.top, hexec, hb, hd, Op.if_icmp.holds, hP, ht]
    exact a1
theorem ez_if_lt {x : Int32} {off : Int} {tgt : Nat} (hd : decode Y.code pc = .ok (.ifCond .lt off, 3)) (ht : (pc : Int) + off = (tgt : Int))
    (kt : x < 0 → zEF G d K Y tgt lo st g Q) (kf : ¬ x < 0 → zEF G d K Y (pc + 3) lo st g Q) : zEF G d K Y pc lo (.int x :: st) g Q := by
  intro p l e R s m args below meth c T locs cells slots ls lk mr s1 C
  have X := C.X
  have hexec := C.ex
  have hb := C.hb
  by_cases hP : x < 0
  · obtain ⟨t, a1, b1⟩ := kt hP p l e R s m args below meth c T locs cells slots ls lk mr s1 C
    refine ⟨t, ?_, b1⟩
    jvm_step X.here [X.here.top, hexec, hb, hd, Op.ifCond.holds, hP, ht]
    exact a1
  · obtain ⟨t, a1, b1⟩ := kf hP p l e R s m args below meth c T locs cells slots ls lk mr s1 C
    refine ⟨t, ?_, b1⟩
    jvm_step X.here [X.here.top, hexec, hb, hd, Op.ifCond.holds, hP, ht]
    exact a1
theorem ez_icmp_lt {x y : Int32} {off : Int} {tgt : Nat} (hd : decode Y.code pc = .ok (.if_icmp .lt off, 3)) (ht : (pc : Int) + off = (tgt : Int))
    (kt : x < y → zEF G d K Y tgt lo st g Q) (kf : ¬ x < y → zEF G d K Y (pc + 3) lo st g Q) : zEF G d K Y pc lo (.int y :: .int x :: st) g Q := by
  intro p l e R s m args below meth c T locs cells slots ls lk mr s1 C
  have X := C.X
  have hexec := C.ex
  have hb := C.hb
  by_cases hP : x < y
  · obtain ⟨t, a1, b1⟩ := kt hP p l e R s m args below meth c T locs cells slots ls lk mr s1 C
    refine ⟨t, ?_, b1⟩
    jvm_step X.here [X.here.top, hexec, hb, hd, Op.if_icmp.holds, hP, ht]
    exact a1
  · obtain ⟨t, a1, b1⟩ := kf hP p l e R s m args below meth c T locs cells slots ls lk mr s1 C
    refine ⟨t, ?_, b1⟩
    jvm_step X.here [X.here.top, hexec, hb, hd, Op.if_icmp.holds, hP, ht]
    exact a1
theorem ez_if_ge {x : Int32} {off : Int} {tgt : Nat} (hd : decode Y.code pc = .ok (.ifCond .ge off, 3)) (ht : (pc : Int) + off = (tgt : Int))
    (kt : 0 ≤ x → zEF G d K Y tgt lo st g Q) (kf : ¬ 0 ≤ x → zEF G d K Y (pc + 3) lo st g Q) : zEF G d K Y pc lo (.int x :: st) g Q := by
  intro p l e R s m args below meth c T locs cells slots ls lk mr s1 C
  have X := C.X
  have hexec := C.ex
  have hb := C.hb
  by_cases hP : 0 ≤ x
  · obtain ⟨t, a1, b1⟩ := kt hP p l e R s m args below meth c T locs cells slots ls lk mr s1 C
    refine ⟨t, ?_, b1⟩
    jvm_step X.here [X.here.top, hexec, hb, hd, Op.ifCond.holds, hP, ht]
    exact a1
  · obtain ⟨t, a1, b1⟩ := kf hP p l e R s m args below meth c T locs cells slots ls lk mr s1 C
    refine ⟨t, ?_, b1⟩
    jvm_step X.here [X.here.top, hexec, hb, hd, Op.ifCond.holds, hP, ht]
    exact a1
theorem ez_icmp_ge {x y : Int32} {off : Int} {tgt : Nat} (hd : decode Y.code pc = .ok (.if_icmp .ge off, 3)) (ht : (pc : Int) + off = (tgt : Int))
    (kt : y ≤ x → zEF G d K Y tgt lo st g Q) (kf : ¬ y ≤ x → zEF G d K Y (pc + 3) lo st g Q) : zEF G d K Y pc lo (.int y :: .int x :: st) g Q := by
  intro p l e R s m args below meth c T locs cells slots ls lk mr s1 C
  have X := C.X
  have hexec := C.ex
  have hb := C.hb
  by_cases hP : y ≤ x
  · obtain ⟨t, a1, b1⟩ := kt hP p l e R s m args below meth c T locs cells slots ls lk mr s1 C
    refine ⟨t, ?_, b1⟩
    jvm_step X.here [X.here.top, hexec, hb, hd, Op.if_icmp.holds, hP, ht]
    exact a1
  · obtain ⟨t, a1, b1⟩ := kf hP p l e R s m args below meth c T locs cells slots ls lk mr s1 C
    refine ⟨t, ?_, b1⟩
    jvm_step X.here [X.here.top, hexec, hb, hd, Op.if_icmp.holds, hP, ht]
    exact a1
theorem ez_if_gt {x : Int32} {off : Int} {tgt : Nat} (hd : decode Y.code pc = .ok (.ifCond .gt off, 3)) (ht : (pc : Int) + off = (tgt : Int))
    (kt : 0 < x → zEF G d K Y tgt lo st g Q) (kf : ¬ 0 < x → zEF G d K Y (pc + 3) lo st g Q) : zEF G d K Y pc lo (.int x :: st) g Q := by
  intro p l e R s m args below meth c T locs cells slots ls lk mr s1 C
  have X := C.X
  have hexec := C.ex
  have hb := C.hb
  by_cases hP : 0 < x
  · obtain ⟨t, a1, b1⟩ := kt hP p l e R s m args below meth c T locs cells slots ls lk mr s1 C
    refine ⟨t, ?_, b1⟩
    jvm_step X.here [X.here.top, hexec, hb, hd, Op.ifCond.holds, hP, ht]
    exact a1
  · obtain ⟨t, a1, b1⟩ := kf hP p l e R s m args below meth c T locs cells slots ls lk mr s1 C
    refine ⟨t, ?_, b1⟩
    jvm_step X.here [X.here.top, hexec, hb, hd, Op.ifCond.holds, hP, ht]
    exact a1
theorem ez_icmp_gt {x y : Int32} {off : Int} {tgt : Nat} (hd : decode Y.code pc = .ok (.if_icmp .gt off, 3)) (ht : (pc : Int) + off = (tgt : Int))
    (kt : y < x → zEF G d K Y tgt lo st g Q) (kf : ¬ y < x → zEF G d K Y (pc + 3) lo st g Q) : zEF G d K Y pc lo (.int y :: .int x :: st) g Q := by
  intro p l e R s m args below meth c T locs cells slots ls lk mr s1 C
  have X := C.X
  have hexec := C.ex
  have hb := C.hb
  by_cases hP : y < x
  · obtain ⟨t, a1, b1⟩ := kt hP p l e R s m args below meth c T locs cells slots ls lk mr s1 C
    refine ⟨t, ?_, b1⟩
    jvm_step X.here [X.here.top, hexec, hb, hd, Op.if_icmp.holds, hP, ht]
    exact a1
  · obtain ⟨t, a1, b1⟩ := kf hP p l e R s m args below meth c T locs cells slots ls lk mr s1 C
    refine ⟨t, ?_, b1⟩
    jvm_step X.here [X.here.top, hexec, hb, hd, Op.if_icmp.holds, hP, ht]
    exact a1
theorem ez_if_le {x : Int32} {off : Int} {tgt : Nat} (hd : decode Y.code pc = .ok (.ifCond .le off, 3)) (ht : (pc : Int) + off = (tgt : Int))
    (kt : x ≤ 0 → zEF G d K Y tgt lo st g Q) (kf : ¬ x ≤ 0 → zEF G d K Y (pc + 3) lo st g Q) : zEF G d K Y pc lo (.int x :: st) g Q := by
  intro p l e R s m args below meth c T locs cells slots ls lk mr s1 C
  have X := C.X
  have hexec := C.ex
  have hb := C.hb
  by_cases hP : x ≤ 0
  · obtain ⟨t, a1, b1⟩ := kt hP p l e R s m args below meth c T locs cells slots ls lk mr s1 C
    refine ⟨t, ?_, b1⟩
    jvm_step X.here [X.here.top, hexec, hb, hd, Op.ifCond.holds, hP, ht]
    exact a1
  · obtain ⟨t, a1, b1⟩ := kf hP p l e R s m args below meth c T locs cells slots ls lk mr s1 C
    refine ⟨t, ?_, b1⟩
    jvm_step X.here [X.here.top, hexec, hb, hd, Op.ifCond.holds, hP, ht]
    exact a1
theorem ez_icmp_le {x y : Int32} {off : Int} {tgt : Nat} (hd : decode Y.code pc = .ok (.if_icmp .le off, 3)) (ht : (pc : Int) + off = (tgt : Int))
    (kt : x ≤ y → zEF G d K Y tgt lo st g Q) (kf : ¬ x ≤ y → zEF G d K Y (pc + 3) lo st g Q) : zEF G d K Y pc lo (.int y :: .int x :: st) g Q := by
  intro p l e R s m args below meth c T locs cells slots ls lk mr s1 C
  have X := C.X
  have hexec := C.ex
  have hb := C.hb
  by_cases hP : x ≤ y
  · obtain ⟨t, a1, b1⟩ := kt hP p l e R s m args below meth c T locs cells slots ls lk mr s1 C
    refine ⟨t, ?_, b1⟩
    jvm_step X.here [X.here.top, hexec, hb, hd, Op.if_icmp.holds, hP, ht]
    exact a1
  · obtain ⟨t, a1, b1⟩ := kf hP p l e R s m args below meth c T locs cells slots ls lk mr s1 C
    refine ⟨t, ?_, b1⟩
    jvm_step X.here [X.here.top, hexec, hb, hd, Op.if_icmp.holds, hP, ht]
    exact a1
theorem ez_goto {off : Int} {tgt : Nat} (hd : decode Y.code pc = .ok (.goto off, 3)) (ht : (pc : Int) + off = (tgt : Int))
    (k : zEF G d K Y tgt lo st g Q) : zEF G d K Y pc lo st g Q := by
  intro p l e R s m args below meth c T locs cells slots ls lk mr s1 C
  obtain ⟨t, a1, b1⟩ := k p l e R s m args below meth c T locs cells slots ls lk mr s1 C
  refine ⟨t, ?_, b1⟩
  have X := C.X
  have hexec := C.ex
  have hb := C.hb
  jvm_step X.here [X.here.top, hexec, hb, hd, ht]
  exact a1
theorem ez_tableIn {dflt lw hi : Int} {offs : Array Int} {len : Nat} {x : Int32} {off : Int} {tgt : Nat} (hd : decode Y.code pc = .ok (.tableswitch dflt lw hi offs, len)) (h1 : ¬ x.toInt < lw) (h2 : ¬ hi < x.toInt) (ho : offs[(x.toInt - lw).toNat]? = some off) (ht : (pc : Int) + off = (tgt : Int))
    (k : zEF G d K Y tgt lo st g Q) : zEF G d K Y pc lo (.int x :: st) g Q := by
  intro p l e R s m args below meth c T locs cells slots ls lk mr s1 C
  obtain ⟨t, a1, b1⟩ := k p l e R s m args below meth c T locs cells slots ls lk mr s1 C
  refine ⟨t, ?_, b1⟩
  have X := C.X
  have hexec := C.ex
  have hb := C.hb
  jvm_step X.here [X.here.top, hexec, hb, hd, h1, h2, ho, ht]
  exact a1
theorem ez_tableOut {dflt lw hi : Int} {offs : Array Int} {len : Nat} {x : Int32} {tgt : Nat} (hd : decode Y.code pc = .ok (.tableswitch dflt lw hi offs, len)) (h : x.toInt < lw ∨ hi < x.toInt) (ht : (pc : Int) + dflt = (tgt : Int))
    (k : zEF G d K Y tgt lo st g Q) : zEF G d K Y pc lo (.int x :: st) g Q := by
  intro p l e R s m args below meth c T locs cells slots ls lk mr s1 C
  obtain ⟨t, a1, b1⟩ := k p l e R s m args below meth c T locs cells slots ls lk mr s1 C
  refine ⟨t, ?_, b1⟩
  have X := C.X
  have hexec := C.ex
  have hb := C.hb
  jvm_step X.here [X.here.top, hexec, hb, hd, h, ht]
  exact a1
theorem ez_ifnonnull {x : Nat} {off : Int} {tgt : Nat} (hd : decode Y.code pc = .ok (.ifnonnull off, 3)) (ht : (pc : Int) + off = (tgt : Int))
    (k : zEF G d K Y tgt lo st g Q) : zEF G d K Y pc lo (.ref x :: st) g Q := by
  intro p l e R s m args below meth c T locs cells slots ls lk mr s1 C
  obtain ⟨t, a1, b1⟩ := k p l e R s m args below meth c T locs cells slots ls lk mr s1 C
  refine ⟨t, ?_, b1⟩
  have X := C.X
  have hexec := C.ex
  have hb := C.hb
  jvm_step X.here [X.here.top, hexec, hb, hd, ht, Value.isRef]
  exact a1
theorem ez_ifnull {x : Nat} {off : Int} (hd : decode Y.code pc = .ok (.ifnull off, 3)) 
    (k : zEF G d K Y (pc + 3) lo st g Q) : zEF G d K Y pc lo (.ref x :: st) g Q := by
  intro p l e R s m args below meth c T locs cells slots ls lk mr s1 C
  obtain ⟨t, a1, b1⟩ := k p l e R s m args below meth c T locs cells slots ls lk mr s1 C
  refine ⟨t, ?_, b1⟩
  have X := C.X
  have hexec := C.ex
  have hb := C.hb
  jvm_step X.here [X.here.top, hexec, hb, hd, Value.isRef]
  exact a1
theorem ez_ifnullN {off : Int} {tgt : Nat} (hd : decode Y.code pc = .ok (.ifnull off, 3)) (ht : (pc : Int) + off = (tgt : Int))
    (k : zEF G d K Y tgt lo st g Q) : zEF G d K Y pc lo (.null :: st) g Q := by
  intro p l e R s m args below meth c T locs cells slots ls lk mr s1 C
  obtain ⟨t, a1, b1⟩ := k p l e R s m args below meth c T locs cells slots ls lk mr s1 C
  refine ⟨t, ?_, b1⟩
  have X := C.X
  have hexec := C.ex
  have hb := C.hb
  jvm_step X.here [X.here.top, hexec, hb, hd, ht, Value.isRef]
  exact a1
theorem ez_ifnonnullN {off : Int} (hd : decode Y.code pc = .ok (.ifnonnull off, 3)) 
    (k : zEF G d K Y (pc + 3) lo st g Q) : zEF G d K Y pc lo (.null :: st) g Q := by
  intro p l e R s m args below meth c T locs cells slots ls lk mr s1 C
  obtain ⟨t, a1, b1⟩ := k p l e R s m args below meth c T locs cells slots ls lk mr s1 C
  refine ⟨t, ?_, b1⟩
  have X := C.X
  have hexec := C.ex
  have hb := C.hb
  jvm_step X.here [X.here.top, hexec, hb, hd, Value.isRef]
  exact a1
theorem ez_acmp_eq {rx ry : Option Nat} {off : Int} {tgt : Nat} (hd : decode Y.code pc = .ok (.if_acmp .eq off, 3)) (ht : (pc : Int) + off = (tgt : Int))
    (kt : rx = ry → zEF G d K Y tgt lo st g Q) (kf : ¬ rx = ry → zEF G d K Y (pc + 3) lo st g Q) : zEF G d K Y pc lo (va_rf ry :: va_rf rx :: st) g Q := by
  intro p l e R s m args below meth c T locs cells slots ls lk mr s1 C
  have X := C.X
  have hexec := C.ex
  have hb := C.hb
  by_cases hP : rx = ry
  · obtain ⟨t, a1, b1⟩ := kt hP p l e R s m args below meth c T locs cells slots ls lk mr s1 C
    refine ⟨t, ?_, b1⟩
    subst hP
    cases rx <;> (jvm_step X.here [X.here.top, hexec, hb, hd, va_rf, Value.asRef?, Op.if_acmp.holds, ht]; exact a1)
  · obtain ⟨t, a1, b1⟩ := kf hP p l e R s m args below meth c T locs cells slots ls lk mr s1 C
    refine ⟨t, ?_, b1⟩
    cases rx with
    | none => cases ry with
      | none => exact absurd rfl hP
      | some y => jvm_step X.here [X.here.top, hexec, hb, hd, va_rf, Value.asRef?, Op.if_acmp.holds, ht]; exact a1
    | some x => cases ry with
      | none => jvm_step X.here [X.here.top, hexec, hb, hd, va_rf, Value.asRef?, Op.if_acmp.holds, ht]; exact a1
      | some y =>
        have hxy : ¬ x = y := fun q => hP (by rw [q])
        jvm_step X.here [X.here.top, hexec, hb, hd, va_rf, Value.asRef?, Op.if_acmp.holds, ht, hxy]; exact a1
theorem ez_acmp_ne {rx ry : Option Nat} {off : Int} {tgt : Nat} (hd : decode Y.code pc = .ok (.if_acmp .ne off, 3)) (ht : (pc : Int) + off = (tgt : Int))
    (kt : ¬ rx = ry → zEF G d K Y tgt lo st g Q) (kf : rx = ry → zEF G d K Y (pc + 3) lo st g Q) : zEF G d K Y pc lo (va_rf ry :: va_rf rx :: st) g Q := by
  intro p l e R s m args below meth c T locs cells slots ls lk mr s1 C
  have X := C.X
  have hexec := C.ex
  have hb := C.hb
  by_cases hP : rx = ry
  · obtain ⟨t, a1, b1⟩ := kf hP p l e R s m args below meth c T locs cells slots ls lk mr s1 C
    refine ⟨t, ?_, b1⟩
    subst hP
    cases rx <;> (jvm_step X.here [X.here.top, hexec, hb, hd, va_rf, Value.asRef?, Op.if_acmp.holds, ht]; exact a1)
  · obtain ⟨t, a1, b1⟩ := kt hP p l e R s m args below meth c T locs cells slots ls lk mr s1 C
    refine ⟨t, ?_, b1⟩
    cases rx with
    | none => cases ry with
      | none => exact absurd rfl hP
      | some y => jvm_step X.here [X.here.top, hexec, hb, hd, va_rf, Value.asRef?, Op.if_acmp.holds, ht]; exact a1
    | some x => cases ry with
      | none => jvm_step X.here [X.here.top, hexec, hb, hd, va_rf, Value.asRef?, Op.if_acmp.holds, ht]; exact a1
      | some y =>
        have hxy : ¬ x = y := fun q => hP (by rw [q])
        jvm_step X.here [X.here.top, hexec, hb, hd, va_rf, Value.asRef?, Op.if_acmp.holds, ht, hxy]; exact a1
theorem ez_ldci {index : Nat} {v : Int32} {own : String} (hd : decode Y.code pc = .ok (.ldc index, 2)) (ho : own = Y.nm.cls) (hw : Jvm.Cond.constant own index v ∈ lw_all)
    (k : zEF G d K Y (pc + 2) lo (.int v :: st) g Q) : zEF G d K Y pc lo st g Q := by
  subst ho
  intro p l e R s m args below meth c T locs cells slots ls lk mr s1 C
  obtain ⟨t, a1, b1⟩ := k p l e R s m args below meth c T locs cells slots ls lk mr s1 C
  have X := C.X
  exact ⟨t, X.ldcInt C.ex C.own (C.w hw) (g := zF m pc ls st lk mr) rfl (by rw [C.hb]; exact hd) t a1, b1⟩
theorem ez_ldcf {index : Nat} {v : UInt32} {own : String} (hd : decode Y.code pc = .ok (.ldc index, 2)) (ho : own = Y.nm.cls) (hw : Jvm.Cond.constantFloat own index v ∈ lw_all)
    (k : zEF G d K Y (pc + 2) lo (.float v :: st) g Q) : zEF G d K Y pc lo st g Q := by
  subst ho
  intro p l e R s m args below meth c T locs cells slots ls lk mr s1 C
  obtain ⟨t, a1, b1⟩ := k p l e R s m args below meth c T locs cells slots ls lk mr s1 C
  have X := C.X
  exact ⟨t, X.ldcFloatC C.ex C.own (C.w hw) (g := zF m pc ls st lk mr) rfl (by rw [C.hb]; exact hd) t a1, b1⟩
theorem ez_ldc2l {index : Nat} {v : Int64} {own : String} (hd : decode Y.code pc = .ok (.ldc2_w index, 3)) (ho : own = Y.nm.cls) (hw : Jvm.Cond.constantLong own index v ∈ lw_all)
    (k : zEF G d K Y (pc + 3) lo (.long v :: st) g Q) : zEF G d K Y pc lo st g Q := by
  subst ho
  intro p l e R s m args below meth c T locs cells slots ls lk mr s1 C
  obtain ⟨t, a1, b1⟩ := k p l e R s m args below meth c T locs cells slots ls lk mr s1 C
  have X := C.X
  exact ⟨t, X.ldc2Long C.ex C.own (C.w hw) (g := zF m pc ls st lk mr) rfl (by rw [C.hb]; exact hd) t a1, b1⟩
theorem ez_ldc2d {index : Nat} {v : UInt64} {own : String} (hd : decode Y.code pc = .ok (.ldc2_w index, 3)) (ho : own = Y.nm.cls) (hw : Jvm.Cond.constantDouble own index v ∈ lw_all)
    (k : zEF G d K Y (pc + 3) lo (.double v :: st) g Q) : zEF G d K Y pc lo st g Q := by
  subst ho
  intro p l e R s m args below meth c T locs cells slots ls lk mr s1 C
  obtain ⟨t, a1, b1⟩ := k p l e R s m args below meth c T locs cells slots ls lk mr s1 C
  have X := C.X
  exact ⟨t, X.ldc2DoubleC C.ex C.own (C.w hw) (g := zF m pc ls st lk mr) rfl (by rw [C.hb]; exact hd) t a1, b1⟩
end ZS

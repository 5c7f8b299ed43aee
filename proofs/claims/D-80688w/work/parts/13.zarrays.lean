/-! arrays, new cells, casts, the script -/
set_option maxRecDepth 100000
theorem zvp_vm (cA : ClassId) (x : vp_A) : (vp_cell cA x).vm = .none := by
  obtain ⟨n, f | f | f | f | f⟩ := x <;> rfl
theorem zvp_cls (cA : ClassId) (x : vp_A) : (vp_cell cA x).cls = cA := by
  obtain ⟨n, f | f | f | f | f⟩ := x <;> rfl
theorem zvp_mon (cA : ClassId) (x : vp_A) : (vp_cell cA x).monitor = {} := by
  obtain ⟨n, f | f | f | f | f⟩ := x <;> rfl
theorem zvp_size (cA : ClassId) (x : vp_A) : (vp_cell cA x).slots.size = x.1 := by
  obtain ⟨n, f | f | f | f | f⟩ := x
  · rw [vp_cell_i]; exact arrV_size _ _ _
  · rw [vp_cell_l]; exact arrV_size _ _ _
  · rw [vp_cell_f]; exact arrV_size _ _ _
  · rw [vp_cell_d]; exact arrV_size _ _ _
  · rw [vp_cell_q]; exact arrV_size _ _ _
section ZA
variable {G : zG} {d : Nat} {K : List Nat} {Y : zM} {lo : List (Option Value)} {g : zS} {p : Program} {l : Launch} {e : Env} {R : Room} {s : State} {m : MethodId} {args : Array Value} {below : List Frame} {meth : Method} {c : Code} {T : State} {locs : List Loc} {cells slots : Nat} {ls : Array Slot} {lk : Option Addr} {mr : Nat} {s1 : State}
theorem zCtx.arr (C : zCtx G d K Y lo g p l e R s m args below meth c T locs cells slots ls lk mr s1) (t : Nat) (ht : t < 11) : ArrOfT s (G.dA t) (zty t) ∧ va_RA s (G.dA t) (zty t) :=
  C.hK.2 t (G.dA t, zty t) (by simp [ztys, ht])
theorem zCtx.isArr (C : zCtx G d K Y lo g p l e R s m args below meth c T locs cells slots ls lk mr s1) {t : Nat} (ht : t < 11) (x : vp_A) : s.isArrayOf (vp_cell (G.dA t) x) (zty t) := by
  have h := (C.arr t ht).1
  obtain ⟨n, f | f | f | f | f⟩ := x
  · rw [vp_cell_i]; exact h _ _
  · rw [vp_cell_l]; exact h _ _
  · rw [vp_cell_f]; exact h _ _
  · rw [vp_cell_d]; exact h _ _
  · rw [vp_cell_q]; exact h _ _
end ZA
section ZB
variable {G : zG} {d : Nat} {K : List Nat} {Y : zM} {pc : Nat} {lo : List (Option Value)} {st : List Value} {g : zS} {Q : zO → zS → Prop} {a : Nat}
theorem ez_iald {n : Nat} {f : Nat → Int32} {i : Int32} (hd : decode Y.code pc = .ok (.iaload, 1)) (he : g.h a = some (.inl (0, n, .inl f))) (hin : vp_in i n)
    (k : zEF G d K Y (pc + 1) lo (.int (f i.toNatClampNeg) :: st) g Q) : zEF G d K Y pc lo (.int i :: .ref a :: st) g Q := by
  intro p l e R s m args below meth c T locs cells slots ls lk mr s1 C
  have hat := (C.hp.2.2.2 a _ he).2
  have hlt : i.toNatClampNeg < n := Nat.not_le.mp fun q => hin (Or.inr q)
  have key : W p l e R s m args below meth c T.heap locs cells slots (zEnd G K Y Q R s1 below) (zF m pc ls (.int i :: .ref a :: st) lk mr) :=
    W.iald (g := zF m pc ls (.int i :: .ref a :: st) lk mr) (rest := st) (v := .int (f i.toNatClampNeg)) C.ex C.hb hat (C.isArr (t := 0) (by decide) _) (by rw [zvp_vm]; exact fun q => by cases q) (by rw [zvp_size]; exact hin) (by rw [vp_cell_i]; exact arrV_read _ _ hlt) rfl rfl hd (C.toW0 k)
  exact key T rfl C.X
theorem ez_fald {n : Nat} {f : Nat → UInt32} {i : Int32} (hd : decode Y.code pc = .ok (.faload, 1)) (he : g.h a = some (.inl (1, n, .inr (.inr (.inl f))))) (hin : vp_in i n)
    (k : zEF G d K Y (pc + 1) lo (.float (f i.toNatClampNeg) :: st) g Q) : zEF G d K Y pc lo (.int i :: .ref a :: st) g Q := by
  intro p l e R s m args below meth c T locs cells slots ls lk mr s1 C
  have hat := (C.hp.2.2.2 a _ he).2
  have hlt : i.toNatClampNeg < n := Nat.not_le.mp fun q => hin (Or.inr q)
  have key : W p l e R s m args below meth c T.heap locs cells slots (zEnd G K Y Q R s1 below) (zF m pc ls (.int i :: .ref a :: st) lk mr) :=
    W.fald (g := zF m pc ls (.int i :: .ref a :: st) lk mr) (rest := st) (v := .float (f i.toNatClampNeg)) C.ex C.hb hat (C.isArr (t := 1) (by decide) _) (by rw [zvp_vm]; exact fun q => by cases q) (by rw [zvp_size]; exact hin) (by rw [vp_cell_f]; exact arrV_read _ _ hlt) rfl rfl hd (C.toW0 k)
  exact key T rfl C.X
theorem ez_bald {n : Nat} {f : Nat → Int32} {i : Int32} (hd : decode Y.code pc = .ok (.baload, 1)) (he : g.h a = some (.inl (2, n, .inl f))) (hin : vp_in i n)
    (k : zEF G d K Y (pc + 1) lo (.int (f i.toNatClampNeg) :: st) g Q) : zEF G d K Y pc lo (.int i :: .ref a :: st) g Q := by
  intro p l e R s m args below meth c T locs cells slots ls lk mr s1 C
  have hat := (C.hp.2.2.2 a _ he).2
  have hlt : i.toNatClampNeg < n := Nat.not_le.mp fun q => hin (Or.inr q)
  have key : W p l e R s m args below meth c T.heap locs cells slots (zEnd G K Y Q R s1 below) (zF m pc ls (.int i :: .ref a :: st) lk mr) :=
    W.bald (g := zF m pc ls (.int i :: .ref a :: st) lk mr) (rest := st) (v := .int (f i.toNatClampNeg)) C.ex C.hb hat (C.isArr (t := 2) (by decide) _) (by rw [zvp_vm]; exact fun q => by cases q) (by rw [zvp_size]; exact hin) (by rw [vp_cell_i]; exact arrV_read _ _ hlt) rfl rfl hd (C.toW0 k)
  exact key T rfl C.X
theorem ez_sald {n : Nat} {f : Nat → Int32} {i : Int32} (hd : decode Y.code pc = .ok (.saload, 1)) (he : g.h a = some (.inl (3, n, .inl f))) (hin : vp_in i n)
    (k : zEF G d K Y (pc + 1) lo (.int (f i.toNatClampNeg) :: st) g Q) : zEF G d K Y pc lo (.int i :: .ref a :: st) g Q := by
  intro p l e R s m args below meth c T locs cells slots ls lk mr s1 C
  have hat := (C.hp.2.2.2 a _ he).2
  have hlt : i.toNatClampNeg < n := Nat.not_le.mp fun q => hin (Or.inr q)
  have key : W p l e R s m args below meth c T.heap locs cells slots (zEnd G K Y Q R s1 below) (zF m pc ls (.int i :: .ref a :: st) lk mr) :=
    W.sald (g := zF m pc ls (.int i :: .ref a :: st) lk mr) (rest := st) (v := .int (f i.toNatClampNeg)) C.ex C.hb hat (C.isArr (t := 3) (by decide) _) (by rw [zvp_vm]; exact fun q => by cases q) (by rw [zvp_size]; exact hin) (by rw [vp_cell_i]; exact arrV_read _ _ hlt) rfl rfl hd (C.toW0 k)
  exact key T rfl C.X
theorem ez_dald {n : Nat} {f : Nat → UInt64} {i : Int32} (hd : decode Y.code pc = .ok (.daload, 1)) (he : g.h a = some (.inl (4, n, .inr (.inr (.inr (.inl f)))))) (hin : vp_in i n)
    (k : zEF G d K Y (pc + 1) lo (.double (f i.toNatClampNeg) :: st) g Q) : zEF G d K Y pc lo (.int i :: .ref a :: st) g Q := by
  intro p l e R s m args below meth c T locs cells slots ls lk mr s1 C
  have hat := (C.hp.2.2.2 a _ he).2
  have hlt : i.toNatClampNeg < n := Nat.not_le.mp fun q => hin (Or.inr q)
  have key : W p l e R s m args below meth c T.heap locs cells slots (zEnd G K Y Q R s1 below) (zF m pc ls (.int i :: .ref a :: st) lk mr) :=
    W.dald (g := zF m pc ls (.int i :: .ref a :: st) lk mr) (rest := st) (v := .double (f i.toNatClampNeg)) C.ex C.hb hat (C.isArr (t := 4) (by decide) _) (by rw [zvp_vm]; exact fun q => by cases q) (by rw [zvp_size]; exact hin) (by rw [vp_cell_d]; exact arrV_read _ _ hlt) rfl rfl hd (C.toW0 k)
  exact key T rfl C.X
theorem ez_lald {n : Nat} {f : Nat → Int64} {i : Int32} (hd : decode Y.code pc = .ok (.laload, 1)) (he : g.h a = some (.inl (5, n, .inr (.inl f)))) (hin : vp_in i n)
    (k : zEF G d K Y (pc + 1) lo (.long (f i.toNatClampNeg) :: st) g Q) : zEF G d K Y pc lo (.int i :: .ref a :: st) g Q := by
  intro p l e R s m args below meth c T locs cells slots ls lk mr s1 C
  have hat := (C.hp.2.2.2 a _ he).2
  have hlt : i.toNatClampNeg < n := Nat.not_le.mp fun q => hin (Or.inr q)
  have key : W p l e R s m args below meth c T.heap locs cells slots (zEnd G K Y Q R s1 below) (zF m pc ls (.int i :: .ref a :: st) lk mr) :=
    W.lald (g := zF m pc ls (.int i :: .ref a :: st) lk mr) (rest := st) (v := .long (f i.toNatClampNeg)) C.ex C.hb hat (C.isArr (t := 5) (by decide) _) (by rw [zvp_vm]; exact fun q => by cases q) (by rw [zvp_size]; exact hin) (by rw [vp_cell_l]; exact arrV_read _ _ hlt) rfl rfl hd (C.toW0 k)
  exact key T rfl C.X
theorem ez_zald {n : Nat} {f : Nat → Int32} {i : Int32} (hd : decode Y.code pc = .ok (.baload, 1)) (he : g.h a = some (.inl (6, n, .inl f))) (hin : vp_in i n)
    (k : zEF G d K Y (pc + 1) lo (.int (f i.toNatClampNeg) :: st) g Q) : zEF G d K Y pc lo (.int i :: .ref a :: st) g Q := by
  intro p l e R s m args below meth c T locs cells slots ls lk mr s1 C
  have hat := (C.hp.2.2.2 a _ he).2
  have hlt : i.toNatClampNeg < n := Nat.not_le.mp fun q => hin (Or.inr q)
  have key : W p l e R s m args below meth c T.heap locs cells slots (zEnd G K Y Q R s1 below) (zF m pc ls (.int i :: .ref a :: st) lk mr) :=
    W.zald (g := zF m pc ls (.int i :: .ref a :: st) lk mr) (rest := st) (v := .int (f i.toNatClampNeg)) C.ex C.hb hat (C.isArr (t := 6) (by decide) _) (by rw [zvp_vm]; exact fun q => by cases q) (by rw [zvp_size]; exact hin) (by rw [vp_cell_i]; exact arrV_read _ _ hlt) rfl rfl hd (C.toW0 k)
  exact key T rfl C.X
theorem ez_iast {n : Nat} {f : Nat → Int32} {i : Int32} {x : Int32} (hd : decode Y.code pc = .ok (.iastore, 1)) (he : g.h a = some (.inl (0, n, .inl f))) (hin : vp_in i n)
    (k : zEF G d K Y (pc + 1) lo st (zput g a (.inl (0, n, .inl (upd f i.toNatClampNeg x)))) Q) : zEF G d K Y pc lo (.int x :: .int i :: .ref a :: st) g Q := by
  intro p l e R s m args below meth c T locs cells slots ls lk mr s1 C
  obtain ⟨hbase, hat⟩ := C.hp.2.2.2 a _ he
  have key : W p l e R s m args below meth c T.heap locs cells slots (zEnd G K Y Q R s1 below) (zF m pc ls (.int x :: .int i :: .ref a :: st) lk mr) :=
    W.iast (g := zF m pc ls (.int x :: .int i :: .ref a :: st) lk mr) (rest := st) C.ex C.hb hat (C.isArr (t := 0) (by decide) _) (by rw [zvp_vm]; exact fun q => by cases q) (by rw [zvp_size]; exact hin) rfl rfl hd fun H' e1 e2 e3 => by
      refine C.toW k (C.hp.write he hat e1 rfl rfl e2 e3 ?_) C.cn ?_
      · show H'[a]? = some (vp_cell _ _)
        rw [e1]
        rw [vp_cell_i, vp_cell_i, arrV_store]
        congr 2
        funext q
        by_cases hq : q = i.toNatClampNeg
        · subst hq
          simp [updV, upd, narrow]
        · simp [updV, upd, hq]
      · intro q hq
        rcases List.mem_append.mp hq with h | h
        · exact C.lc q h
        · rw [List.mem_singleton.mp h]; exact hbase
  exact key T rfl C.X
theorem ez_fast {n : Nat} {f : Nat → UInt32} {i : Int32} {x : UInt32} (hd : decode Y.code pc = .ok (.fastore, 1)) (he : g.h a = some (.inl (1, n, .inr (.inr (.inl f))))) (hin : vp_in i n)
    (k : zEF G d K Y (pc + 1) lo st (zput g a (.inl (1, n, .inr (.inr (.inl (vf_upd f i.toNatClampNeg x)))))) Q) : zEF G d K Y pc lo (.float x :: .int i :: .ref a :: st) g Q := by
  intro p l e R s m args below meth c T locs cells slots ls lk mr s1 C
  obtain ⟨hbase, hat⟩ := C.hp.2.2.2 a _ he
  have key : W p l e R s m args below meth c T.heap locs cells slots (zEnd G K Y Q R s1 below) (zF m pc ls (.float x :: .int i :: .ref a :: st) lk mr) :=
    W.fast (g := zF m pc ls (.float x :: .int i :: .ref a :: st) lk mr) (rest := st) C.ex C.hb hat (C.isArr (t := 1) (by decide) _) (by rw [zvp_vm]; exact fun q => by cases q) (by rw [zvp_size]; exact hin) rfl rfl hd fun H' e1 e2 e3 => by
      refine C.toW k (C.hp.write he hat e1 rfl rfl e2 e3 ?_) C.cn ?_
      · show H'[a]? = some (vp_cell _ _)
        rw [e1]
        rw [vp_cell_f, vp_cell_f, arrV_store]
        congr 2
        funext q
        by_cases hq : q = i.toNatClampNeg
        · subst hq
          simp [updV, vf_upd, narrow]
        · simp [updV, vf_upd, hq]
      · intro q hq
        rcases List.mem_append.mp hq with h | h
        · exact C.lc q h
        · rw [List.mem_singleton.mp h]; exact hbase
  exact key T rfl C.X
theorem ez_bast {n : Nat} {f : Nat → Int32} {i : Int32} {x : Int32} (hd : decode Y.code pc = .ok (.bastore, 1)) (he : g.h a = some (.inl (2, n, .inl f))) (hin : vp_in i n)
    (k : zEF G d K Y (pc + 1) lo st (zput g a (.inl (2, n, .inl (upd f i.toNatClampNeg x.toInt8.toInt32)))) Q) : zEF G d K Y pc lo (.int x :: .int i :: .ref a :: st) g Q := by
  intro p l e R s m args below meth c T locs cells slots ls lk mr s1 C
  obtain ⟨hbase, hat⟩ := C.hp.2.2.2 a _ he
  have key : W p l e R s m args below meth c T.heap locs cells slots (zEnd G K Y Q R s1 below) (zF m pc ls (.int x :: .int i :: .ref a :: st) lk mr) :=
    W.bast (g := zF m pc ls (.int x :: .int i :: .ref a :: st) lk mr) (rest := st) C.ex C.hb hat (C.isArr (t := 2) (by decide) _) (by rw [zvp_vm]; exact fun q => by cases q) (by rw [zvp_size]; exact hin) rfl rfl hd fun H' e1 e2 e3 => by
      refine C.toW k (C.hp.write he hat e1 rfl rfl e2 e3 ?_) C.cn ?_
      · show H'[a]? = some (vp_cell _ _)
        rw [e1]
        rw [vp_cell_i, vp_cell_i, arrV_store]
        congr 2
        funext q
        by_cases hq : q = i.toNatClampNeg
        · subst hq
          simp [updV, upd, narrow]
        · simp [updV, upd, hq]
      · intro q hq
        rcases List.mem_append.mp hq with h | h
        · exact C.lc q h
        · rw [List.mem_singleton.mp h]; exact hbase
  exact key T rfl C.X
theorem ez_sast {n : Nat} {f : Nat → Int32} {i : Int32} {x : Int32} (hd : decode Y.code pc = .ok (.sastore, 1)) (he : g.h a = some (.inl (3, n, .inl f))) (hin : vp_in i n)
    (k : zEF G d K Y (pc + 1) lo st (zput g a (.inl (3, n, .inl (upd f i.toNatClampNeg x.toInt16.toInt32)))) Q) : zEF G d K Y pc lo (.int x :: .int i :: .ref a :: st) g Q := by
  intro p l e R s m args below meth c T locs cells slots ls lk mr s1 C
  obtain ⟨hbase, hat⟩ := C.hp.2.2.2 a _ he
  have key : W p l e R s m args below meth c T.heap locs cells slots (zEnd G K Y Q R s1 below) (zF m pc ls (.int x :: .int i :: .ref a :: st) lk mr) :=
    W.sast (g := zF m pc ls (.int x :: .int i :: .ref a :: st) lk mr) (rest := st) C.ex C.hb hat (C.isArr (t := 3) (by decide) _) (by rw [zvp_vm]; exact fun q => by cases q) (by rw [zvp_size]; exact hin) rfl rfl hd fun H' e1 e2 e3 => by
      refine C.toW k (C.hp.write he hat e1 rfl rfl e2 e3 ?_) C.cn ?_
      · show H'[a]? = some (vp_cell _ _)
        rw [e1]
        rw [vp_cell_i, vp_cell_i, arrV_store]
        congr 2
        funext q
        by_cases hq : q = i.toNatClampNeg
        · subst hq
          simp [updV, upd, narrow]
        · simp [updV, upd, hq]
      · intro q hq
        rcases List.mem_append.mp hq with h | h
        · exact C.lc q h
        · rw [List.mem_singleton.mp h]; exact hbase
  exact key T rfl C.X
theorem ez_dast {n : Nat} {f : Nat → UInt64} {i : Int32} {x : UInt64} (hd : decode Y.code pc = .ok (.dastore, 1)) (he : g.h a = some (.inl (4, n, .inr (.inr (.inr (.inl f)))))) (hin : vp_in i n)
    (k : zEF G d K Y (pc + 1) lo st (zput g a (.inl (4, n, .inr (.inr (.inr (.inl (vf_upd f i.toNatClampNeg x))))))) Q) : zEF G d K Y pc lo (.double x :: .int i :: .ref a :: st) g Q := by
  intro p l e R s m args below meth c T locs cells slots ls lk mr s1 C
  obtain ⟨hbase, hat⟩ := C.hp.2.2.2 a _ he
  have key : W p l e R s m args below meth c T.heap locs cells slots (zEnd G K Y Q R s1 below) (zF m pc ls (.double x :: .int i :: .ref a :: st) lk mr) :=
    W.dast (g := zF m pc ls (.double x :: .int i :: .ref a :: st) lk mr) (rest := st) C.ex C.hb hat (C.isArr (t := 4) (by decide) _) (by rw [zvp_vm]; exact fun q => by cases q) (by rw [zvp_size]; exact hin) rfl rfl hd fun H' e1 e2 e3 => by
      refine C.toW k (C.hp.write he hat e1 rfl rfl e2 e3 ?_) C.cn ?_
      · show H'[a]? = some (vp_cell _ _)
        rw [e1]
        rw [vp_cell_d, vp_cell_d, arrV_store]
        congr 2
        funext q
        by_cases hq : q = i.toNatClampNeg
        · subst hq
          simp [updV, vf_upd, narrow]
        · simp [updV, vf_upd, hq]
      · intro q hq
        rcases List.mem_append.mp hq with h | h
        · exact C.lc q h
        · rw [List.mem_singleton.mp h]; exact hbase
  exact key T rfl C.X
theorem ez_last {n : Nat} {f : Nat → Int64} {i : Int32} {x : Int64} (hd : decode Y.code pc = .ok (.lastore, 1)) (he : g.h a = some (.inl (5, n, .inr (.inl f)))) (hin : vp_in i n)
    (k : zEF G d K Y (pc + 1) lo st (zput g a (.inl (5, n, .inr (.inl (vp_updL f i.toNatClampNeg x))))) Q) : zEF G d K Y pc lo (.long x :: .int i :: .ref a :: st) g Q := by
  intro p l e R s m args below meth c T locs cells slots ls lk mr s1 C
  obtain ⟨hbase, hat⟩ := C.hp.2.2.2 a _ he
  have key : W p l e R s m args below meth c T.heap locs cells slots (zEnd G K Y Q R s1 below) (zF m pc ls (.long x :: .int i :: .ref a :: st) lk mr) :=
    W.last (g := zF m pc ls (.long x :: .int i :: .ref a :: st) lk mr) (rest := st) C.ex C.hb hat (C.isArr (t := 5) (by decide) _) (by rw [zvp_vm]; exact fun q => by cases q) (by rw [zvp_size]; exact hin) rfl rfl hd fun H' e1 e2 e3 => by
      refine C.toW k (C.hp.write he hat e1 rfl rfl e2 e3 ?_) C.cn ?_
      · show H'[a]? = some (vp_cell _ _)
        rw [e1]
        rw [vp_cell_l, vp_cell_l, arrV_store]
        congr 2
        funext q
        by_cases hq : q = i.toNatClampNeg
        · subst hq
          simp [updV, vp_updL, narrow]
        · simp [updV, vp_updL, hq]
      · intro q hq
        rcases List.mem_append.mp hq with h | h
        · exact C.lc q h
        · rw [List.mem_singleton.mp h]; exact hbase
  exact key T rfl C.X
theorem ez_zast {n : Nat} {f : Nat → Int32} {i : Int32} {x : Int32} (hd : decode Y.code pc = .ok (.bastore, 1)) (he : g.h a = some (.inl (6, n, .inl f))) (hin : vp_in i n)
    (k : zEF G d K Y (pc + 1) lo st (zput g a (.inl (6, n, .inl (upd f i.toNatClampNeg (x &&& 1))))) Q) : zEF G d K Y pc lo (.int x :: .int i :: .ref a :: st) g Q := by
  intro p l e R s m args below meth c T locs cells slots ls lk mr s1 C
  obtain ⟨hbase, hat⟩ := C.hp.2.2.2 a _ he
  have key : W p l e R s m args below meth c T.heap locs cells slots (zEnd G K Y Q R s1 below) (zF m pc ls (.int x :: .int i :: .ref a :: st) lk mr) :=
    W.zast (g := zF m pc ls (.int x :: .int i :: .ref a :: st) lk mr) (rest := st) C.ex C.hb hat (C.isArr (t := 6) (by decide) _) (by rw [zvp_vm]; exact fun q => by cases q) (by rw [zvp_size]; exact hin) rfl rfl hd fun H' e1 e2 e3 => by
      refine C.toW k (C.hp.write he hat e1 rfl rfl e2 e3 ?_) C.cn ?_
      · show H'[a]? = some (vp_cell _ _)
        rw [e1]
        rw [vp_cell_i, vp_cell_i, arrV_store]
        congr 2
        funext q
        by_cases hq : q = i.toNatClampNeg
        · subst hq
          simp [updV, upd, narrow]
        · simp [updV, upd, hq]
      · intro q hq
        rcases List.mem_append.mp hq with h | h
        · exact C.lc q h
        · rw [List.mem_singleton.mp h]; exact hbase
  exact key T rfl C.X
theorem ez_alen {t : Nat} {x : vp_A} {v : Int32} (hd : decode Y.code pc = .ok (.arraylength, 1)) (he : g.h a = some (.inl (t, x))) (ht : t < 11) (hv : Int32.ofNat x.1 = v)
    (k : zEF G d K Y (pc + 1) lo (.int v :: st) g Q) : zEF G d K Y pc lo (.ref a :: st) g Q := by
  intro p l e R s m args below meth c T locs cells slots ls lk mr s1 C
  have hat := (C.hp.2.2.2 a _ he).2
  have key : W p l e R s m args below meth c T.heap locs cells slots (zEnd G K Y Q R s1 below) (zF m pc ls (.ref a :: st) lk mr) :=
    W.alen (g := zF m pc ls (.ref a :: st) lk mr) (rest := st) (n := v) C.ex C.hb hat (C.isArr ht _) (by rw [zvp_size]; exact hv) rfl rfl hd (C.toW0 k)
  exact key T rfl C.X
/-- an element of an array of references -/
theorem ez_aald {t n : Nat} {f : Nat → Option Nat} {i : Int32} (hd : decode Y.code pc = .ok (.aaload, 1)) (he : g.h a = some (.inl (t, n, .inr (.inr (.inr (.inr f)))))) (ht : 7 ≤ t) (ht2 : t < 11) (hin : vp_in i n)
    (k : zEF G d K Y (pc + 1) lo (va_rf (f i.toNatClampNeg) :: st) g Q) : zEF G d K Y pc lo (.int i :: .ref a :: st) g Q := by
  intro p l e R s m args below meth c T locs cells slots ls lk mr s1 C
  have hat := (C.hp.2.2.2 a _ he).2
  have hlt : i.toNatClampNeg < n := Nat.not_le.mp fun q => hin (Or.inr q)
  have hty : (zty t).isReference = true := by
    rcases (by omega : t = 7 ∨ t = 8 ∨ t = 9 ∨ t = 10) with e | e | e | e <;> subst e <;> rfl
  have key : W p l e R s m args below meth c T.heap locs cells slots (zEnd G K Y Q R s1 below) (zF m pc ls (.int i :: .ref a :: st) lk mr) :=
    W.aald (g := zF m pc ls (.int i :: .ref a :: st) lk mr) (rest := st) (v := va_rf (f i.toNatClampNeg)) C.ex C.hb hat (C.isArr ht2 _) hty (by rw [zvp_vm]; exact fun q => by cases q) (by rw [zvp_size]; exact hin) (by rw [vp_cell_q]; exact arrV_read _ _ hlt) rfl rfl hd (C.toW0 k)
  exact key T rfl C.X
/-- the picture of a new array of primitive type t -/
def za0 (t n : Nat) : vp_A := match t with
  | 1 => (n, .inr (.inr (.inl fun _ => 0)))
  | 4 => (n, .inr (.inr (.inr (.inl fun _ => 0))))
  | 5 => (n, .inr (.inl fun _ => 0))
  | _ => (n, .inl fun _ => 0)
def zat0 (t : Nat) : ArrayType := match t with
  | 0 => .int
  | 1 => .float
  | 2 => .byte
  | 3 => .short
  | 4 => .double
  | 5 => .long
  | _ => .boolean
theorem ez_newa {at_ : ArrayType} {n : Int32} {N : Nat} (t : Nat) (ht : t < 7) (hd : decode Y.code pc = .ok (.newarray at_, 2)) (hat : at_ = zat0 t) (hw : Cond.arrayClass (newarray.typeOf at_) ∈ lw_all) (hn : ¬ n < 0) (hN : n.toNatClampNeg = N) (hbytes : N * 8 ≤ 536870912) (hc : 1 ≤ g.rc) (hs : N ≤ g.rs)
    (k : zEF G d K Y (pc + 2) lo (.ref g.sz :: st) (znew g (.inl (t, za0 t N)) N) Q) : zEF G d K Y pc lo (.int n :: st) g Q := by
  subst hat
  intro p l e R s m args below meth c T locs cells slots ls lk mr s1 C
  have hcn := C.cn
  have hsz := C.hp.2.1
  have hty : newarray.typeOf (zat0 t) = zty t := by
    rcases (by omega : t = 0 ∨ t = 1 ∨ t = 2 ∨ t = 3 ∨ t = 4 ∨ t = 5 ∨ t = 6) with h | h | h | h | h | h | h <;> subst h <;> rfl
  have hb8 : N * componentBytes (newarray.typeOf (zat0 t)) ≤ 536870912 := by
    have h8 : componentBytes (newarray.typeOf (zat0 t)) ≤ 8 := by
      rcases (by omega : t = 0 ∨ t = 1 ∨ t = 2 ∨ t = 3 ∨ t = 4 ∨ t = 5 ∨ t = 6) with h | h | h | h | h | h | h <;> subst h <;> decide
    exact Nat.le_trans (Nat.mul_le_mul_left N h8) hbytes
  have key : W p l e R s m args below meth c T.heap locs cells slots (zEnd G K Y Q R s1 below) (zF m pc ls (.int n :: st) lk mr) :=
    va_newaK (g := zF m pc ls (.int n :: st) lk mr) (rest := st) (h := T.heap.size) C.ex C.hb (C.w hw) rfl hd rfl hn hN hb8 (by omega) (by omega) rfl fun H' cA e1 e2 e3 hA hNm => by
      have hcA : cA = G.dA t := by
        have h1 := (C.arr t (by omega)).2
        rw [hty] at hNm
        rcases (by omega : t = 0 ∨ t = 1 ∨ t = 2 ∨ t = 3 ∨ t = 4 ∨ t = 5 ∨ t = 6) with h | h | h | h | h | h | h <;> subst h <;> exact Option.some.inj (hNm.symm.trans h1)
      rw [hsz]
      have e1' := e1
      refine C.toW k (C.hp.push e1 rfl rfl e2 e3 ?_ N) (by show cells + 1 + (g.rc - 1) = _ ∧ slots + N + (g.rs - N) ≤ _; omega) C.lc
      show H'[T.heap.size]? = some (vp_cell (G.dA t) (za0 t N))
      rw [e1, hcA, hty]
      rcases (by omega : t = 0 ∨ t = 1 ∨ t = 2 ∨ t = 3 ∨ t = 4 ∨ t = 5 ∨ t = 6) with h | h | h | h | h | h | h <;> subst h <;> rfl
  exact key T rfl C.X
theorem ez_anew {idx : Nat} {own C : String} {n : Int32} {N : Nat} (t : Nat) (ht : 7 ≤ t) (ht2 : t < 11) (hd : decode Y.code pc = .ok (.anewarray idx, 3)) (ho : own = Y.nm.cls) (hC : zty t = .object C) (hl : Cond.classLink own idx C ∈ lw_all) (hw : Cond.arrayOver (.object C) ∈ lw_tbl) (hn : ¬ n < 0) (hN : n.toNatClampNeg = N) (hbytes : N * 4 ≤ 536870912) (hc : 1 ≤ g.rc) (hs : N ≤ g.rs)
    (k : zEF G d K Y (pc + 3) lo (.ref g.sz :: st) (znew g (.inl (t, N, .inr (.inr (.inr (.inr fun _ => none))))) N) Q) : zEF G d K Y pc lo (.int n :: st) g Q := by
  subst ho
  subst hN
  intro p l e R s m args below meth c T locs cells slots ls lk mr s1 C0
  have hcn := C0.cn
  have hsz := C0.hp.2.1
  have hao : (Cond.arrayOver (.object C)).before args s = true := va_AO.use (va_AO.moved C0.wm.alike (va_AO.of (C0.ok.1 _ hw)))
  have key : W p l e R s m args below meth c T.heap locs cells slots (zEnd G K Y Q R s1 below) (zF m pc ls (.int n :: st) lk mr) :=
    W.anew (g := zF m pc ls (.int n :: st) lk mr) (rest := st) C0.ex C0.hb C0.own (C0.w hl) hao rfl hd rfl hn hbytes (by omega) (by omega) fun cA kA comp f1 f2 f3 f4 => by
      have hcA : cA = G.dA t := by
        have h1 := (C0.arr t ht2).2
        rw [hC] at h1
        obtain ⟨kA', comp', -, -, -, h2⟩ := h1
        exact Option.some.inj (f1.symm.trans h2)
      have e1 : (T.heap.push { cls := cA, slots := Array.replicate n.toNatClampNeg .null, vm := .none })[T.heap.size]? = some (arrV cA n.toNatClampNeg (fun _ => .null)) := by rw [← arrV_new]; simp
      refine C0.toW (pc' := pc + 3) (st' := .ref T.heap.size :: st) (g' := znew g (.inl (t, n.toNatClampNeg, .inr (.inr (.inr (.inr fun _ => none))))) n.toNatClampNeg) (by rw [hsz]; exact k) (C0.hp.push e1 rfl rfl (by simp) (fun q hq => by rw [Array.getElem?_push, if_neg (Nat.ne_of_lt hq)]) ?_ n.toNatClampNeg) (by show cells + 1 + (g.rc - 1) = _ ∧ slots + n.toNatClampNeg + (g.rs - n.toNatClampNeg) ≤ _; omega) C0.lc
      show _ = some (vp_cell (G.dA t) _)
      rw [e1, hcA]
      rfl
  exact key T rfl C0.X
theorem ez_new {ci idx N : Nat} {own C : String} {Tt : u_T} {fs : List Value} (hd : decode Y.code pc = .ok (.new idx, 3)) (hc : zcl[ci]? = some (C, Tt, N)) (ho : own = Y.nm.cls) (hl : Cond.classLink own idx C ∈ lw_all) (hi : Cond.instantiable C N ∈ lw_all) (hini : Cond.initialized C ∈ lw_all)
    (ty : Nat → FieldType) (hty : ∀ k, k < N → parseFieldDescriptor (Tt k).2.2.1 = some (ty k)) (hfs : ∀ j, j < N → defaultValue (ty j) = vp_V fs j) (hrc : 1 ≤ g.rc) (hrs : N ≤ g.rs)
    (k : zEF G d K Y (pc + 3) lo (.ref g.sz :: st) (znew g (.inr (ci, fs)) N) Q) : zEF G d K Y pc lo st g Q := by
  subst ho
  intro p l e R s m args below meth c T locs cells slots ls lk mr s1 C0
  have hcn := C0.cn
  have hsz := C0.hp.2.1
  have hKn := C0.hK.1 ci _ hc
  obtain ⟨hin, -, -⟩ := zcls hc
  have key : W p l e R s m args below meth c T.heap locs cells slots (zEnd G K Y Q R s1 below) (zF m pc ls (st) lk mr) :=
    W.newcK (g := zF m pc ls st lk mr) (h := T.heap.size) C0.ex C0.hb C0.own (C0.w hl) (C0.w hi) (C0.w hini) rfl hd (by omega) (by omega) hKn.2.1 rfl fun H' kC hkC e1 e2 e3 => by
      refine C0.toW (pc' := pc + 3) (st' := .ref T.heap.size :: st) (g' := znew g (.inr (ci, fs)) N) (by rw [hsz]; exact k) (C0.hp.push e1 rfl rfl e2 e3 ?_ N) (by show cells + 1 + (g.rc - 1) = _ ∧ slots + N + (g.rs - N) ≤ _; omega) C0.lc
      exact ⟨_, hc, (u_born ty (fun w h => C0.w h) hin hKn hkC e1 hty).to hfs⟩
  exact key T rfl C0.X
theorem zCtx.recv {lo : List (Option Value)} {p : Program} {l : Launch} {e : Env} {R : Room} {s : State} {m : MethodId} {args : Array Value} {below : List Frame} {meth : Method} {c : Code} {T : State} {locs : List Loc} {cells slots : Nat} {ls : Array Slot} {lk : Option Addr} {mr : Nat} {s1 : State} (C0 : zCtx G d K Y lo g p l e R s m args below meth c T locs cells slots ls lk mr s1) {ci N : Nat} {C : String} {Tt : u_T} {fs : List Value} (hc : zcl[ci]? = some (C, Tt, N)) (he : g.h a = some (.inr (ci, fs))) : ∃ cell : Cell, T.heap[a]? = some cell ∧ cell.vm.isStatics = false ∧ s.vm.findClass C = some cell.cls := by
  obtain ⟨r, h1, cell, q1, q2, q3, q4⟩ := (C0.hp.2.2.2 a _ he).2
  exact ⟨cell, q1, by rw [q3]; rfl, by rw [q2]; exact (C0.hK.1 ci _ hc).2.1⟩
/-- an object is cast to a class that it has -/
theorem ez_castY {ci idx N : Nat} {own C nm : String} {Tt : u_T} {fs : List Value} (hd : decode Y.code pc = .ok (.checkcast idx, 3)) (hc : zcl[ci]? = some (C, Tt, N)) (ho : own = Y.nm.cls) (hl : Cond.classLink own idx nm ∈ lw_all) (hw : Cond.castable C nm ∈ lw_tbl ∨ C = nm) (he : g.h a = some (.inr (ci, fs)))
    (k : zEF G d K Y (pc + 3) lo (.ref a :: st) g Q) : zEF G d K Y pc lo (.ref a :: st) g Q := by
  subst ho
  intro p l e R s m args below meth c T locs cells slots ls lk mr s1 C0
  obtain ⟨cell, h1, h2, h3⟩ := C0.recv hc he
  have hx : ∃ t0, s.vm.findClass nm = some t0 ∧ s.vm.assignable cell.cls t0 = true := by
    rcases hw with hw | hw
    · obtain ⟨c0, t0, f1, f2, f3⟩ := Cond.castable_spec (va_Nw.use (A := args) rfl (va_Nw.warmC C0.wm (va_Nw.of rfl (C0.ok.1 _ hw))))
      cases h3.symm.trans f1
      exact ⟨t0, f2, f3⟩
    · subst hw
      have hca : ClassAt s C (G.D.1 ci) := (C0.hK.1 ci _ hc).2
      have e1 : G.D.1 ci = cell.cls := Option.some.inj (hca.1.symm.trans h3)
      exact ⟨cell.cls, h3, by rw [← e1]; exact va_assign hca⟩
  obtain ⟨t0, f2, f3⟩ := hx
  obtain ⟨vm', X', stp⟩ := C0.X.checkcastYes C0.ex C0.own (C0.w hl) h1 h2 f2 f3 (g := zF m pc ls (.ref a :: st) lk mr) rfl rfl (by rw [C0.hb]; exact hd)
  obtain ⟨t, a1, b1⟩ := C0.toW0 k (T.setVm vm') rfl X'
  exact ⟨t, stp t a1, b1⟩
theorem ez_instY {ci idx N : Nat} {own C nm : String} {Tt : u_T} {fs : List Value} (hd : decode Y.code pc = .ok (.instanceof idx, 3)) (hc : zcl[ci]? = some (C, Tt, N)) (ho : own = Y.nm.cls) (hl : Cond.classLink own idx nm ∈ lw_all) (hw : Cond.castable C nm ∈ lw_tbl ∨ C = nm) (he : g.h a = some (.inr (ci, fs)))
    (k : zEF G d K Y (pc + 3) lo (.int 1 :: st) g Q) : zEF G d K Y pc lo (.ref a :: st) g Q := by
  subst ho
  intro p l e R s m args below meth c T locs cells slots ls lk mr s1 C0
  obtain ⟨cell, h1, h2, h3⟩ := C0.recv hc he
  have hx : ∃ t0, s.vm.findClass nm = some t0 ∧ s.vm.assignable cell.cls t0 = true := by
    rcases hw with hw | hw
    · obtain ⟨c0, t0, f1, f2, f3⟩ := Cond.castable_spec (va_Nw.use (A := args) rfl (va_Nw.warmC C0.wm (va_Nw.of rfl (C0.ok.1 _ hw))))
      cases h3.symm.trans f1
      exact ⟨t0, f2, f3⟩
    · subst hw
      have hca : ClassAt s C (G.D.1 ci) := (C0.hK.1 ci _ hc).2
      have e1 : G.D.1 ci = cell.cls := Option.some.inj (hca.1.symm.trans h3)
      exact ⟨cell.cls, h3, by rw [← e1]; exact va_assign hca⟩
  obtain ⟨t0, f2, f3⟩ := hx
  obtain ⟨vm', X', stp⟩ := C0.X.instanceofYes C0.ex C0.own (C0.w hl) h1 h2 f2 f3 (g := zF m pc ls (.ref a :: st) lk mr) rfl rfl (by rw [C0.hb]; exact hd)
  obtain ⟨t, a1, b1⟩ := C0.toW0 k (T.setVm vm') rfl X'
  exact ⟨t, stp t a1, b1⟩
/-- what the start says of a pair of classes that can't be cast -/
theorem zCtx.nc {lo : List (Option Value)} {p : Program} {l : Launch} {e : Env} {R : Room} {s : State} {m : MethodId} {args : Array Value} {below : List Frame} {meth : Method} {c : Code} {T : State} {locs : List Loc} {cells slots : Nat} {ls : Array Slot} {lk : Option Addr} {mr : Nat} {s1 : State} (C0 : zCtx G d K Y lo g p l e R s m args below meth c T locs cells slots ls lk mr s1) {C nm : String} (hw : Cond.not (.castable C nm) ∈ flatC (Jvm.Cond.and given_1 narrow_1)) : va_Nc C nm s :=
  va_Nc.moved C0.wm.alike (va_Nc.of (flat_of_before _ C0.ok.2.1 _ hw))
theorem ez_instNo {ci idx N : Nat} {own C nm : String} {Tt : u_T} {fs : List Value} (hd : decode Y.code pc = .ok (.instanceof idx, 3)) (hc : zcl[ci]? = some (C, Tt, N)) (ho : own = Y.nm.cls) (hl : Cond.classLink own idx nm ∈ lw_all) (hw : Cond.not (.castable C nm) ∈ flatC (Jvm.Cond.and given_1 narrow_1)) (he : g.h a = some (.inr (ci, fs)))
    (k : zEF G d K Y (pc + 3) lo (.int 0 :: st) g Q) : zEF G d K Y pc lo (.ref a :: st) g Q := by
  subst ho
  intro p l e R s m args below meth c T locs cells slots ls lk mr s1 C0
  obtain ⟨cell, h1, h2, h3⟩ := C0.recv hc he
  obtain ⟨c0, t0, f1, f2, f3⟩ := C0.nc hw
  cases h3.symm.trans f1
  obtain ⟨ks, hks, -⟩ := Vm.findClass_spec h3
  obtain ⟨vm', X', stp⟩ := va_instofNo C0.X C0.ex C0.own (C0.w hl) h1 h2 hks f2 f3 (g := zF m pc ls (.ref a :: st) lk mr) rfl rfl (by rw [C0.hb]; exact hd)
  obtain ⟨t, a1, b1⟩ := C0.toW0 k (T.setVm vm') rfl X'
  exact ⟨t, stp t a1, b1⟩
/-- an array is cast to its own class -/
theorem ez_castA {idx t : Nat} {own nm : String} {x : vp_A} (hd : decode Y.code pc = .ok (.checkcast idx, 3)) (ho : own = Y.nm.cls) (hl : Cond.classLink own idx nm ∈ lw_all) (ht : t < 7) (hnm : "[" ++ (zty t).toString = nm) (he : g.h a = some (.inl (t, x)))
    (k : zEF G d K Y (pc + 3) lo (.ref a :: st) g Q) : zEF G d K Y pc lo (.ref a :: st) g Q := by
  subst ho
  intro p l e R s m args below meth c T locs cells slots ls lk mr s1 C0
  have hat := (C0.hp.2.2.2 a _ he).2
  have hfc : s.vm.findClass nm = some (G.dA t) := by
    have h1 := (C0.arr t (by omega)).2
    rw [← hnm]
    rcases (by omega : t = 0 ∨ t = 1 ∨ t = 2 ∨ t = 3 ∨ t = 4 ∨ t = 5 ∨ t = 6) with h | h | h | h | h | h | h <;> subst h <;> exact h1
  obtain ⟨vm', X', stp⟩ := C0.X.checkcastYes C0.ex C0.own (C0.w hl) hat (by rw [zvp_vm]; rfl) hfc (by rw [zvp_cls]; exact va_asg _ _) (g := zF m pc ls (.ref a :: st) lk mr) rfl rfl (by rw [C0.hb]; exact hd)
  obtain ⟨t, a1, b1⟩ := C0.toW0 k (T.setVm vm') rfl X'
  exact ⟨t, stp t a1, b1⟩
theorem ez_castN {idx : Nat} (hd : decode Y.code pc = .ok (.checkcast idx, 3)) (k : zEF G d K Y (pc + 3) lo (.null :: st) g Q) : zEF G d K Y pc lo (.null :: st) g Q := by
  intro p l e R s m args below meth c T locs cells slots ls lk mr s1 C0
  obtain ⟨t, a1, b1⟩ := k p l e R s m args below meth c T locs cells slots ls lk mr s1 C0
  exact ⟨t, C0.X.checkcastNull C0.ex (g := zF m pc ls (.null :: st) lk mr) rfl rfl (by rw [C0.hb]; exact hd) t a1, b1⟩
/-- the script, at the law's frame and everywhere else -/
theorem zCtx.scr {lo : List (Option Value)} {p : Program} {l : Launch} {e : Env} {R : Room} {s : State} {m : MethodId} {args : Array Value} {below : List Frame} {meth : Method} {c : Code} {T : State} {locs : List Loc} {cells slots : Nat} {ls : Array Slot} {lk : Option Addr} {mr : Nat} {s1 : State} (C0 : zCtx G d K Y lo g p l e R s m args below meth c T locs cells slots ls lk mr s1) : va_X G.b G.L G.xs s T.heap :=
  va_X.moved C0.wm.alike (va_X.kept C0.ok.2.2.2.2.1 (C0.hp.1.2.1 _ C0.ok.2.2.2.2.2))
theorem ez_sld {i : Int32} (hd : decode Y.code pc = .ok (.iaload, 1)) (hin : vp_in i G.L) (k : zEF G d K Y (pc + 1) lo (.int (G.xs i.toNatClampNeg) :: st) g Q) : zEF G d K Y pc lo (.int i :: .ref G.b :: st) g Q := by
  intro p l e R s m args below meth c T locs cells slots ls lk mr s1 C0
  obtain ⟨scr, h1, h2, h3, h4, h5⟩ := C0.scr
  have hlt : i.toNatClampNeg < G.L := Nat.not_le.mp fun q => hin (Or.inr q)
  have key : W p l e R s m args below meth c T.heap locs cells slots (zEnd G K Y Q R s1 below) (zF m pc ls (.int i :: .ref G.b :: st) lk mr) :=
    W.iald (g := zF m pc ls (.int i :: .ref G.b :: st) lk mr) (rest := st) (v := .int (G.xs i.toNatClampNeg)) C0.ex C0.hb h1 h2 h3 (by rw [h4]; exact hin) (h5 _ hlt) rfl rfl hd (C0.toW0 k)
  exact key T rfl C0.X
theorem ez_slen (hd : decode Y.code pc = .ok (.arraylength, 1)) (k : zEF G d K Y (pc + 1) lo (.int (Int32.ofNat G.L) :: st) g Q) : zEF G d K Y pc lo (.ref G.b :: st) g Q := by
  intro p l e R s m args below meth c T locs cells slots ls lk mr s1 C0
  obtain ⟨scr, h1, h2, h3, h4, h5⟩ := C0.scr
  have key : W p l e R s m args below meth c T.heap locs cells slots (zEnd G K Y Q R s1 below) (zF m pc ls (.ref G.b :: st) lk mr) :=
    W.alen (g := zF m pc ls (.ref G.b :: st) lk mr) (rest := st) (n := Int32.ofNat G.L) C0.ex C0.hb h1 h2 (by rw [h4] <;> rfl) rfl rfl hd (C0.toW0 k)
  exact key T rfl C0.X
end ZB

/-! throw rules of single instructions -/
set_option maxRecDepth 100000
section ZK1
variable {G : zG} {d : Nat} {K : List Nat} {Y : zM} {pc : Nat} {lo : List (Option Value)} {st : List Value} {g : zS} {Q : zO → zS → Prop} {a : Nat}
abbrev zAIO : String := "java/lang/ArrayIndexOutOfBoundsException"
abbrev zCCE : String := "java/lang/ClassCastException"
abbrev zASE : String := "java/lang/ArrayStoreException"
abbrev zNPE : String := "java/lang/NullPointerException"
abbrev zNAS : String := "java/lang/NegativeArraySizeException"
abbrev zARI : String := "java/lang/ArithmeticException"
abbrev zout (i : Int32) (n : Nat) : Prop := i < 0 ∨ n ≤ i.toNatClampNeg
theorem ex_ialO {t : Nat} {x : vp_A} {i : Int32} (hd : decode Y.code pc = .ok (.iaload, 1)) (he : g.h a = some (.inl (t, x))) (ht : t < 11) (hn : x.1 < 2 ^ 31) (hout : zout i x.1) (hst : (st.map fun v => v.category).sum ≤ 40) (hrc : 3 ≤ g.rc) (hrs : 300 ≤ g.rs)
    (k : zTH G (d + 8) K Y pc lo zAIO (g.sz + 2) (zxg g) Q) : zEF G (d + 8) K Y pc lo (.int i :: .ref a :: st) g Q := by
  intro p l e R s m args below meth c T locs cells slots ls lk mr s1 C
  have hat := (C.hp.2.2.2 a _ he).2
  have hz : (vp_cell (G.dA t) x).slots.size = x.1 := zvp_size _ _
  obtain ⟨t1, a1, b1⟩ := C.msg (x := ("java/lang/ArrayIndexOutOfBoundsException", ["java/lang/IndexOutOfBoundsException", "java/lang/RuntimeException", "java/lang/Exception"])) (by decide) (index_text_modelled i x.1) (Nat.le_trans (index_text_bytes i hn) (by decide)) hrc hrs hst k
  rw [← hz] at a1
  exact ⟨t1, C.X.ialoadOut C.ex hat (C.isArr ht x) (by rw [hz]; exact hout) (g := zF m pc ls (.int i :: .ref a :: st) lk mr) rfl rfl (by rw [C.hb]; exact hd) t1 a1, b1⟩
theorem ex_falO {t : Nat} {x : vp_A} {i : Int32} (hd : decode Y.code pc = .ok (.faload, 1)) (he : g.h a = some (.inl (t, x))) (ht : t < 11) (hn : x.1 < 2 ^ 31) (hout : zout i x.1) (hst : (st.map fun v => v.category).sum ≤ 40) (hrc : 3 ≤ g.rc) (hrs : 300 ≤ g.rs)
    (k : zTH G (d + 8) K Y pc lo zAIO (g.sz + 2) (zxg g) Q) : zEF G (d + 8) K Y pc lo (.int i :: .ref a :: st) g Q := by
  intro p l e R s m args below meth c T locs cells slots ls lk mr s1 C
  have hat := (C.hp.2.2.2 a _ he).2
  have hz : (vp_cell (G.dA t) x).slots.size = x.1 := zvp_size _ _
  obtain ⟨t1, a1, b1⟩ := C.msg (x := ("java/lang/ArrayIndexOutOfBoundsException", ["java/lang/IndexOutOfBoundsException", "java/lang/RuntimeException", "java/lang/Exception"])) (by decide) (index_text_modelled i x.1) (Nat.le_trans (index_text_bytes i hn) (by decide)) hrc hrs hst k
  rw [← hz] at a1
  exact ⟨t1, C.X.faloadOut C.ex hat (C.isArr ht x) (by rw [hz]; exact hout) (g := zF m pc ls (.int i :: .ref a :: st) lk mr) rfl rfl (by rw [C.hb]; exact hd) t1 a1, b1⟩
theorem ex_balO {t : Nat} {x : vp_A} {i : Int32} (hd : decode Y.code pc = .ok (.baload, 1)) (he : g.h a = some (.inl (t, x))) (ht : t < 11) (hn : x.1 < 2 ^ 31) (hout : zout i x.1) (hst : (st.map fun v => v.category).sum ≤ 40) (hrc : 3 ≤ g.rc) (hrs : 300 ≤ g.rs)
    (k : zTH G (d + 8) K Y pc lo zAIO (g.sz + 2) (zxg g) Q) : zEF G (d + 8) K Y pc lo (.int i :: .ref a :: st) g Q := by
  intro p l e R s m args below meth c T locs cells slots ls lk mr s1 C
  have hat := (C.hp.2.2.2 a _ he).2
  have hz : (vp_cell (G.dA t) x).slots.size = x.1 := zvp_size _ _
  obtain ⟨t1, a1, b1⟩ := C.msg (x := ("java/lang/ArrayIndexOutOfBoundsException", ["java/lang/IndexOutOfBoundsException", "java/lang/RuntimeException", "java/lang/Exception"])) (by decide) (index_text_modelled i x.1) (Nat.le_trans (index_text_bytes i hn) (by decide)) hrc hrs hst k
  rw [← hz] at a1
  exact ⟨t1, C.X.baloadOut C.ex hat (C.isArr ht x) (by rw [hz]; exact hout) (g := zF m pc ls (.int i :: .ref a :: st) lk mr) rfl rfl (by rw [C.hb]; exact hd) t1 a1, b1⟩
theorem ex_salO {t : Nat} {x : vp_A} {i : Int32} (hd : decode Y.code pc = .ok (.saload, 1)) (he : g.h a = some (.inl (t, x))) (ht : t < 11) (hn : x.1 < 2 ^ 31) (hout : zout i x.1) (hst : (st.map fun v => v.category).sum ≤ 40) (hrc : 3 ≤ g.rc) (hrs : 300 ≤ g.rs)
    (k : zTH G (d + 8) K Y pc lo zAIO (g.sz + 2) (zxg g) Q) : zEF G (d + 8) K Y pc lo (.int i :: .ref a :: st) g Q := by
  intro p l e R s m args below meth c T locs cells slots ls lk mr s1 C
  have hat := (C.hp.2.2.2 a _ he).2
  have hz : (vp_cell (G.dA t) x).slots.size = x.1 := zvp_size _ _
  obtain ⟨t1, a1, b1⟩ := C.msg (x := ("java/lang/ArrayIndexOutOfBoundsException", ["java/lang/IndexOutOfBoundsException", "java/lang/RuntimeException", "java/lang/Exception"])) (by decide) (index_text_modelled i x.1) (Nat.le_trans (index_text_bytes i hn) (by decide)) hrc hrs hst k
  rw [← hz] at a1
  exact ⟨t1, C.X.saloadOut C.ex hat (C.isArr ht x) (by rw [hz]; exact hout) (g := zF m pc ls (.int i :: .ref a :: st) lk mr) rfl rfl (by rw [C.hb]; exact hd) t1 a1, b1⟩
theorem ex_dalO {t : Nat} {x : vp_A} {i : Int32} (hd : decode Y.code pc = .ok (.daload, 1)) (he : g.h a = some (.inl (t, x))) (ht : t < 11) (hn : x.1 < 2 ^ 31) (hout : zout i x.1) (hst : (st.map fun v => v.category).sum ≤ 40) (hrc : 3 ≤ g.rc) (hrs : 300 ≤ g.rs)
    (k : zTH G (d + 8) K Y pc lo zAIO (g.sz + 2) (zxg g) Q) : zEF G (d + 8) K Y pc lo (.int i :: .ref a :: st) g Q := by
  intro p l e R s m args below meth c T locs cells slots ls lk mr s1 C
  have hat := (C.hp.2.2.2 a _ he).2
  have hz : (vp_cell (G.dA t) x).slots.size = x.1 := zvp_size _ _
  obtain ⟨t1, a1, b1⟩ := C.msg (x := ("java/lang/ArrayIndexOutOfBoundsException", ["java/lang/IndexOutOfBoundsException", "java/lang/RuntimeException", "java/lang/Exception"])) (by decide) (index_text_modelled i x.1) (Nat.le_trans (index_text_bytes i hn) (by decide)) hrc hrs hst k
  rw [← hz] at a1
  exact ⟨t1, C.X.daloadOut C.ex hat (C.isArr ht x) (by rw [hz]; exact hout) (g := zF m pc ls (.int i :: .ref a :: st) lk mr) rfl rfl (by rw [C.hb]; exact hd) t1 a1, b1⟩
theorem ex_aalO {t : Nat} {x : vp_A} {i : Int32} (hd : decode Y.code pc = .ok (.aaload, 1)) (he : g.h a = some (.inl (t, x))) (ht : t < 11) (hn : x.1 < 2 ^ 31) (hout : zout i x.1) (hst : (st.map fun v => v.category).sum ≤ 40) (hrc : 3 ≤ g.rc) (hrs : 300 ≤ g.rs)
    (k : zTH G (d + 8) K Y pc lo zAIO (g.sz + 2) (zxg g) Q) : zEF G (d + 8) K Y pc lo (.int i :: .ref a :: st) g Q := by
  intro p l e R s m args below meth c T locs cells slots ls lk mr s1 C
  have hat := (C.hp.2.2.2 a _ he).2
  have hz : (vp_cell (G.dA t) x).slots.size = x.1 := zvp_size _ _
  obtain ⟨t1, a1, b1⟩ := C.msg (x := ("java/lang/ArrayIndexOutOfBoundsException", ["java/lang/IndexOutOfBoundsException", "java/lang/RuntimeException", "java/lang/Exception"])) (by decide) (index_text_modelled i x.1) (Nat.le_trans (index_text_bytes i hn) (by decide)) hrc hrs hst k
  rw [← hz] at a1
  exact ⟨t1, C.X.aaloadOut C.ex hat (C.isArr ht x) (by rw [hz]; exact hout) (g := zF m pc ls (.int i :: .ref a :: st) lk mr) rfl rfl (by rw [C.hb]; exact hd) t1 a1, b1⟩
theorem ex_iasO {t : Nat} {x : vp_A} {i : Int32} {y : Int32} (hd : decode Y.code pc = .ok (.iastore, 1)) (he : g.h a = some (.inl (t, x))) (ht : t < 11) (hn : x.1 < 2 ^ 31) (hout : zout i x.1) (hst : (st.map fun v => v.category).sum ≤ 40) (hrc : 3 ≤ g.rc) (hrs : 300 ≤ g.rs)
    (k : zTH G (d + 8) K Y pc lo zAIO (g.sz + 2) (zxg g) Q) : zEF G (d + 8) K Y pc lo (.int y :: .int i :: .ref a :: st) g Q := by
  intro p l e R s m args below meth c T locs cells slots ls lk mr s1 C
  have hat := (C.hp.2.2.2 a _ he).2
  have hz : (vp_cell (G.dA t) x).slots.size = x.1 := zvp_size _ _
  obtain ⟨t1, a1, b1⟩ := C.msg (x := ("java/lang/ArrayIndexOutOfBoundsException", ["java/lang/IndexOutOfBoundsException", "java/lang/RuntimeException", "java/lang/Exception"])) (by decide) (index_text_modelled i x.1) (Nat.le_trans (index_text_bytes i hn) (by decide)) hrc hrs hst k
  rw [← hz] at a1
  exact ⟨t1, C.X.iastoreOut C.ex hat (C.isArr ht x) (by rw [hz]; exact hout) (g := zF m pc ls (.int y :: .int i :: .ref a :: st) lk mr) rfl rfl (by rw [C.hb]; exact hd) t1 a1, b1⟩
theorem ex_fasO {t : Nat} {x : vp_A} {i : Int32} {y : UInt32} (hd : decode Y.code pc = .ok (.fastore, 1)) (he : g.h a = some (.inl (t, x))) (ht : t < 11) (hn : x.1 < 2 ^ 31) (hout : zout i x.1) (hst : (st.map fun v => v.category).sum ≤ 40) (hrc : 3 ≤ g.rc) (hrs : 300 ≤ g.rs)
    (k : zTH G (d + 8) K Y pc lo zAIO (g.sz + 2) (zxg g) Q) : zEF G (d + 8) K Y pc lo (.float y :: .int i :: .ref a :: st) g Q := by
  intro p l e R s m args below meth c T locs cells slots ls lk mr s1 C
  have hat := (C.hp.2.2.2 a _ he).2
  have hz : (vp_cell (G.dA t) x).slots.size = x.1 := zvp_size _ _
  obtain ⟨t1, a1, b1⟩ := C.msg (x := ("java/lang/ArrayIndexOutOfBoundsException", ["java/lang/IndexOutOfBoundsException", "java/lang/RuntimeException", "java/lang/Exception"])) (by decide) (index_text_modelled i x.1) (Nat.le_trans (index_text_bytes i hn) (by decide)) hrc hrs hst k
  rw [← hz] at a1
  exact ⟨t1, C.X.fastoreOut C.ex hat (C.isArr ht x) (by rw [hz]; exact hout) (g := zF m pc ls (.float y :: .int i :: .ref a :: st) lk mr) rfl rfl (by rw [C.hb]; exact hd) t1 a1, b1⟩
theorem ex_basO {t : Nat} {x : vp_A} {i : Int32} {y : Int32} (hd : decode Y.code pc = .ok (.bastore, 1)) (he : g.h a = some (.inl (t, x))) (ht : t < 11) (hn : x.1 < 2 ^ 31) (hout : zout i x.1) (hst : (st.map fun v => v.category).sum ≤ 40) (hrc : 3 ≤ g.rc) (hrs : 300 ≤ g.rs)
    (k : zTH G (d + 8) K Y pc lo zAIO (g.sz + 2) (zxg g) Q) : zEF G (d + 8) K Y pc lo (.int y :: .int i :: .ref a :: st) g Q := by
  intro p l e R s m args below meth c T locs cells slots ls lk mr s1 C
  have hat := (C.hp.2.2.2 a _ he).2
  have hz : (vp_cell (G.dA t) x).slots.size = x.1 := zvp_size _ _
  obtain ⟨t1, a1, b1⟩ := C.msg (x := ("java/lang/ArrayIndexOutOfBoundsException", ["java/lang/IndexOutOfBoundsException", "java/lang/RuntimeException", "java/lang/Exception"])) (by decide) (index_text_modelled i x.1) (Nat.le_trans (index_text_bytes i hn) (by decide)) hrc hrs hst k
  rw [← hz] at a1
  exact ⟨t1, C.X.bastoreOut C.ex hat (C.isArr ht x) (by rw [hz]; exact hout) (g := zF m pc ls (.int y :: .int i :: .ref a :: st) lk mr) rfl rfl (by rw [C.hb]; exact hd) t1 a1, b1⟩
theorem ex_sasO {t : Nat} {x : vp_A} {i : Int32} {y : Int32} (hd : decode Y.code pc = .ok (.sastore, 1)) (he : g.h a = some (.inl (t, x))) (ht : t < 11) (hn : x.1 < 2 ^ 31) (hout : zout i x.1) (hst : (st.map fun v => v.category).sum ≤ 40) (hrc : 3 ≤ g.rc) (hrs : 300 ≤ g.rs)
    (k : zTH G (d + 8) K Y pc lo zAIO (g.sz + 2) (zxg g) Q) : zEF G (d + 8) K Y pc lo (.int y :: .int i :: .ref a :: st) g Q := by
  intro p l e R s m args below meth c T locs cells slots ls lk mr s1 C
  have hat := (C.hp.2.2.2 a _ he).2
  have hz : (vp_cell (G.dA t) x).slots.size = x.1 := zvp_size _ _
  obtain ⟨t1, a1, b1⟩ := C.msg (x := ("java/lang/ArrayIndexOutOfBoundsException", ["java/lang/IndexOutOfBoundsException", "java/lang/RuntimeException", "java/lang/Exception"])) (by decide) (index_text_modelled i x.1) (Nat.le_trans (index_text_bytes i hn) (by decide)) hrc hrs hst k
  rw [← hz] at a1
  exact ⟨t1, C.X.sastoreOut C.ex hat (C.isArr ht x) (by rw [hz]; exact hout) (g := zF m pc ls (.int y :: .int i :: .ref a :: st) lk mr) rfl rfl (by rw [C.hb]; exact hd) t1 a1, b1⟩
theorem ex_dasO {t : Nat} {x : vp_A} {i : Int32} {y : UInt64} (hd : decode Y.code pc = .ok (.dastore, 1)) (he : g.h a = some (.inl (t, x))) (ht : t < 11) (hn : x.1 < 2 ^ 31) (hout : zout i x.1) (hst : (st.map fun v => v.category).sum ≤ 40) (hrc : 3 ≤ g.rc) (hrs : 300 ≤ g.rs)
    (k : zTH G (d + 8) K Y pc lo zAIO (g.sz + 2) (zxg g) Q) : zEF G (d + 8) K Y pc lo (.double y :: .int i :: .ref a :: st) g Q := by
  intro p l e R s m args below meth c T locs cells slots ls lk mr s1 C
  have hat := (C.hp.2.2.2 a _ he).2
  have hz : (vp_cell (G.dA t) x).slots.size = x.1 := zvp_size _ _
  obtain ⟨t1, a1, b1⟩ := C.msg (x := ("java/lang/ArrayIndexOutOfBoundsException", ["java/lang/IndexOutOfBoundsException", "java/lang/RuntimeException", "java/lang/Exception"])) (by decide) (index_text_modelled i x.1) (Nat.le_trans (index_text_bytes i hn) (by decide)) hrc hrs hst k
  rw [← hz] at a1
  exact ⟨t1, C.X.dastoreOut C.ex hat (C.isArr ht x) (by rw [hz]; exact hout) (g := zF m pc ls (.double y :: .int i :: .ref a :: st) lk mr) rfl rfl (by rw [C.hb]; exact hd) t1 a1, b1⟩
theorem ex_aasO {t : Nat} {x : vp_A} {i : Int32} {y : Value} (hy : y.isRef = true) (hd : decode Y.code pc = .ok (.aastore, 1)) (he : g.h a = some (.inl (t, x))) (ht : t < 11) (hn : x.1 < 2 ^ 31) (hout : zout i x.1) (hst : (st.map fun v => v.category).sum ≤ 40) (hrc : 3 ≤ g.rc) (hrs : 300 ≤ g.rs)
    (k : zTH G (d + 8) K Y pc lo zAIO (g.sz + 2) (zxg g) Q) : zEF G (d + 8) K Y pc lo (y :: .int i :: .ref a :: st) g Q := by
  intro p l e R s m args below meth c T locs cells slots ls lk mr s1 C
  have hat := (C.hp.2.2.2 a _ he).2
  have hz : (vp_cell (G.dA t) x).slots.size = x.1 := zvp_size _ _
  obtain ⟨t1, a1, b1⟩ := C.msg (x := ("java/lang/ArrayIndexOutOfBoundsException", ["java/lang/IndexOutOfBoundsException", "java/lang/RuntimeException", "java/lang/Exception"])) (by decide) (index_text_modelled i x.1) (Nat.le_trans (index_text_bytes i hn) (by decide)) hrc hrs hst k
  rw [← hz] at a1
  exact ⟨t1, C.X.aastoreOut C.ex hy hat (C.isArr ht x) (by rw [hz]; exact hout) (g := zF m pc ls (y :: .int i :: .ref a :: st) lk mr) rfl rfl (by rw [C.hb]; exact hd) t1 a1, b1⟩
theorem zCtx.castF {lo : List (Option Value)} {p : Program} {l : Launch} {e : Env} {R : Room} {s : State} {m : MethodId} {args : Array Value} {below : List Frame} {meth : Method} {c : Code} {T : State} {locs : List Loc} {cells slots : Nat} {ls : Array Slot} {lk : Option Addr} {mr : Nat} {s1 : State} (C0 : zCtx G (d + 8) K Y lo g p l e R s m args below meth c T locs cells slots ls lk mr s1) {idx : Nat} {C nm : String} (hd : decode Y.code pc = .ok (.checkcast idx, 3)) (hl : Cond.classLink Y.nm.cls idx nm ∈ lw_all) (hw : Cond.not (.castable C nm) ∈ flatC (Jvm.Cond.and given_1 narrow_1)) (hok : zcastOK C nm = true)
    {cell : Cell} (h1 : T.heap[a]? = some cell) (h2 : cell.vm.isStatics = false) (h3 : s.vm.findClass C = some cell.cls) (hst : (st.map fun v => v.category).sum ≤ 38) (hrc : 3 ≤ g.rc) (hrs : 300 ≤ g.rs)
    (k : zTH G (d + 8) K Y pc lo zCCE (g.sz + 2) (zxg g) Q) : ∃ t, Steps p.tables e below (T.setTop (zF m pc ls (.ref a :: st) lk mr)) t ∧ zEnd G K Y Q R s1 below t := by
  obtain ⟨c0, t0, f1, f2, f3⟩ := C0.nc hw
  cases h3.symm.trans f1
  obtain ⟨ks, hks, -⟩ := Vm.findClass_spec h3
  obtain ⟨vm', ks', kt', X', hal, hk1, hk2, stp⟩ := zcastFail C0.X C0.ex C0.own (C0.w hl) h1 h2 hks f2 f3 (g := zF m pc ls (.ref a :: st) lk mr) rfl rfl (by rw [C0.hb]; exact hd)
  have hmod : vm'.modules = G.s0.vm.modules := by
    have e1 : vm'.modules = s.vm.modules := by rw [hal.1]
    have e2 : s.vm.modules = G.s0.vm.modules := by rw [C0.wm.alike.1]
    exact e1.trans e2
  have hm : (vm'.modules.all fun m => m.loader.isSome || m.name == "java.base" || !(castPackages_1.any fun p => m.packages.contains p)) = true := by
    rw [hmod]; exact C0.ok.2.2.1
  have htx := zmsg_eq hm (by rw [hal.findClass]; exact h3) (by rw [hal.findClass]; exact f2) hk1 hk2 hok
  simp only [ztxOK, Bool.and_eq_true, Bool.not_eq_true', decide_eq_true_eq] at htx
  have C1 : zCtx G (d + 8) K Y lo g p l e R s m args below meth c (T.setVm vm') locs cells slots ls lk mr s1 :=
    ⟨C0.ok, C0.2.1, C0.fr, C0.rm, C0.hlk, X', ⟨State.WarmedH.trans C0.wm X'.warmed, C0.hp⟩, C0.hlo, C0.cn, C0.lc⟩
  obtain ⟨t1, a1, b1⟩ := C1.msg (x := ("java/lang/ClassCastException", ["java/lang/RuntimeException", "java/lang/Exception"])) (by decide) htx.1 htx.2 hrc hrs (pc := pc) (st := .ref a :: st) (by simp only [List.map_cons, List.sum_cons]; show 1 + _ ≤ 40; omega) k
  exact ⟨t1, stp t1 a1, b1⟩
/-- an object is cast to a class that it hasn't -/
theorem ex_castO {ci idx N : Nat} {own C nm : String} {Tt : u_T} {fs : List Value} (hd : decode Y.code pc = .ok (.checkcast idx, 3)) (hc : zcl[ci]? = some (C, Tt, N)) (ho : own = Y.nm.cls) (hl : Cond.classLink own idx nm ∈ lw_all) (hw : Cond.not (.castable C nm) ∈ flatC (Jvm.Cond.and given_1 narrow_1)) (hok : zcastOK C nm = true) (he : g.h a = some (.inr (ci, fs))) (hst : (st.map fun v => v.category).sum ≤ 38) (hrc : 3 ≤ g.rc) (hrs : 300 ≤ g.rs)
    (k : zTH G (d + 8) K Y pc lo zCCE (g.sz + 2) (zxg g) Q) : zEF G (d + 8) K Y pc lo (.ref a :: st) g Q := by
  subst ho
  intro p l e R s m args below meth c T locs cells slots ls lk mr s1 C
  obtain ⟨cell, h1, h2, h3⟩ := C.recv hc he
  exact C.castF hd hl hw hok h1 h2 h3 hst hrc hrs k
/-- an array of primitives is cast to another class -/
theorem ex_castA {idx t : Nat} {own CC nm : String} {x : vp_A} (hd : decode Y.code pc = .ok (.checkcast idx, 3)) (ho : own = Y.nm.cls) (hl : Cond.classLink own idx nm ∈ lw_all) (ht : t < 7) (hC : "[" ++ (zty t).toString = CC) (hw : Cond.not (.castable CC nm) ∈ flatC (Jvm.Cond.and given_1 narrow_1)) (hok : zcastOK CC nm = true) (he : g.h a = some (.inl (t, x))) (hst : (st.map fun v => v.category).sum ≤ 38) (hrc : 3 ≤ g.rc) (hrs : 300 ≤ g.rs)
    (k : zTH G (d + 8) K Y pc lo zCCE (g.sz + 2) (zxg g) Q) : zEF G (d + 8) K Y pc lo (.ref a :: st) g Q := by
  subst ho
  intro p l e R s m args below meth c T locs cells slots ls lk mr s1 C
  have hat := (C.hp.2.2.2 a _ he).2
  have hfc : s.vm.findClass CC = some (G.dA t) := by
    have h1 := (C.arr t (by omega)).2
    rw [← hC]
    rcases (by omega : t = 0 ∨ t = 1 ∨ t = 2 ∨ t = 3 ∨ t = 4 ∨ t = 5 ∨ t = 6) with h | h | h | h | h | h | h <;> subst h <;> exact h1
  exact C.castF hd hl hw hok hat (by rw [zvp_vm]; rfl) (by rw [zvp_cls]; exact hfc) hst hrc hrs k
end ZK1
section ZK2
variable {p : Program} {l : Launch} {e : Env} {R : Room} {s : State} {m : MethodId} {args : Array Value} {below : List Frame} {meth : Method} {c : Code} {T : State} {locs : List Loc} {cells slots : Nat}
theorem zastFail (X : Stand p l e R s m args below meth c T locs cells slots) (hexec : p.tables.exec = Jvm.exec) {a v : Addr} {i : Int32} {ca cv : Cell} {k kv kc : Class} {comp : ClassId} {t : FieldType}
    (hcell : T.heap[a]? = some ca) (hobj : ∀ k, ca.vm ≠ .statics k) (hk : T.vm.classes[ca.cls]? = some k) (hkind : k.kind = .array comp t) (hi : ¬ (i < 0 ∨ ca.slots.size ≤ i.toNatClampNeg))
    (hcv : T.heap[v]? = some cv) (hvv : ∀ k, cv.vm ≠ .statics k) (hkv : T.vm.classes[cv.cls]? = some kv) (hkc : T.vm.classes[comp]? = some kc) (hass : T.vm.assignable cv.cls comp = false)
    {g : JFrame} (hg : g.method = m) {rest : List Value} (hstack : g.stack = .ref v :: .int i :: .ref a :: rest) (hdg : decode c.code g.pc = .ok (.aastore, 1)) :
    ∀ target, Steps p.tables e below ((T.setTop { g with stack := rest }).pushFrame (.throwNew "java/lang/ArrayStoreException" (some kv.shown) none)) target → Steps p.tables e below (T.setTop g) target := by
  intro target hrest
  have hT : T.isArray ca := ⟨hobj, k, hk, comp, t, hkind⟩
  have hi1 : ¬ i < 0 := fun h => hi (Or.inl h)
  have hi2 : ¬ ca.slots.size ≤ i.toNatClampNeg := fun h => hi (Or.inr h)
  subst hg
  jvm_step X.here [hexec, hdg, Op.aastore.sem, hstack, hcell, hT, hi1, hi2, hk, hkind, hcv, hvv, hkv, hkc, hass, hobj]
  exact hrest
end ZK2

/-! stores of references, returns, Object's constructor, natives, statics -/
set_option maxRecDepth 100000
section ZE
variable {G : zG} {d : Nat} {K : List Nat} {Y : zM} {pc : Nat} {lo : List (Option Value)} {st : List Value} {g : zS} {Q : zO → zS → Prop} {a : Nat}
/-- a reference is stored into an array whose elements may be of its class -/
theorem ez_aast {t n ci N v : Nat} {C nm : String} {Tt : u_T} {vs : List Value} {f : Nat → Option Nat} {i : Int32} (hd : decode Y.code pc = .ok (.aastore, 1)) (he : g.h a = some (.inl (t, n, .inr (.inr (.inr (.inr f)))))) (ht : t < 11) (hnm : zty t = .object nm) (hin : vp_in i n) (hv : g.h v = some (.inr (ci, vs))) (hc : zcl[ci]? = some (C, Tt, N)) (hw : Cond.castable C nm ∈ lw_tbl ∨ C = nm)
    (k : zEF G d K Y (pc + 1) lo st (zput g a (.inl (t, n, .inr (.inr (.inr (.inr (va_up f i.toNatClampNeg (some v)))))))) Q) : zEF G d K Y pc lo (.ref v :: .int i :: .ref a :: st) g Q := by
  intro p l e R s m args below meth c T locs cells slots ls lk mr s1 C0
  obtain ⟨hbase, hat⟩ := C0.hp.2.2.2 a _ he
  have hlt : i.toNatClampNeg < n := Nat.not_le.mp fun q => hin (Or.inr q)
  have h0 : ¬ i < 0 := fun q => hin (Or.inl q)
  obtain ⟨cellV, g1, g2, g3⟩ := C0.recv hc hv
  have hra := (C0.arr t ht).2
  rw [hnm] at hra
  obtain ⟨kA, comp, k1, k2, k3, -⟩ := hra
  obtain ⟨kcomp, hkcomp, -⟩ := Vm.findClass_spec k3
  obtain ⟨kv, hkv, -⟩ := Vm.findClass_spec g3
  have hasg : s.vm.assignable cellV.cls comp = true := by
    rcases hw with hw | hw
    · obtain ⟨c0, t0, f1, f2, f3⟩ := Cond.castable_spec (va_Nw.use (A := args) rfl (va_Nw.warmC C0.wm (va_Nw.of rfl (C0.ok.1 _ hw))))
      cases g3.symm.trans f1
      cases k3.symm.trans f2
      exact f3
    · subst hw
      have hca : ClassAt s C (G.D.1 ci) := (C0.hK.1 ci _ hc).2
      have e1 : G.D.1 ci = cellV.cls := Option.some.inj (hca.1.symm.trans g3)
      have e2 : comp = cellV.cls := Option.some.inj (k3.symm.trans g3)
      rw [e2, ← e1]; exact va_assign hca
  have key : W p l e R s m args below meth c T.heap locs cells slots (zEnd G K Y Q R s1 below) (zF m pc ls (.ref v :: .int i :: .ref a :: st) lk mr) :=
    W.aast (g := zF m pc ls (.ref v :: .int i :: .ref a :: st) lk mr) (rest := st) C0.ex C0.hb hat (fun q h => by rw [zvp_vm] at h; cases h) (by rw [zvp_vm]; exact fun q => by cases q) (by rw [zvp_cls]; exact k1) k2 rfl hkcomp ⟨h0, by rw [zvp_size]; exact hlt⟩ g1 (fun q h => by rw [h] at g2; cases g2) hkv hasg rfl rfl hd fun H' e1 e2 e3 => by
      refine C0.toW k (C0.hp.write he hat e1 rfl rfl e2 e3 ?_) C0.cn ?_
      · show H'[a]? = some (vp_cell _ _)
        rw [e1]
        rw [vp_cell_q, vp_cell_q, arrV_store]
        congr 2
        funext q
        by_cases hq : q = i.toNatClampNeg
        · subst hq
          simp [updV, va_up, va_rf]
        · simp [updV, va_up, hq]
      · intro q hq
        rcases List.mem_append.mp hq with h | h
        · exact C0.lc q h
        · rw [List.mem_singleton.mp h]; exact hbase
  exact key T rfl C0.X
theorem ez_aastN {t n : Nat} {nm : String} {f : Nat → Option Nat} {i : Int32} (hd : decode Y.code pc = .ok (.aastore, 1)) (he : g.h a = some (.inl (t, n, .inr (.inr (.inr (.inr f)))))) (ht : t < 11) (hnm : zty t = .object nm) (hin : vp_in i n)
    (k : zEF G d K Y (pc + 1) lo st (zput g a (.inl (t, n, .inr (.inr (.inr (.inr (va_up f i.toNatClampNeg none))))))) Q) : zEF G d K Y pc lo (.null :: .int i :: .ref a :: st) g Q := by
  intro p l e R s m args below meth c T locs cells slots ls lk mr s1 C0
  obtain ⟨hbase, hat⟩ := C0.hp.2.2.2 a _ he
  have hia := C0.isArr ht (n, .inr (.inr (.inr (.inr f))))
  rw [hnm] at hia
  have key : W p l e R s m args below meth c T.heap locs cells slots (zEnd G K Y Q R s1 below) (zF m pc ls (.null :: .int i :: .ref a :: st) lk mr) :=
    va_WaastN (C := nm) (g := zF m pc ls (.null :: .int i :: .ref a :: st) lk mr) (rest := st) C0.ex C0.hb hat hia (by rw [zvp_vm]; exact fun q => by cases q) (by rw [zvp_size]; exact hin) rfl rfl hd fun H' e1 e2 e3 => by
      refine C0.toW k (C0.hp.write he hat e1 rfl rfl e2 e3 ?_) C0.cn ?_
      · show H'[a]? = some (vp_cell _ _)
        rw [e1]
        rw [vp_cell_q, vp_cell_q, arrV_store]
        congr 2
        funext q
        by_cases hq : q = i.toNatClampNeg
        · subst hq
          simp [updV, va_up, va_rf]
        · simp [updV, va_up, hq]
      · intro q hq
        rcases List.mem_append.mp hq with h | h
        · exact C0.lc q h
        · rw [List.mem_singleton.mp h]; exact hbase
  exact key T rfl C0.X
/-- a monitor is given back, or taken: only the monitor of one new cell changes -/
theorem zHp.mon {H : Heap} {K0 : List Nat} {b : Nat} (h : zHp G K g H) (hb0 : G.s0.heap.size ≤ b) {cell cell' : Cell} (hc : H[b]? = some cell) (hs : cell' = { cell with monitor := cell'.monitor }) (hm : b ∈ K0 ∨ cell'.monitor = {}) (hK0 : ∀ q, q ≠ b → q ∉ K0 → q ∉ K) (hobj : ∀ y, g.h b = some (.inl y) → cell'.monitor = {}) : zHp G K0 g (H.setIfInBounds b cell') := by
  obtain ⟨⟨o1, o2, o3⟩, h2, h3, h4⟩ := h
  have hlt : b < H.size := (Array.getElem?_eq_some_iff.mp hc).1
  have hsz : (H.setIfInBounds b cell').size = H.size := Array.size_setIfInBounds
  have hself : (H.setIfInBounds b cell')[b]? = some cell' := by simp [hlt]
  have hne : ∀ q : Nat, q ≠ b → (H.setIfInBounds b cell')[q]? = H[q]? := fun q hq => by simp [Array.getElem?_setIfInBounds, Ne.symm hq]
  have hvm : cell'.vm = cell.vm := by rw [hs]
  have hcl : cell'.cls = cell.cls := by rw [hs]
  have hsl : cell'.slots = cell.slots := by rw [hs]
  refine ⟨⟨by rw [hsz]; exact o1, fun q hq => by rw [hne q (by omega)]; exact o2 q hq, fun q c1 hq hc1 => ?_⟩, by rw [hsz]; exact h2, fun q c1 hq hc1 hK => ?_, fun q y hy => ?_⟩
  · by_cases e : q = b
    · subst e; rw [hself] at hc1; cases hc1; rw [hvm]; exact o3 q cell hq hc
    · rw [hne q e] at hc1; exact o3 q c1 hq hc1
  · by_cases e : q = b
    · subst e; rw [hself] at hc1; cases hc1
      rcases hm with hm | hm
      · exact absurd hm hK
      · exact hm
    · rw [hne q e] at hc1; exact h3 q c1 hq hc1 (hK0 q e hK)
  · obtain ⟨z1, z2⟩ := h4 q y hy
    refine ⟨z1, ?_⟩
    by_cases e : q = b
    · subst e
      cases y with
      | inl y =>
        have hz : H[q]? = some (vp_cell (G.dA y.1) y.2) := z2
        have e3 : cell = vp_cell (G.dA y.1) y.2 := Option.some.inj (hc.symm.trans hz)
        show (H.setIfInBounds q cell')[q]? = some (vp_cell (G.dA y.1) y.2)
        rw [hself, hs, hobj y hy, e3]
        obtain ⟨y1, n, f | f | f | f | f⟩ := y <;> rfl
      | inr o2 =>
        obtain ⟨r, w1, c2, w2, w3, w4, w5⟩ := z2
        have e3 : c2 = cell := Option.some.inj (w2.symm.trans hc)
        subst e3
        exact ⟨r, w1, cell', hself, by rw [hcl]; exact w3, by rw [hvm]; exact w4, fun k hk => by rw [hsl]; exact w5 k hk⟩
    · exact z2.kept (hne q e)
/-- the cell of a locked receiver, given back -/
theorem zLeft {p : Program} {l : Launch} {e : Env} {R : Room} {m : MethodId} {args : Array Value} {below : List Frame} {meth : Method} {c : Code} {T : State} {locs : List Loc} {cells slots : Nat} {s1 : State} {b : Nat} {cell : Cell} (X : Stand p l e R (s1.setCell b (cell.withEntry s1.cur)) m args below meth c T locs cells slots) (hs : s1.heap[b]? = some cell) (hm : cell.monitor = {}) {cellT : Cell} (hT : T.heap[b]? = some cellT) : cellT.left.monitor = {} ∧ cellT.left = { cellT with monitor := cellT.left.monitor } := by
  have hlt : b < s1.heap.size := (Array.getElem?_eq_some_iff.mp hs).1
  have hs' : (s1.setCell b (cell.withEntry s1.cur)).heap[b]? = some (cell.withEntry s1.cur) := by
    show (s1.heap.setIfInBounds b (cell.withEntry s1.cur))[b]? = _
    simp [hlt]
  obtain ⟨c', x1, x2, -⟩ := X.cellAt hs'
  cases hT.symm.trans x1
  have hent : cell.enterable s1.cur := Or.inl ⟨by rw [hm], by rw [hm]⟩
  have e2 : cellT.left = { cell with slots := cellT.slots } := by
    rw [x2, Cell.left_withSlots, Cell.left_withEntry' hent]
  refine ⟨by rw [e2]; exact hm, ?_⟩
  unfold Cell.left
  split <;> rfl
theorem zEnter {cell : Cell} (hm : cell.monitor = {}) (t : ThreadId) : cell.enterable t := Or.inl ⟨by rw [hm], by rw [hm]⟩
/-- the method returns -/
theorem zRet {lo : List (Option Value)} {p : Program} {l : Launch} {e : Env} {R : Room} {s : State} {m : MethodId} {args : Array Value} {below : List Frame} {meth : Method} {c : Code} {T : State} {locs : List Loc} {cells slots : Nat} {ls : Array Slot} {lk : Option Addr} {mr : Nat} {s1 : State} (C0 : zCtx G d K Y lo g p l e R s m args below meth c T locs cells slots ls lk mr s1) {v : Option Value} (hv : meth.sig.returnType = none → v = none) (hq : Q (.inl v) g) : ∃ t, (∀ (f : JFrame) (acts : List Action), f.method = m → f.locked = lk → f.entered = [] → (doReturn e (T.setTop f) acts v).1 = t) ∧ zEnd G K Y Q R s1 below t := by
  have hsy : meth.locks = Y.sy := C0.fr.2.2.2.2.2.2
  rcases C0.hlk with ⟨h1, h2, h3, h4⟩ | ⟨b, cell, K0, h1, hK, hn, h2, h3, hb0, hcell, hmon, hs⟩
  · subst h2; subst h4
    have hl : meth.locks = false := by rw [hsy]; exact h1
    obtain ⟨fs, hret, hrun, hended, hW, hframe⟩ := C0.X.leave (v := v) hv hl
    refine ⟨T.setFrames fs, hret, .inl v, g, hq, hrun, hended, hW, ?_, locs, cells, slots, hframe, C0.cn, C0.lc⟩
    rw [if_neg (by rw [h1]; decide)]
    exact C0.rep
  · subst h2; subst hs; subst hK
    have hl : meth.locks = true := by rw [hsy]; exact h1
    have hent := zEnter hmon s1.cur
    obtain ⟨fs, cellT, hT, hret, hrun, hended, hW, hframe⟩ := C0.X.leaveSync hcell hent hl (v := v) hv
    obtain ⟨m1, m2⟩ := zLeft C0.X hcell hmon hT
    refine ⟨(T.setCell b cellT.left).setFrames fs, hret, .inl v, g, hq, hrun, hended, hW, ?_, locs, cells, slots, hframe, C0.cn, C0.lc⟩
    rw [if_pos h1]
    exact ⟨C0.rep.1, C0.hp.mon hb0 hT m2 (Or.inr m1) (fun q hq1 hq2 hq3 => by rcases List.mem_cons.mp hq3 with h | h; exact hq1 h; exact hq2 h) (fun _ _ => m1)⟩
/-- the method throws: no handler covers the place -/
theorem zTH_out {X : String} (hout : ∀ x ∈ tableOf Y.hs, covers x pc = false) (hq : Q (.inr (X, a)) g) : zTH G d K Y pc lo X a g Q := by
  intro p l e R s m args below meth c T locs cells slots ls lk mr s1 st C0 ha ⟨cellA, hcA, hfA⟩
  have hsy : meth.locks = Y.sy := C0.fr.2.2.2.2.2.2
  have hout' : ∀ x ∈ c.exceptionTable.toList, covers x (zF m pc ls st lk mr).pc = false := by rw [C0.fr.2.2.2.2.1]; exact hout
  rcases C0.hlk with ⟨h1, h2, h3, h4⟩ | ⟨b, cell, K0, h1, hK, hn, h2, h3, hb0, hcell, hmon, hs⟩
  · subst h2; subst h4
    have hl : meth.locks = false := by rw [hsy]; exact h1
    obtain ⟨hst, hrun, hended, hW, hframe⟩ := C0.X.leaveThrown a (g := zF m pc ls st none mr) rfl rfl rfl hout' hl
    refine ⟨T.setFrames (.throwing a :: below), hst, .inr (X, a), g, hq, hrun, ⟨hended, ha, cellA, hcA, hfA⟩, hW, ?_, locs, cells, slots, hframe, C0.cn, C0.lc⟩
    rw [if_neg (by rw [h1]; decide)]
    exact C0.rep
  · subst h2; subst hs; subst hK
    have hent := zEnter hmon s1.cur
    obtain ⟨cellT, hT, hst, hrun, hended, hW, hframe⟩ := C0.X.leaveThrownSync hcell hent a (g := zF m pc ls st (some b) mr) rfl rfl rfl hout'
    obtain ⟨m1, m2⟩ := zLeft C0.X hcell hmon hT
    have hltb : b < T.heap.size := (Array.getElem?_eq_some_iff.mp hT).1
    have hcA' : ∃ cell2 : Cell, (T.setCell b cellT.left).heap[a]? = some cell2 ∧ G.s0.vm.findClass X = some cell2.cls := by
      by_cases e : a = b
      · subst e
        refine ⟨cellT.left, by show (T.heap.setIfInBounds a cellT.left)[a]? = _; simp [hltb], ?_⟩
        cases hT.symm.trans hcA
        rw [m2]; exact hfA
      · exact ⟨cellA, by show (T.heap.setIfInBounds b cellT.left)[a]? = _; simp [Array.getElem?_setIfInBounds, Ne.symm e, hcA], hfA⟩
    refine ⟨(T.setCell b cellT.left).setFrames (.throwing a :: below), hst, .inr (X, a), g, hq, hrun, ⟨hended, ha, hcA'⟩, hW, ?_, locs, cells, slots, hframe, C0.cn, C0.lc⟩
    rw [if_pos h1]
    exact ⟨C0.rep.1, C0.hp.mon hb0 hT m2 (Or.inr m1) (fun q hq1 hq2 hq3 => by rcases List.mem_cons.mp hq3 with h | h; exact hq1 h; exact hq2 h) (fun _ _ => m1)⟩
theorem ez_iret {x : Int32} {ty : FieldType} (hd : decode Y.code pc = .ok (.ireturn, 1)) (hr : Y.ret = some ty) (hn : narrow ty (.int x) = .int x) (hq : Q (.inl (some (.int x))) g) : zEF G d K Y pc lo (.int x :: st) g Q := by
  intro p l e R s m args below meth c T locs cells slots ls lk mr s1 C0
  have hrt : meth.sig.returnType = some ty := C0.fr.2.2.2.2.2.1.trans hr
  obtain ⟨t, hret, hend⟩ := zRet C0 (v := some (.int x)) (fun h => by rw [hrt] at h; cases h) hq
  refine ⟨t, ?_, hend⟩
  have X := C0.X
  have hexec := C0.ex
  have hb := C0.hb
  have hmeth' : T.vm.method? m = some meth := X.method'
  jvm_step X.here [X.here.top, hexec, hb, hd, hmeth', hrt, hn]
  (try refine ⟨rfl, ?_⟩); (try refine ⟨rfl, ?_⟩)
  first | (intro acts; rw [hret _ acts rfl rfl rfl]) | rw [hret _ _ rfl rfl rfl]
  exact Steps.refl _
theorem ez_lret {x : Int64} (hd : decode Y.code pc = .ok (.lreturn, 1)) (hr : Y.ret = some .long) (hq : Q (.inl (some (.long x))) g) : zEF G d K Y pc lo (.long x :: st) g Q := by
  intro p l e R s m args below meth c T locs cells slots ls lk mr s1 C0
  have hrt : meth.sig.returnType = some .long := C0.fr.2.2.2.2.2.1.trans hr
  obtain ⟨t, hret, hend⟩ := zRet C0 (v := some (.long x)) (fun h => by rw [hrt] at h; cases h) hq
  refine ⟨t, ?_, hend⟩
  have X := C0.X
  have hexec := C0.ex
  have hb := C0.hb
  have hmeth' : T.vm.method? m = some meth := X.method'
  jvm_step X.here [X.here.top, hexec, hb, hd, hmeth', hrt, narrow]
  (try refine ⟨rfl, ?_⟩); (try refine ⟨rfl, ?_⟩)
  first | (intro acts; rw [hret _ acts rfl rfl rfl]) | rw [hret _ _ rfl rfl rfl]
  exact Steps.refl _
theorem ez_fret {x : UInt32} (hd : decode Y.code pc = .ok (.freturn, 1)) (hr : Y.ret = some .float) (hq : Q (.inl (some (.float x))) g) : zEF G d K Y pc lo (.float x :: st) g Q := by
  intro p l e R s m args below meth c T locs cells slots ls lk mr s1 C0
  have hrt : meth.sig.returnType = some .float := C0.fr.2.2.2.2.2.1.trans hr
  obtain ⟨t, hret, hend⟩ := zRet C0 (v := some (.float x)) (fun h => by rw [hrt] at h; cases h) hq
  refine ⟨t, ?_, hend⟩
  have X := C0.X
  have hexec := C0.ex
  have hb := C0.hb
  have hmeth' : T.vm.method? m = some meth := X.method'
  jvm_step X.here [X.here.top, hexec, hb, hd, hmeth', hrt, narrow]
  (try refine ⟨rfl, ?_⟩); (try refine ⟨rfl, ?_⟩)
  first | (intro acts; rw [hret _ acts rfl rfl rfl]) | rw [hret _ _ rfl rfl rfl]
  exact Steps.refl _
theorem ez_dret {x : UInt64} (hd : decode Y.code pc = .ok (.dreturn, 1)) (hr : Y.ret = some .double) (hq : Q (.inl (some (.double x))) g) : zEF G d K Y pc lo (.double x :: st) g Q := by
  intro p l e R s m args below meth c T locs cells slots ls lk mr s1 C0
  have hrt : meth.sig.returnType = some .double := C0.fr.2.2.2.2.2.1.trans hr
  obtain ⟨t, hret, hend⟩ := zRet C0 (v := some (.double x)) (fun h => by rw [hrt] at h; cases h) hq
  refine ⟨t, ?_, hend⟩
  have X := C0.X
  have hexec := C0.ex
  have hb := C0.hb
  have hmeth' : T.vm.method? m = some meth := X.method'
  jvm_step X.here [X.here.top, hexec, hb, hd, hmeth', hrt, narrow]
  (try refine ⟨rfl, ?_⟩); (try refine ⟨rfl, ?_⟩)
  first | (intro acts; rw [hret _ acts rfl rfl rfl]) | rw [hret _ _ rfl rfl rfl]
  exact Steps.refl _
theorem ez_vret (hd : decode Y.code pc = .ok (.return_, 1)) (hr : Y.ret = none) (hq : Q (.inl none) g) : zEF G d K Y pc lo st g Q := by
  intro p l e R s m args below meth c T locs cells slots ls lk mr s1 C0
  have hrt : meth.sig.returnType = none := C0.fr.2.2.2.2.2.1.trans hr
  obtain ⟨t, hret, hend⟩ := zRet C0 (v := none) (fun _ => rfl) hq
  refine ⟨t, ?_, hend⟩
  have X := C0.X
  have hexec := C0.ex
  have hb := C0.hb
  have hmeth' : T.vm.method? m = some meth := X.method'
  jvm_step X.here [X.here.top, hexec, hb, hd, hmeth', hrt, narrow]
  (try refine ⟨rfl, ?_⟩); (try refine ⟨rfl, ?_⟩)
  first | (intro acts; rw [hret _ acts rfl rfl rfl]) | rw [hret _ _ rfl rfl rfl]
  exact Steps.refl _
theorem ez_aret {v : Value} {ty : FieldType} (hd : decode Y.code pc = .ok (.areturn, 1)) (hr : Y.ret = some ty) (hty : ty.isReference = true) (hv : v.isRef = true) (hq : Q (.inl (some v)) g) : zEF G d K Y pc lo (v :: st) g Q := by
  intro p l e R s m args below meth c T locs cells slots ls lk mr s1 C0
  have hrt : meth.sig.returnType = some ty := C0.fr.2.2.2.2.2.1.trans hr
  obtain ⟨t, hret, hend⟩ := zRet C0 (v := some v) (fun h => by rw [hrt] at h; cases h) hq
  refine ⟨t, ?_, hend⟩
  have X := C0.X
  have hexec := C0.ex
  have hb := C0.hb
  have hmeth' : T.vm.method? m = some meth := X.method'
  jvm_step X.here [X.here.top, hexec, hb, hd, hmeth', hrt, narrow, hv, hty]
  (try refine ⟨rfl, ?_⟩); (try refine ⟨rfl, ?_⟩)
  first | (intro acts; rw [hret _ acts rfl rfl rfl]) | rw [hret _ _ rfl rfl rfl]
  exact Steps.refl _
/-- invokespecial Object.<init> -/
theorem ez_objInit {idx : Nat} {own : String} (hd : decode Y.code pc = .ok (.invokespecial idx, 3)) (ho : own = Y.nm.cls) (hl : Cond.methodLink own idx Lib.objectInit ∈ lw_all) (hi : Cond.instanceMethod Lib.objectInit ∈ lw_all) (hw : Cond.code Lib.objectInit ⟨#[0xb1]⟩ 1 none ∈ lw_all) (hst : (st.map fun v => v.category).sum ≤ 20)
    (k : zEF G (d + 1) K Y (pc + 3) lo st g Q) : zEF G (d + 1) K Y pc lo (.ref a :: st) g Q := by
  subst ho
  intro p l e R s m args below meth c T locs cells slots ls lk mr s1 C0
  have hrm := C0.rm
  have hmr : mr ≤ 1 := by rcases C0.hlk with ⟨-, -, h, -⟩ | ⟨_, _, _, -, -, -, -, h, -⟩ <;> omega
  have key : W p l e R s m args below meth c T.heap locs cells slots (zEnd G K Y Q R s1 below) (zF m pc ls (.ref a :: st) lk mr) :=
    W.objInit (g := zF m pc ls (.ref a :: st) lk mr) (rest := st) C0.ex C0.hb C0.own (C0.w hl) (C0.w hi) (C0.w hw) rfl (by rw [C0.ml]; exact C0.hlo.1) rfl hd (by omega) (by show 2 * mr + _ + 12 ≤ _; omega) (C0.toW0 k)
  exact key T rfl C0.X
theorem ez_f2raw {idx : Nat} {own : String} {b : UInt32} (hd : decode Y.code pc = .ok (.invokestatic idx, 3)) (ho : own = Y.nm.cls) (hl : Cond.methodLink own idx ⟨"java/lang/Float", "floatToRawIntBits", "(F)I"⟩ ∈ lw_all) (hw : Cond.native ⟨"java/lang/Float", "floatToRawIntBits", "(F)I"⟩ ∈ lw_all) (hs : Cond.static ⟨"java/lang/Float", "floatToRawIntBits", "(F)I"⟩ ∈ lw_all) (hi : Cond.initialized "java/lang/Float" ∈ lw_all) (hst : (st.map fun v => v.category).sum ≤ 20)
    (k : zEF G (d + 1) K Y (pc + 3) lo (.int b.toInt32 :: st) g Q) : zEF G (d + 1) K Y pc lo (.float b :: st) g Q := by
  subst ho
  intro p l e R s m args below meth c T locs cells slots ls lk mr s1 C0
  have hrm := C0.rm
  have hmr : mr ≤ 1 := by rcases C0.hlk with ⟨-, -, h, -⟩ | ⟨_, _, _, -, -, -, -, h, -⟩ <;> omega
  have hwd : nativeFrameWords "java/lang/Float" "floatToRawIntBits" 1 = 3 := (by decide)
  obtain ⟨vm', X', stp⟩ := vn_f2i0 C0.X C0.ex C0.own (C0.w hl) (C0.w hw) (C0.w hs) (C0.w hi) (b := b) (g := zF m pc ls (.float b :: st) lk mr) rfl (by rw [C0.ml]; exact C0.hlo.1) rfl (by rw [C0.hb]; exact hd) (by omega) (by show 2 * mr + _ + _ ≤ _; omega)
  obtain ⟨t, a1, b1⟩ := C0.toW0 k (T.setVm vm') rfl X'
  exact ⟨t, stp t a1, b1⟩
theorem ez_raw2f {idx : Nat} {own : String} {b : Int32} (hd : decode Y.code pc = .ok (.invokestatic idx, 3)) (ho : own = Y.nm.cls) (hl : Cond.methodLink own idx ⟨"java/lang/Float", "intBitsToFloat", "(I)F"⟩ ∈ lw_all) (hw : Cond.native ⟨"java/lang/Float", "intBitsToFloat", "(I)F"⟩ ∈ lw_all) (hs : Cond.static ⟨"java/lang/Float", "intBitsToFloat", "(I)F"⟩ ∈ lw_all) (hi : Cond.initialized "java/lang/Float" ∈ lw_all) (hst : (st.map fun v => v.category).sum ≤ 20) (hv : vn_sni2f b = false)
    (k : zEF G (d + 1) K Y (pc + 3) lo (.float b.toUInt32 :: st) g Q) : zEF G (d + 1) K Y pc lo (.int b :: st) g Q := by
  subst ho
  intro p l e R s m args below meth c T locs cells slots ls lk mr s1 C0
  have hrm := C0.rm
  have hmr : mr ≤ 1 := by rcases C0.hlk with ⟨-, -, h, -⟩ | ⟨_, _, _, -, -, -, -, h, -⟩ <;> omega
  have hwd : nativeFrameWords "java/lang/Float" "intBitsToFloat" 1 = 3 := (by decide)
  obtain ⟨vm', X', stp⟩ := vn_i2f0 C0.X C0.ex C0.own (C0.w hl) (C0.w hw) (C0.w hs) (C0.w hi) (b := b) (hv := hv) (g := zF m pc ls (.int b :: st) lk mr) rfl (by rw [C0.ml]; exact C0.hlo.1) rfl (by rw [C0.hb]; exact hd) (by omega) (by show 2 * mr + _ + _ ≤ _; omega)
  obtain ⟨t, a1, b1⟩ := C0.toW0 k (T.setVm vm') rfl X'
  exact ⟨t, stp t a1, b1⟩
theorem ez_d2raw {idx : Nat} {own : String} {b : UInt64} (hd : decode Y.code pc = .ok (.invokestatic idx, 3)) (ho : own = Y.nm.cls) (hl : Cond.methodLink own idx ⟨"java/lang/Double", "doubleToRawLongBits", "(D)J"⟩ ∈ lw_all) (hw : Cond.native ⟨"java/lang/Double", "doubleToRawLongBits", "(D)J"⟩ ∈ lw_all) (hs : Cond.static ⟨"java/lang/Double", "doubleToRawLongBits", "(D)J"⟩ ∈ lw_all) (hi : Cond.initialized "java/lang/Double" ∈ lw_all) (hst : (st.map fun v => v.category).sum ≤ 20)
    (k : zEF G (d + 1) K Y (pc + 3) lo (.long b.toInt64 :: st) g Q) : zEF G (d + 1) K Y pc lo (.double b :: st) g Q := by
  subst ho
  intro p l e R s m args below meth c T locs cells slots ls lk mr s1 C0
  have hrm := C0.rm
  have hmr : mr ≤ 1 := by rcases C0.hlk with ⟨-, -, h, -⟩ | ⟨_, _, _, -, -, -, -, h, -⟩ <;> omega
  have hwd : nativeFrameWords "java/lang/Double" "doubleToRawLongBits" 2 = 4 := (by decide)
  obtain ⟨vm', X', stp⟩ := vn_d2l0 C0.X C0.ex C0.own (C0.w hl) (C0.w hw) (C0.w hs) (C0.w hi) (b := b) (g := zF m pc ls (.double b :: st) lk mr) rfl (by rw [C0.ml]; exact C0.hlo.1) rfl (by rw [C0.hb]; exact hd) (by omega) (by show 2 * mr + _ + _ ≤ _; omega)
  obtain ⟨t, a1, b1⟩ := C0.toW0 k (T.setVm vm') rfl X'
  exact ⟨t, stp t a1, b1⟩
theorem ez_raw2d {idx : Nat} {own : String} {b : Int64} (hd : decode Y.code pc = .ok (.invokestatic idx, 3)) (ho : own = Y.nm.cls) (hl : Cond.methodLink own idx ⟨"java/lang/Double", "longBitsToDouble", "(J)D"⟩ ∈ lw_all) (hw : Cond.native ⟨"java/lang/Double", "longBitsToDouble", "(J)D"⟩ ∈ lw_all) (hs : Cond.static ⟨"java/lang/Double", "longBitsToDouble", "(J)D"⟩ ∈ lw_all) (hi : Cond.initialized "java/lang/Double" ∈ lw_all) (hst : (st.map fun v => v.category).sum ≤ 20) (hv : vn_snl2d b = false)
    (k : zEF G (d + 1) K Y (pc + 3) lo (.double b.toUInt64 :: st) g Q) : zEF G (d + 1) K Y pc lo (.long b :: st) g Q := by
  subst ho
  intro p l e R s m args below meth c T locs cells slots ls lk mr s1 C0
  have hrm := C0.rm
  have hmr : mr ≤ 1 := by rcases C0.hlk with ⟨-, -, h, -⟩ | ⟨_, _, _, -, -, -, -, h, -⟩ <;> omega
  have hwd : nativeFrameWords "java/lang/Double" "longBitsToDouble" 2 = 4 := (by decide)
  obtain ⟨vm', X', stp⟩ := vn_l2d0 C0.X C0.ex C0.own (C0.w hl) (C0.w hw) (C0.w hs) (C0.w hi) (b := b) (hv := hv) (g := zF m pc ls (.long b :: st) lk mr) rfl (by rw [C0.ml]; exact C0.hlo.1) rfl (by rw [C0.hb]; exact hd) (by omega) (by show 2 * mr + _ + _ ≤ _; omega)
  obtain ⟨t, a1, b1⟩ := C0.toW0 k (T.setVm vm') rfl X'
  exact ⟨t, stp t a1, b1⟩
end ZE

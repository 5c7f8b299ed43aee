/-! calls of synchronized methods -/
set_option maxRecDepth 100000
theorem lg_entry_sync (m : MethodId) (vs : List Value) (n : Nat) (b : Nat) : entryFrameSync m vs.toArray n b = zF m 0 ((lg_sl vs ++ List.replicate (n - (lg_sl vs).length) Slot.unset).toArray) [] (some b) 1 := by
  have e := lg_entry_eq m vs n
  have h : argsToLocals vs.toArray n = (lg_sl vs ++ List.replicate (n - (lg_sl vs).length) Slot.unset).toArray := congrArg JFrame.locals e
  simp only [entryFrameSync, zF, h]
section ZY0
variable {p : Program} {l : Launch} {e : Env} {R : Room} {s : State} {m : MethodId} {args : Array Value} {below : List Frame} {meth : Method} {c : Code} {U : State} {locs : List Loc} {cells slots : Nat}
/-- into a synchronized instance method -/
theorem zIntoY (X : Stand p l e R s m args below meth c U locs cells slots) {g : JFrame} (hg : g.method = m) (hsize : g.locals.size = c.maxLocals) {ig : Instr} {len : Nat} (hdg : decode c.code g.pc = .ok (ig, len)) {mk : MethodId} {methk : Method} {ck : Code} (a : Array Value) {R' : Room} (hmk : U.vm.method? mk = some methk) (hck : methk.code = some ck) (hpk : U.plainMethod mk)
    {b : Addr} {cell : Cell} (hcell : U.heap[b]? = some cell)
    (hframes : R'.frames + 1 ≤ R.frames) (hlocals : 2 * g.monitorRoom + (g.stack.map fun v => v.category).sum + (ck.maxLocals + 11) + R'.locals ≤ R.locals) (hcells : cells + R'.cells ≤ R.cells) (hslots : slots + R'.slots ≤ R.slots) :
    Stand p l e R' ((U.calling g mk a).setCell b (cell.withEntry U.cur)) mk a (.java g :: below) methk ck (((U.setCell b (cell.withEntry U.cur)).setTop g).pushFrame (.java (entryFrameSync mk a ck.maxLocals b))) [] 0 0 := by
  subst hg
  have htop := X.here.top
  have hfc : (U.calling g mk a).frames = .invoking mk a :: .java g :: below := by rw [State.frames_calling htop, X.tail]
  have htopB : (U.setCell b (cell.withEntry U.cur)).topJava?.isSome := htop
  have htailB : (U.setCell b (cell.withEntry U.cur)).frames.tail = below := X.tail
  have hfe : (((U.setCell b (cell.withEntry U.cur)).setTop g).pushFrame (.java (entryFrameSync mk a ck.maxLocals b))).frames = .java (entryFrameSync mk a ck.maxLocals b) :: .java g :: below := by rw [frames_entered htopB, htailB]
  obtain ⟨t, ht, -⟩ := State.frames_cons hfc
  have hcur : (U.calling g mk a).cur < (U.calling g mk a).threads.size := State.cur_lt_of_frames hfc
  obtain ⟨g₀, hg₀⟩ := X.frames_eq
  have hg₁ : (U.setCell b (cell.withEntry U.cur)).frames = .java g₀ :: below := hg₀
  have hst : ((U.setCell b (cell.withEntry U.cur)).setTop g).pushFrame (.java (entryFrameSync mk a ck.maxLocals b)) = ((U.calling g mk a).setCell b (cell.withEntry U.cur)).setFrames (.java (entryFrameSync mk a ck.maxLocals b) :: .java g :: below) := by
    rw [State.calling_eq htop, State.pushFrame, State.frames_setTop _ hg₁, State.setTop_of_frames _ hg₁, State.setFrames_setFrames, State.setCell_setFrames, State.setFrames_setFrames]
  have hcode : (U.calling g mk a).code? g.method = some c := by
    have := X.here.code
    rw [State.code?_eq] at this ⊢
    simpa [State.calling, State.pushFrame, State.setFrames] using this
  have hAt : At (((U.setCell b (cell.withEntry U.cur)).setTop g).pushFrame (.java (entryFrameSync mk a ck.maxLocals b))) mk ck (.java g :: below) := by
    have h := At.enter_sync (g := g) X.here a b (cell.withEntry U.cur) hmk hck hpk
    exact ⟨h.top, ⟨[], by rw [hfe]; rfl⟩, h.running, h.runnable, h.alone, h.code, h.plain⟩
  have hcellC : (U.calling g mk a).heap[b]? = some cell := hcell
  have hroom : ((U.calling g mk a).setCell b (cell.withEntry U.cur)).hasRoom e.platform R' = true := by
    rw [State.hasRoom_setCell (x := cell.withEntry U.cur) hcellC rfl]
    exact X.room_calling hsize hmk hck hframes hlocals hcells hslots
  have hhears : ((U.calling g mk a).setCell b (cell.withEntry U.cur)).hears mk (.java g :: below) = true := by
    have h : (U.calling g mk a).hears mk (.java g :: below) = true := by simp [State.hears, hcode, hdg, Except.toOption]
    exact h
  refine ⟨X.admits, X.cas, X.clock, hfc, hroom, hhears, hmk, hck, hAt, by rw [hfe]; rfl, State.WarmedH.refl ((U.calling g mk a).setCell b (cell.withEntry U.cur)), by rw [hst, State.stackLimits_setFrames], by rw [hst, State.stackBytes_setFrames], ?_⟩
  have h := (State.sameButNew.refl ((U.calling g mk a).setCell b (cell.withEntry U.cur)) (x := t) ht).setFrames (.java (entryFrameSync mk a ck.maxLocals b) :: .java g :: below) hcur
  rw [hst]
  exact h
end ZY0
/-- what a synchronized callee is held to -/
def zMokS (Y : zM) : Prop := Y.sy = true ∧ Y.hs = [] ∧ zCode Y ∈ lw_all ∧ plainName Y.nm.cls = true ∧ (Y.nm.cls ≠ "java/lang/invoke/MethodHandle" ∧ Y.nm.cls ≠ "java/lang/invoke/VarHandle")
section ZY
variable {G : zG} {d : Nat} {K : List Nat} {Y Y' : zM} {pc idx : Nat} {lo : List (Option Value)} {st rest vs : List Value} {g : zS} {Q : zO → zS → Prop} {own : String} {a : Nat}
theorem zCtx.callY {p : Program} {l : Launch} {e : Env} {R : Room} {s : State} {m : MethodId} {args : Array Value} {below : List Frame} {meth : Method} {c : Code} {T : State} {locs : List Loc} {cells slots : Nat} {ls : Array Slot} {lk : Option Addr} {mr : Nat} {s1 : State} (C : zCtx G (d + 1) K Y lo g p l e R s m args below meth c T locs cells slots ls lk mr s1) {mk : MethodId} {vm' : Vm} (X' : Stand p l e R s m args below meth c (T.setVm vm') locs cells slots) (hn : s.methodNamed? Y'.nm = some mk) {ig : Instr} (hd : decode Y.code pc = .ok (ig, 3))
    (hM : zMokS Y') (hin : Cond.instanceMethod Y'.nm ∈ lw_all) {x : Nat × List Value} (hx : g.h a = some (.inr x)) (haK : a ∉ K) (hvs : (zsl (.ref a :: vs)).length ≤ Y'.mL) (hrm : (rest.map fun v => v.category).sum + Y'.mL ≤ 25)
    (hk : zEM G d (a :: K) Y' (.ref a :: vs) g (zBack G (d + 1) K Y pc lo rest Q)) :
    ∃ t, Steps p.tables e below (doInvoke e ((T.setVm vm').setTop (zF m pc ls rest lk mr)) [] mk (.ref a :: vs).toArray).1 t ∧ zEnd G K Y Q R s1 below t := by
  obtain ⟨hsy, hhs, hw, hpl, hy⟩ := hM
  obtain ⟨methk, ck, h1, h2, h3, h4, h5, h6, h7, h8⟩ := zCode_spec hn (fun _ => hhs) (C.w hw)
  obtain ⟨mk2, methk2, hn2, hm2, hst2, -⟩ := Cond.instanceMethod_spec (C.w hin)
  cases hn.symm.trans hn2
  cases h1.symm.trans hm2
  have hrep0 : zRep G K g (T.setVm vm') := ⟨State.WarmedH.trans C.wm X'.warmed, C.hp⟩
  have hmk0 : (T.setVm vm').vm.method? mk = some methk := by rw [X'.warmed.alike.method?]; exact h1
  have hn0 : (T.setVm vm').methodNamed? Y'.nm = some mk := X'.named hn
  have hpk0 : (T.setVm vm').plainMethod mk := by
    refine State.plainMethod.of_name ?_
    intro k hk
    obtain ⟨k', hk', hnn⟩ := className_of_methodNamed hn0
    cases (show (T.setVm vm').vm.classes[mk.cls]? = some k from hk).symm.trans hk'
    rw [hnn]; exact hpl
  have hback := fun (t : State) (o : zO) (g' : zS) (L : List Loc) (k n : Nat) => C.back (Q := Q) (rest := rest) X' hd (mk := mk) (a := (Value.ref a :: vs).toArray) (t := t) (o := o) (g' := g') (L := L) (k := k) (n := n)
  generalize T.setVm vm' = U at X' hrep0 hmk0 hn0 hpk0 hback ⊢
  have hR := C.rm
  have hmr := C.mr1
  have hcn := C.cn
  have hdc : decode c.code (zF m pc ls rest lk mr).pc = .ok (ig, 3) := by rw [C.hb]; exact hd
  have hlk1 : methk.locks = true := h7.trans hsy
  obtain ⟨hbase, r, hr, cell, hcell, hcls, hvm, -⟩ := hrep0.2.2.2.2 a _ hx
  have hmon : cell.monitor = {} := hrep0.2.2.2.1 a cell hbase hcell haK
  have hlta : a < U.heap.size := (Array.getElem?_eq_some_iff.mp hcell).1
  have htop := X'.here.top
  have hsz : (zF m pc ls rest lk mr).locals.size = c.maxLocals := by rw [C.ml]; exact C.hlo.1
  have hfull := X'.notFull (g := zF m pc ls rest lk mr) hsz (vars := ck.maxLocals + 2) (by omega) (by show 2 * mr + (rest.map fun v => v.category).sum + (ck.maxLocals + 2 + 11) ≤ R.locals; rw [h4]; omega)
  have hin2 := doInvoke_enter_sync (e := e) (s := U) (g := zF m pc ls rest lk mr) htop (m := mk) (args := (Value.ref a :: vs).toArray) (a := a) (cell := cell) [] hmk0 h2 hlk1 hst2 (by simp) hcell (Or.inl (by rw [hmon])) hfull
  have Y0 := zIntoY X' (g := zF m pc ls rest lk mr) rfl hsz hdc (Value.ref a :: vs).toArray (R' := { frames := d, cells := g.rc, slots := g.rs, locals := 40 * d + 10300 }) hmk0 h2 hpk0 (b := a) hcell
    (by show d + 1 ≤ R.frames; omega) (by show 2 * mr + (rest.map fun v => v.category).sum + (ck.maxLocals + 11) + (40 * d + 10300) ≤ R.locals; rw [h4]; omega) (by show cells + g.rc ≤ R.cells; omega) (by show slots + g.rs ≤ R.slots; omega)
  have hrepE : zHp G (a :: K) g (U.heap.setIfInBounds a (cell.withEntry U.cur)) := hrep0.2.mon hbase hcell (by rfl) (Or.inl List.mem_cons_self) (fun q _ h hK => h (List.mem_cons_of_mem _ hK)) (fun y hy => by rw [hx] at hy; cases hy)
  have hold : zOld G ((U.calling (zF m pc ls rest lk mr) mk (Value.ref a :: vs).toArray).setCell a (cell.withEntry U.cur)) := ⟨hrep0.1, hrepE.1⟩
  have hnE : ((U.calling (zF m pc ls rest lk mr) mk (Value.ref a :: vs).toArray).setCell a (cell.withEntry U.cur)).methodNamed? Y'.nm = some mk := hn0
  have hlo := zentry_lo (.ref a :: vs) ck.maxLocals (by rw [h4]; exact hvs)
  rw [lg_entry_sync] at hin2 Y0
  generalize (lg_sl (.ref a :: vs) ++ List.replicate (ck.maxLocals - (lg_sl (.ref a :: vs)).length) Slot.unset).toArray = ls2 at hin2 Y0 hlo
  rw [h4] at hlo
  have hcellC : (U.calling (zF m pc ls rest lk mr) mk (Value.ref a :: vs).toArray).heap[a]? = some cell := hcell
  obtain ⟨t, a1, o, g', hQ, hrun, hout, hW, hrep, L, k, n, hsame, hcn', hL⟩ := hk p l e _ _ mk (Value.ref a :: vs).toArray (.java (zF m pc ls rest lk mr) :: below) methk ck _ [] 0 0 ls2 (some a) 1 (U.calling (zF m pc ls rest lk mr) mk (Value.ref a :: vs).toArray)
    ⟨C.ok, C.2.1, ⟨hold, hnE, h3, h4, h5, h6, h7⟩, ⟨rfl, Nat.le_refl _⟩, Or.inr ⟨a, cell, K, hsy, rfl, haK, rfl, rfl, hbase, hcellC, hmon, rfl⟩, Y0, ⟨hrep0.1, hrepE⟩, hlo, ⟨Nat.zero_add _, by show 0 + g.rs ≤ g.rs; omega⟩, fun q hq => by cases hq⟩
  rw [if_pos hsy] at hrep
  obtain ⟨t2, a2, b2⟩ := hback t o g' L k n hQ hout hW hrep hsame hcn' hL
  exact ⟨t2, by rw [hin2]; exact (zWeak a1).trans a2, b2⟩
/-- a synchronized method of a class above -/
theorem ez_callY {x : MethodName} {owner : String} {ci N : Nat} {C : String} {Tt : u_T} {fs : List Value} (hd : decode Y.code pc = .ok (.invokevirtual idx, 3)) (ho : own = Y.nm.cls) (hM : zMokS Y') (hl : Cond.methodLink own idx x ∈ lw_all) (hsame : Cond.sameMethod x.cls owner x.name x.desc ∈ lw_all) (howner : owner ≠ "java/lang/invoke/MethodHandle" ∧ owner ≠ "java/lang/invoke/VarHandle") (hdecl : Cond.declares ⟨owner, x.name, x.desc⟩ ∈ lw_tbl ∨ ∃ Z : zM, Z.nm = ⟨owner, x.name, x.desc⟩ ∧ (Z.sy = true → Z.hs = []) ∧ Cond.instanceMethod Z.nm ∈ lw_all ∧ zCode Z ∈ lw_all) (hin : Cond.instanceMethod Y'.nm ∈ lw_all) (hc : zcl[ci]? = some (C, Tt, N)) (hse : Cond.selects C x Y'.nm ∈ lw_all) (he : g.h a = some (.inr (ci, fs))) (haK : a ∉ K) (hn : (parseMethodDescriptor x.desc).map (fun d => d.parameters.length) = some vs.length) (hvs : (zsl (.ref a :: vs)).length ≤ Y'.mL) (hrm : (rest.map fun v => v.category).sum + Y'.mL ≤ 25) (hst : st = vs.reverse ++ .ref a :: rest)
    (hk : zEM G d (a :: K) Y' (.ref a :: vs) g (zBack G (d + 1) K Y pc lo rest Q)) : zEF G (d + 1) K Y pc lo st g Q := by
  subst ho
  intro p l e R s m args below meth c T locs cells slots ls lk mr s1 C0
  obtain ⟨vm₁, mk, hnamed, X₁, hstep⟩ := zUp C0 hd hl hsame howner hdecl hin hc hse he hn hst
  obtain ⟨t, a1, b1⟩ := C0.callY X₁ hnamed hd hM hin he haK hvs hrm hk
  exact ⟨t, hstep t (fun acts => by rw [doInvoke_state]; exact a1), b1⟩
end ZY

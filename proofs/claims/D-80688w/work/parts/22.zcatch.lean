/-! handlers: catch types resolved or not -/
set_option maxRecDepth 100000
section ZH0
variable {E : CtlPost} {e : Env} {d : Bool} {acts : List Action} {s : State} {f : JFrame} {a : Addr} {Q : Handler → Pre}
theorem zgo_cold {x : ExceptionTableEntry} {t : List ExceptionTableEntry} {c : ClassId} {cell : Cell} {vm' : Vm} (hx : covers x f.pc = true) (h0 : x.catchType ≠ 0)
    (hg : (Jvm.resolveClass f.method.cls x.catchType).Gives e.toSetting s.vm (.ok c) vm') (hsz : vm'.classes.size ≤ s.vm.classes.size) (hcell : s.heap[a]? = some cell) (hobj : ∀ k, cell.vm ≠ .statics k)
    (hk : ∃ k, vm'.classes[cell.cls]? = some k) (hc : ∃ k, vm'.classes[c]? = some k) :
    wp (findHandler.go f a (x :: t)) Q E e d acts s ↔
      if vm'.assignable cell.cls c = true then Q (.found x.handlerPc) d acts (s.setVm vm') else wp (findHandler.go f a t) Q E e d acts (s.setVm vm') := by
  simp only [covers] at hx
  obtain ⟨ha, ht⟩ := hg.op (op := VmOp.resolveClass f.method.cls x.catchType) rfl
  cases hfit : vm'.assignable cell.cls c <;>
    simp [findHandler.go, hx, h0, ha, ht, hsz, hcell, hobj, hk, hc, hfit, VmOp.dirties, VmOp.acts]
/-- what the search gives, and the tables that it leaves -/
def zFinds (e : Env) (s : State) (f : JFrame) (a : Addr) (h : Handler) (s' : State) : Prop :=
  ∀ (Q : Handler → Pre) (E : CtlPost) (d : Bool) (acts : List Action), wp (findHandler f a) Q E e d acts s ↔ Q h d acts s'
theorem zthrowing_catch {s' : State} {r : List Frame} {pc : Nat} (hfind : zFinds e s f a (.found pc) s') :
    (stepThrowing e s a (.java f :: r)).Is (s'.setFrames (.java { f with pc := pc, stack := [.ref a] } :: r)) [] := by
  simp only [stepThrowing, searchFrame, vmDo]
  generalize hr : Sem.go _ e false [] s = res
  obtain ⟨as, rfl, ha⟩ := Sem.eq_ok_of hr (a := Handler.found pc) (s' := s') (acts' := []) (by simp [hfind _ _ _ _])
  exact ⟨rfl, ha⟩
end ZH0
theorem zcaught {tb : Tables} {e : Env} {s target : State} {g : JFrame} {c : Code} {below : List Frame} {a : Addr} (h : At s g.method c below) {pc : Nat} {vm' : Vm} (hfind : zFinds e ((s.setTop g).pushFrame (.throwing a)) g a (.found pc) (((s.setTop g).pushFrame (.throwing a)).setVm vm'))
    (hrest : Steps tb e below ((s.setVm vm').setTop { g with pc := pc, stack := [.ref a] }) target) :
    Steps tb e below ((s.setTop g).pushFrame (.throwing a)) target := by
  obtain ⟨hgo, hw⟩ := h.throwing a
  refine Steps.head hgo hw ?_
  rw [stepThread_throwing (frames_entered h.top _), (zthrowing_catch (s := (s.setTop g).pushFrame (.throwing a)) hfind).1]
  obtain ⟨g₀, hg⟩ := Option.isSome_iff_exists.mp h.top
  obtain ⟨r, hr⟩ := State.topJava?_eq_some.mp hg
  have e1 : (((s.setTop g).pushFrame (.throwing a)).setVm vm').setFrames (.java { g with pc := pc, stack := [.ref a] } :: s.frames.tail) = (s.setVm vm').setTop { g with pc := pc, stack := [.ref a] } := by
    rw [State.pushFrame, State.setTop_of_frames _ hr, State.setFrames_setFrames, State.setTop_of_frames (s := s.setVm vm') _ hr, hr]
    exact State.setFrames_setFrames (s.setVm vm') _ _
  rw [e1]
  exact hrest
/-- the search through a table, for an object of class X thrown at pc: which handler it ends in -/
def zSrch (own X : String) (pc : Nat) (h : Nat) : List (Nat × Nat × Nat × Nat) → Prop
  | [] => False
  | x :: t => (covers ⟨x.1, x.2.1, x.2.2.1, x.2.2.2⟩ pc = false ∧ zSrch own X pc h t) ∨ (covers ⟨x.1, x.2.1, x.2.2.1, x.2.2.2⟩ pc = true ∧ x.2.2.2 ≠ 0 ∧ ∃ nm : String, Cond.classLink own x.2.2.2 nm ∈ lw_all ∧ ((Cond.not (.castable X nm) ∈ flatC (Jvm.Cond.and given_1 narrow_1) ∧ zSrch own X pc h t) ∨ (Cond.castable X nm ∈ lw_tbl ∧ h = x.2.2.1)))
theorem zsrch_go {G : zG} {d : Nat} {K : List Nat} {Y : zM} {lo : List (Option Value)} {g : zS} {p : Program} {l : Launch} {e : Env} {R : Room} {s : State} {m : MethodId} {args : Array Value} {below : List Frame} {meth : Method} {c : Code} {T : State} {locs : List Loc} {cells slots : Nat} {ls : Array Slot} {lk : Option Addr} {mr : Nat} {s1 : State}
    (C : zCtx G d K Y lo g p l e R s m args below meth c T locs cells slots ls lk mr s1) {X : String} {a : Nat} {cell : Cell} (hcell : T.heap[a]? = some cell) (hobj : ∀ k, cell.vm ≠ .statics k) (hX : s.vm.findClass X = some cell.cls) {f : JFrame} (hf : f.method = m) {h : Nat} :
    ∀ (t : List (Nat × Nat × Nat × Nat)) (vm : Vm), s.WarmedH vm → zSrch Y.nm.cls X f.pc h t → ∃ vm' : Vm, s.WarmedH vm' ∧ ∀ (Q : Handler → Pre) (E : CtlPost) (dd : Bool) (acts : List Action), wp (findHandler.go f a (tableOf t)) Q E e dd acts (((T.setTop f).pushFrame (.throwing a)).setVm vm) ↔ Q (.found h) dd acts (((T.setTop f).pushFrame (.throwing a)).setVm vm') := by
  intro t
  induction t with
  | nil => intro vm hW hs; exact hs.elim
  | cons x t ih =>
    intro vm hW hs
    rcases hs with ⟨hc, hs⟩ | ⟨hc, h0, nm, hl, hs⟩
    · obtain ⟨vm', hW', hq⟩ := ih vm hW hs
      refine ⟨vm', hW', fun Q E dd acts => ?_⟩
      rw [show tableOf (x :: t) = ⟨x.1, x.2.1, x.2.2.1, x.2.2.2⟩ :: tableOf t from rfl, W.findHandler_go_skip hc]
      exact hq Q E dd acts
    · have hpl : e.platform.magicAccessors = ({} : Platform).magicAccessors := by rw [C.X.admits.platform]
      obtain ⟨c', hc', hcl⟩ := Cond.classLink_spec C.own (C.w hl) e.platform hpl
      obtain ⟨dk, _, _, kt, hd, _, _, _, _, hkt, _, hopen⟩ := hcl.here
      have hcl₀ := hW.classLinks hcl
      have hW' : s.WarmedH (vm.noted m.cls x.2.2.2 (.cls c')) := hW.noted hd hopen (State.rightAt_cls hcl)
      obtain ⟨ks, hks, -⟩ := Vm.findClass_spec hX
      obtain ⟨ks', hks', -⟩ := hW'.alike.2.2 _ _ hks
      obtain ⟨kt', hkt', -⟩ := hW'.alike.2.2 _ _ hkt
      have key : ∀ (Q : Handler → Pre) (E : CtlPost) (dd : Bool) (acts : List Action), wp (findHandler.go f a (tableOf (x :: t))) Q E e dd acts (((T.setTop f).pushFrame (.throwing a)).setVm vm) ↔
          if (vm.noted m.cls x.2.2.2 (.cls c')).assignable cell.cls c' = true then Q (.found x.2.2.1) dd acts (((T.setTop f).pushFrame (.throwing a)).setVm (vm.noted m.cls x.2.2.2 (.cls c'))) else wp (findHandler.go f a (tableOf t)) Q E e dd acts (((T.setTop f).pushFrame (.throwing a)).setVm (vm.noted m.cls x.2.2.2 (.cls c'))) := by
        intro Q E dd acts
        subst hf
        exact zgo_cold (s := ((T.setTop f).pushFrame (.throwing a)).setVm vm) (x := ⟨x.1, x.2.1, x.2.2.1, x.2.2.2⟩) hc h0 (resolveClass_links e.toSetting hcl₀) (by simp) (by show ((T.setTop f).pushFrame (.throwing a)).heap[a]? = _; rw [Stand.throwing_heap]; exact hcell) hobj ⟨ks', hks'⟩ ⟨kt', hkt'⟩
      rcases hs with ⟨hno, hs⟩ | ⟨hyes, hh⟩
      · obtain ⟨c0, t0, f1, f2, f3⟩ := C.nc hno
        cases hX.symm.trans f1
        cases hc'.symm.trans f2
        obtain ⟨vm', hW2, hq⟩ := ih _ hW' hs
        refine ⟨vm', hW2, fun Q E dd acts => ?_⟩
        rw [key Q E dd acts, if_neg (by rw [hW'.alike.assignable, f3]; decide)]
        exact hq Q E dd acts
      · obtain ⟨c0, t0, f1, f2, f3⟩ := Cond.castable_spec (va_Nw.use (A := args) rfl (va_Nw.warmC C.wm (va_Nw.of rfl (C.ok.1 _ hyes))))
        cases hX.symm.trans f1
        cases hc'.symm.trans f2
        refine ⟨_, hW', fun Q E dd acts => ?_⟩
        rw [key Q E dd acts, if_pos (by rw [hW'.alike.assignable]; exact f3), hh]
/-- the object is caught in the same method -/
theorem zTH_catch {G : zG} {d : Nat} {K : List Nat} {Y : zM} {pc : Nat} {lo : List (Option Value)} {g : zS} {Q : zO → zS → Prop} {X : String} {a h : Nat} (hs : zSrch Y.nm.cls X pc h Y.hs) (k : zEF G d K Y h lo [.ref a] g Q) : zTH G d K Y pc lo X a g Q := by
  intro p l e R s m args below meth c T locs cells slots ls lk mr s1 st C ha ⟨cellA, hcell, hX⟩
  have hvm : cellA.vm = .none := C.hp.1.2.2 a cellA ha hcell
  have hX' : s.vm.findClass X = some cellA.cls := by rw [C.wm.alike.findClass]; exact hX
  obtain ⟨vm', hW', hq⟩ := zsrch_go C hcell (fun k h => by rw [hvm] at h; cases h) hX' (f := zF m pc ls st lk mr) rfl Y.hs T.vm C.X.warmed hs
  have hX1 := C.X.noted hW'
  obtain ⟨t, a1, b1⟩ := k p l e R s m args below meth c (T.setVm vm') locs cells slots ls lk mr s1 ⟨C.ok, C.2.1, C.fr, C.rm, C.hlk, hX1, ⟨State.WarmedH.trans C.wm hX1.warmed, C.hp⟩, C.hlo, C.cn, C.lc⟩
  refine ⟨t, zcaught (g := zF m pc ls st lk mr) (c := c) C.X.here (pc := h) (vm' := vm') ?_ a1, b1⟩
  intro Q E dd acts
  have e1 : ((T.setTop (zF m pc ls st lk mr)).pushFrame (.throwing a)).setVm T.vm = (T.setTop (zF m pc ls st lk mr)).pushFrame (.throwing a) := by
    have := Stand.throwing_vm T (zF m pc ls st lk mr) a
    rw [← this]; rfl
  have hm : ((T.setTop (zF m pc ls st lk mr)).pushFrame (.throwing a)).vm.method? m = some meth := by
    rw [Stand.throwing_vm]
    exact (C.X.warmed.alike.method? m).trans C.X.method
  rw [W.findHandler_eq (meth := meth) (code := c) hm C.X.code, C.fr.2.2.2.2.1]
  have h2 := hq Q E dd acts
  rw [e1] at h2
  exact h2

/-! THE FRAME JUDGEMENT zEF: machine context quantified inside; abstract heap, locals and stack outside. -/
set_option maxRecDepth 100000
/-- what is fixed for a run: the law's start, the classes' numbers and slots, the array classes' numbers, the script's cell, length, ints -/
abbrev zG : Type := State × va_G × (Nat → ClassId) × Nat × Nat × (Nat → Int32)
abbrev zG.s0 (G : zG) : State := G.1
abbrev zG.D (G : zG) : va_G := G.2.1
abbrev zG.dA (G : zG) : Nat → ClassId := G.2.2.1
abbrev zG.b (G : zG) : Nat := G.2.2.2.1
abbrev zG.L (G : zG) : Nat := G.2.2.2.2.1
abbrev zG.xs (G : zG) : Nat → Int32 := G.2.2.2.2.2
/-- a method: name, code, places of locals, answer, handlers, whether it locks -/
abbrev zM : Type := MethodName × ByteArray × Nat × Option FieldType × List (Nat × Nat × Nat × Nat) × Bool
abbrev zM.nm (Y : zM) : MethodName := Y.1
abbrev zM.code (Y : zM) : ByteArray := Y.2.1
abbrev zM.mL (Y : zM) : Nat := Y.2.2.1
abbrev zM.ret (Y : zM) : Option FieldType := Y.2.2.2.1
abbrev zM.hs (Y : zM) : List (Nat × Nat × Nat × Nat) := Y.2.2.2.2.1
abbrev zM.sy (Y : zM) : Bool := Y.2.2.2.2.2
/-- a cell's picture: an array (number of its type, length and contents) or an object (number of its class, fields) -/
abbrev zE : Type := (Nat × vp_A) ⊕ (Nat × List Value)
/-- the abstract heap; the heap's size; room left for cells, for slots -/
abbrev zS : Type := (Nat → Option zE) × Nat × Nat × Nat
abbrev zS.h (g : zS) : Nat → Option zE := g.1
abbrev zS.sz (g : zS) : Nat := g.2.1
abbrev zS.rc (g : zS) : Nat := g.2.2.1
abbrev zS.rs (g : zS) : Nat := g.2.2.2
abbrev zO : Type := Option Value ⊕ (String × Nat)
def zcl : List vw_C := [(RX0, TX0, 20), (RX1, TX1, 14), (RX2, TX2, 53), (RX3, TX3, 3), (RX5, TX5, 4), (RX6, TX6, 4), (RX7, TX7, 4), (RX8, TX8, 4), (RX9, TX9, 6), (RX10, TX10, 6), (RX11, TX11, 4), (RX12, TX12, 5)]
def zty (t : Nat) : FieldType := match t with
  | 0 => .int
  | 1 => .float
  | 2 => .byte
  | 3 => .short
  | 4 => .double
  | 5 => .long
  | 6 => .boolean
  | 7 => .object "ScoreThreads$Clip"
  | 8 => .object "ScoreThreads$Plug"
  | 9 => .object "ScoreThreads$Track"
  | _ => .object "ScoreThreads$Gain"
def ztys (G : zG) : List (ClassId × FieldType) := (List.range 11).map fun t => (G.dA t, zty t)
def zOK (G : zG) : Prop := (∀ w ∈ lw_tbl, w.before #[Value.ref G.b] G.s0 = true) ∧ (Jvm.Cond.and given_1 narrow_1).before #[Value.ref G.b] G.s0 = true ∧ modulesRight_1 G.s0 = true ∧ va_K G.D zcl (ztys G) G.s0 ∧ va_X G.b G.L G.xs G.s0 G.s0.heap ∧ G.b < G.s0.heap.size
/-- what was there at the law's start stands as it stood; what is new is plain -/
def zOldH (G : zG) (H : Heap) : Prop := G.s0.heap.size ≤ H.size ∧ (∀ q : Nat, q < G.s0.heap.size → H[q]? = G.s0.heap[q]?) ∧ ∀ (q : Nat) (cell : Cell), G.s0.heap.size ≤ q → H[q]? = some cell → cell.vm = .none
def zOld (G : zG) (U : State) : Prop := G.s0.WarmedH U.vm ∧ zOldH G U.heap
def zat (G : zG) (a : Nat) (x : zE) (H : Heap) : Prop := match x with
  | .inl y => H[a]? = some (vp_cell (G.dA y.1) y.2)
  | .inr o => ∃ r : vw_C, zcl[o.1]? = some r ∧ t_OB a (G.D.1 o.1) r.2.2 (G.D.2 o.1) H (vp_V o.2)
/-- the heap H holds the picture g; nobody holds a new cell's monitor but those of K -/
def zHp (G : zG) (K : List Nat) (g : zS) (H : Heap) : Prop := zOldH G H ∧ H.size = g.sz ∧ (∀ (q : Nat) (cell : Cell), G.s0.heap.size ≤ q → H[q]? = some cell → q ∉ K → cell.monitor = {}) ∧ ∀ (a : Nat) (x : zE), g.h a = some x → G.s0.heap.size ≤ a ∧ zat G a x H
def zRep (G : zG) (K : List Nat) (g : zS) (T : State) : Prop := G.s0.WarmedH T.vm ∧ zHp G K g T.heap
/-- locals: place by place; none: nothing is known of it -/
def zLo (ls : Array Slot) (n : Nat) (lo : List (Option Value)) : Prop := ls.size = n ∧ lv_wf ls ∧ ∀ (i : Nat) (v : Value), lo[i]? = some (some v) → ls[i]? = some (.val v)
def zFr (G : zG) (Y : zM) (s : State) (m : MethodId) (meth : Method) (c : Code) : Prop := zOld G s ∧ s.methodNamed? Y.nm = some m ∧ c.code = Y.code ∧ c.maxLocals = Y.mL ∧ c.exceptionTable.toList = tableOf Y.hs ∧ meth.sig.returnType = Y.ret ∧ meth.locks = Y.sy
/-- s1: the invocation's true start; s: the start with the monitor entered, where the method locks -/
def zLk (G : zG) (K : List Nat) (Y : zM) (lk : Option Addr) (mr : Nat) (s1 s : State) : Prop := (Y.sy = false ∧ lk = none ∧ mr = 0 ∧ s1 = s) ∨ ∃ (a : Nat) (cell : Cell) (K0 : List Nat), Y.sy = true ∧ K = a :: K0 ∧ a ∉ K0 ∧ lk = some a ∧ mr = 1 ∧ G.s0.heap.size ≤ a ∧ s1.heap[a]? = some cell ∧ cell.monitor = {} ∧ s = s1.setCell a (cell.withEntry s1.cur)
abbrev zF (m : MethodId) (pc : Nat) (ls : Array Slot) (st : List Value) (lk : Option Addr) (mr : Nat) : JFrame := { method := m, pc := pc, locals := ls, stack := st, locked := lk, monitorRoom := mr }
def zCtx (G : zG) (d : Nat) (K : List Nat) (Y : zM) (lo : List (Option Value)) (g : zS) (p : Program) (l : Launch) (e : Env) (R : Room) (s : State) (m : MethodId) (args : Array Value) (below : List Frame) (meth : Method) (c : Code) (T : State) (locs : List Loc) (cells slots : Nat) (ls : Array Slot) (lk : Option Addr) (mr : Nat) (s1 : State) : Prop :=
  zOK G ∧ (p.tables.exec = Jvm.exec ∧ e.platform.stackTraces = false) ∧ zFr G Y s m meth c ∧ (R.frames = d ∧ 40 * d + 10300 ≤ R.locals) ∧ zLk G K Y lk mr s1 s ∧ Stand p l e R s m args below meth c T locs cells slots ∧ zRep G K g T ∧ zLo ls Y.mL lo ∧ (cells + g.rc = R.cells ∧ slots + g.rs ≤ R.slots) ∧ ∀ q ∈ locs, G.s0.heap.size ≤ q.base
/-- an outcome as the machine has it; a thrown object is there, of the class that is said -/
def zOut (G : zG) (o : zO) (t : State) (below : List Frame) : Prop := match o with
  | .inl v => Ended t below (.returned v)
  | .inr x => Ended t below (.threw x.2) ∧ G.s0.heap.size ≤ x.2 ∧ ∃ cell : Cell, t.heap[x.2]? = some cell ∧ G.s0.vm.findClass x.1 = some cell.cls
def zEnd (G : zG) (K : List Nat) (Y : zM) (Q : zO → zS → Prop) (R : Room) (s1 : State) (below : List Frame) (t : State) : Prop :=
  ∃ (o : zO) (g : zS), Q o g ∧ t.status = .running ∧ zOut G o t below ∧ s1.WarmedH t.vm ∧ zRep G (if Y.sy = true then K.tail else K) g t ∧ ∃ (L : List Loc) (k n : Nat), s1.sameButNew ({ t with vm := s1.vm } : State) L k n ∧ (k + g.rc = R.cells ∧ n + g.rs ≤ R.slots) ∧ ∀ q ∈ L, G.s0.heap.size ≤ q.base
/-- from this frame the method comes to an end, with Q -/
def zEF (G : zG) (d : Nat) (K : List Nat) (Y : zM) (pc : Nat) (lo : List (Option Value)) (st : List Value) (g : zS) (Q : zO → zS → Prop) : Prop :=
  ∀ (p : Program) (l : Launch) (e : Env) (R : Room) (s : State) (m : MethodId) (args : Array Value) (below : List Frame) (meth : Method) (c : Code) (T : State) (locs : List Loc) (cells slots : Nat) (ls : Array Slot) (lk : Option Addr) (mr : Nat) (s1 : State),
    zCtx G d K Y lo g p l e R s m args below meth c T locs cells slots ls lk mr s1 → ∃ t, Steps p.tables e below (T.setTop (zF m pc ls st lk mr)) t ∧ zEnd G K Y Q R s1 below t
/-- the same, where the object a of class X is being thrown at pc -/
def zTH (G : zG) (d : Nat) (K : List Nat) (Y : zM) (pc : Nat) (lo : List (Option Value)) (X : String) (a : Nat) (g : zS) (Q : zO → zS → Prop) : Prop :=
  ∀ (p : Program) (l : Launch) (e : Env) (R : Room) (s : State) (m : MethodId) (args : Array Value) (below : List Frame) (meth : Method) (c : Code) (T : State) (locs : List Loc) (cells slots : Nat) (ls : Array Slot) (lk : Option Addr) (mr : Nat) (s1 : State) (st : List Value),
    zCtx G d K Y lo g p l e R s m args below meth c T locs cells slots ls lk mr s1 → G.s0.heap.size ≤ a → (∃ cell : Cell, T.heap[a]? = some cell ∧ G.s0.vm.findClass X = some cell.cls) → ∃ t, Steps p.tables e below ((T.setTop (zF m pc ls st lk mr)).pushFrame (.throwing a)) t ∧ zEnd G K Y Q R s1 below t
/-- locals at a method's entry -/
def zsl : List Value → List (Option Value)
  | [] => []
  | v :: vs => if v.category = 2 then some v :: none :: zsl vs else some v :: zsl vs
def zentry (vs : List Value) (n : Nat) : List (Option Value) := zsl vs ++ List.replicate (n - (zsl vs).length) none
def zEM (G : zG) (d : Nat) (K : List Nat) (Y : zM) (vs : List Value) (g : zS) (Q : zO → zS → Prop) : Prop := zEF G d K Y 0 (zentry vs Y.mL) [] g Q
section ZC
variable {G : zG} {d : Nat} {K : List Nat} {Y : zM} {lo : List (Option Value)} {g : zS} {p : Program} {l : Launch} {e : Env} {R : Room} {s : State} {m : MethodId} {args : Array Value} {below : List Frame} {meth : Method} {c : Code} {T : State} {locs : List Loc} {cells slots : Nat} {ls : Array Slot} {lk : Option Addr} {mr : Nat} {s1 : State}
theorem zCtx.ok (C : zCtx G d K Y lo g p l e R s m args below meth c T locs cells slots ls lk mr s1) : zOK G := C.1
theorem zCtx.ex (C : zCtx G d K Y lo g p l e R s m args below meth c T locs cells slots ls lk mr s1) : p.tables.exec = Jvm.exec := C.2.1.1
theorem zCtx.tr (C : zCtx G d K Y lo g p l e R s m args below meth c T locs cells slots ls lk mr s1) : e.platform.stackTraces = false := C.2.1.2
theorem zCtx.fr (C : zCtx G d K Y lo g p l e R s m args below meth c T locs cells slots ls lk mr s1) : zFr G Y s m meth c := C.2.2.1
theorem zCtx.hb (C : zCtx G d K Y lo g p l e R s m args below meth c T locs cells slots ls lk mr s1) : c.code = Y.code := C.2.2.1.2.2.1
theorem zCtx.ml (C : zCtx G d K Y lo g p l e R s m args below meth c T locs cells slots ls lk mr s1) : c.maxLocals = Y.mL := C.2.2.1.2.2.2.1
theorem zCtx.rm (C : zCtx G d K Y lo g p l e R s m args below meth c T locs cells slots ls lk mr s1) : R.frames = d ∧ 40 * d + 10300 ≤ R.locals := C.2.2.2.1
theorem zCtx.hlk (C : zCtx G d K Y lo g p l e R s m args below meth c T locs cells slots ls lk mr s1) : zLk G K Y lk mr s1 s := C.2.2.2.2.1
theorem zCtx.X (C : zCtx G d K Y lo g p l e R s m args below meth c T locs cells slots ls lk mr s1) : Stand p l e R s m args below meth c T locs cells slots := C.2.2.2.2.2.1
theorem zCtx.rep (C : zCtx G d K Y lo g p l e R s m args below meth c T locs cells slots ls lk mr s1) : zRep G K g T := C.2.2.2.2.2.2.1
theorem zCtx.hlo (C : zCtx G d K Y lo g p l e R s m args below meth c T locs cells slots ls lk mr s1) : zLo ls Y.mL lo := C.2.2.2.2.2.2.2.1
theorem zCtx.cn (C : zCtx G d K Y lo g p l e R s m args below meth c T locs cells slots ls lk mr s1) : cells + g.rc = R.cells ∧ slots + g.rs ≤ R.slots := C.2.2.2.2.2.2.2.2.1
theorem zCtx.lc (C : zCtx G d K Y lo g p l e R s m args below meth c T locs cells slots ls lk mr s1) : ∀ q ∈ locs, G.s0.heap.size ≤ q.base := C.2.2.2.2.2.2.2.2.2
theorem zCtx.own (C : zCtx G d K Y lo g p l e R s m args below meth c T locs cells slots ls lk mr s1) : s.vm.findClass Y.nm.cls = some m.cls := findClass_of_methodNamed C.fr.2.1
theorem zCtx.wm (C : zCtx G d K Y lo g p l e R s m args below meth c T locs cells slots ls lk mr s1) : G.s0.WarmedH s.vm := C.fr.1.1
/-- a word of the tables, at the method's start -/
theorem zw {w : Cond} (hG : zOK G) (hW : G.s0.WarmedH s.vm) (h : w ∈ lw_all) (as : Array Value) : w.before as s = true := word_at hW (lw_self w h).2 (hG.1 w (lw_all_tbl h))
theorem zCtx.w (C : zCtx G d K Y lo g p l e R s m args below meth c T locs cells slots ls lk mr s1) {w : Cond} (h : w ∈ lw_all) : w.before args s = true := zw C.ok C.wm h args
theorem zCtx.hK (C : zCtx G d K Y lo g p l e R s m args below meth c T locs cells slots ls lk mr s1) : va_K G.D zcl (ztys G) s := va_K.moved C.wm.alike C.ok.2.2.2.1
/-- other locals, the rest as it is -/
theorem zCtx.setLo (C : zCtx G d K Y lo g p l e R s m args below meth c T locs cells slots ls lk mr s1) {ls' : Array Slot} {lo' : List (Option Value)} (h : zLo ls' Y.mL lo') : zCtx G d K Y lo' g p l e R s m args below meth c T locs cells slots ls' lk mr s1 :=
  ⟨C.ok, C.2.1, C.fr, C.rm, C.hlk, C.X, C.rep, h, C.cn, C.lc⟩
end ZC
theorem zEF.mono {G : zG} {d : Nat} {K : List Nat} {Y : zM} {pc : Nat} {lo : List (Option Value)} {st : List Value} {g : zS} {Q Q' : zO → zS → Prop} (h : zEF G d K Y pc lo st g Q) (hQ : ∀ o g', Q o g' → Q' o g') : zEF G d K Y pc lo st g Q' := by
  intro p l e R s m args below meth c T locs cells slots ls lk mr s1 C
  obtain ⟨t, a, o, g', h1, h2⟩ := h p l e R s m args below meth c T locs cells slots ls lk mr s1 C
  exact ⟨t, a, o, g', hQ o g' h1, h2⟩
theorem zEM.mono {G : zG} {d : Nat} {K : List Nat} {Y : zM} {vs : List Value} {g : zS} {Q Q' : zO → zS → Prop} (h : zEM G d K Y vs g Q) (hQ : ∀ o g', Q o g' → Q' o g') : zEM G d K Y vs g Q' := zEF.mono h hQ
theorem zEF.eq {G : zG} {d : Nat} {K : List Nat} {Y : zM} {pc pc' : Nat} {lo lo' : List (Option Value)} {st st' : List Value} {g : zS} {Q : zO → zS → Prop} (h : zEF G d K Y pc' lo' st' g Q) (h1 : pc = pc') (h2 : lo = lo') (h3 : st = st') : zEF G d K Y pc lo st g Q := by
  subst h1; subst h2; subst h3; exact h

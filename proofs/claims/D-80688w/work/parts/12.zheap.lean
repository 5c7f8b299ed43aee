/-! rules of the instructions that look at the heap -/
set_option maxRecDepth 100000
/-- a cell gets another picture -/
abbrev zput (g : zS) (a : Nat) (x : zE) : zS := (va_up g.1 a (some x), g.2)
/-- a new cell, of n slots -/
abbrev znew (g : zS) (x : zE) (n : Nat) : zS := (va_up g.1 g.sz (some x), g.sz + 1, g.rc - 1, g.rs - n)
theorem zat.kept {G : zG} {a : Nat} {x : zE} {H H1 : Heap} (h : zat G a x H) (hq : H1[a]? = H[a]?) : zat G a x H1 := by
  cases x with
  | inl y => exact hq.trans h
  | inr o =>
    obtain ⟨r, h1, h2⟩ := h
    exact ⟨r, h1, h2.kept hq⟩
theorem zat.lt {G : zG} {a : Nat} {x : zE} {H : Heap} (h : zat G a x H) : a < H.size := by
  cases x with
  | inl y => exact (Array.getElem?_eq_some_iff.mp h).1
  | inr o =>
    obtain ⟨r, h1, cell, h2, -⟩ := h
    exact (Array.getElem?_eq_some_iff.mp h2).1
theorem zHp.lt {G : zG} {K : List Nat} {g : zS} {H : Heap} (h : zHp G K g H) {a : Nat} {x : zE} (hx : g.h a = some x) : a < g.sz := by
  rw [← h.2.1]
  exact (h.2.2.2 a x hx).2.lt
theorem zHp.write {G : zG} {K : List Nat} {g : zS} {H H' : Heap} (h : zHp G K g H) {a : Nat} {x x' : zE} (hx : g.h a = some x) {cell cell' : Cell} (hc : H[a]? = some cell) (hc' : H'[a]? = some cell') (hvm : cell'.vm = cell.vm) (hmon : cell'.monitor = cell.monitor) (hz : H'.size = H.size) (ho : ∀ q : Nat, q ≠ a → H'[q]? = H[q]?) (hat : zat G a x' H') : zHp G K (zput g a x') H' := by
  obtain ⟨⟨o1, o2, o3⟩, h2, h3, h4⟩ := h
  have ha := (h4 a x hx).1
  refine ⟨⟨by rw [hz]; exact o1, fun q hq => ?_, fun q c1 hq hc1 => ?_⟩, by rw [hz]; exact h2, fun q c1 hq hc1 hK => ?_, fun q y hy => ?_⟩
  · rw [ho q (by omega)]; exact o2 q hq
  · by_cases e : q = a
    · subst e
      rw [hc'] at hc1; cases hc1
      rw [hvm]; exact o3 q cell hq hc
    · rw [ho q e] at hc1; exact o3 q c1 hq hc1
  · by_cases e : q = a
    · subst e
      rw [hc'] at hc1; cases hc1
      rw [hmon]; exact h3 q cell hq hc hK
    · rw [ho q e] at hc1; exact h3 q c1 hq hc1 hK
  · by_cases e : q = a
    · subst e
      have e2 : some x' = some y := by rw [← hy]; exact (va_up_self _ _ _).symm
      cases e2
      exact ⟨ha, hat⟩
    · have e2 : g.h q = some y := by rw [← hy]; exact (va_up_ne _ _ e).symm
      exact ⟨(h4 q y e2).1, (h4 q y e2).2.kept (ho q e)⟩
theorem zHp.push {G : zG} {K : List Nat} {g : zS} {H H' : Heap} (h : zHp G K g H) {x : zE} {cell : Cell} (hc : H'[H.size]? = some cell) (hvm : cell.vm = .none) (hmon : cell.monitor = {}) (hz : H'.size = H.size + 1) (ho : ∀ q : Nat, q < H.size → H'[q]? = H[q]?) (hat : zat G H.size x H') (n : Nat) : zHp G K (znew g x n) H' := by
  obtain ⟨⟨o1, o2, o3⟩, h2, h3, h4⟩ := h
  refine ⟨⟨by omega, fun q hq => ?_, fun q c1 hq hc1 => ?_⟩, by show H'.size = g.sz + 1; omega, fun q c1 hq hc1 hK => ?_, fun q y hy => ?_⟩
  · rw [ho q (by omega)]; exact o2 q hq
  · by_cases e : q < H.size
    · rw [ho q e] at hc1; exact o3 q c1 hq hc1
    · have e2 : q = H.size := by have := (Array.getElem?_eq_some_iff.mp hc1).1; omega
      subst e2
      rw [hc] at hc1; cases hc1; exact hvm
  · by_cases e : q < H.size
    · rw [ho q e] at hc1; exact h3 q c1 hq hc1 hK
    · have e2 : q = H.size := by have := (Array.getElem?_eq_some_iff.mp hc1).1; omega
      subst e2
      rw [hc] at hc1; cases hc1; exact hmon
  · by_cases e : q = H.size
    · subst e
      have e2 : some x = some y := by rw [← hy, h2]; exact (va_up_self _ _ _).symm
      cases e2
      exact ⟨o1, hat⟩
    · have e2 : g.h q = some y := by rw [← hy]; exact (va_up_ne _ _ (fun z => e (z.trans h2.symm))).symm
      exact ⟨(h4 q y e2).1, (h4 q y e2).2.kept (ho q (h4 q y e2).2.lt)⟩
section ZH
variable {G : zG} {d : Nat} {K : List Nat} {Y : zM} {lo : List (Option Value)} {g : zS} {p : Program} {l : Launch} {e : Env} {R : Room} {s : State} {m : MethodId} {args : Array Value} {below : List Frame} {meth : Method} {c : Code} {T : State} {locs : List Loc} {cells slots : Nat} {ls : Array Slot} {lk : Option Addr} {mr : Nat} {s1 : State} {Q : zO → zS → Prop}
theorem zCtx.hp (C : zCtx G d K Y lo g p l e R s m args below meth c T locs cells slots ls lk mr s1) : zHp G K g T.heap := C.rep.2
/-- the goal at another heap, as the kit's rows ask it -/
theorem zCtx.toW (C : zCtx G d K Y lo g p l e R s m args below meth c T locs cells slots ls lk mr s1) {H' : Heap} {locs' : List Loc} {cells' slots' : Nat} {g' : zS} {pc' : Nat} {st' : List Value} (k : zEF G d K Y pc' lo st' g' Q) (hH : zHp G K g' H') (hcn : cells' + g'.rc = R.cells ∧ slots' + g'.rs ≤ R.slots) (hlc : ∀ q ∈ locs', G.s0.heap.size ≤ q.base) :
    W p l e R s m args below meth c H' locs' cells' slots' (zEnd G K Y Q R s1 below) (zF m pc' ls st' lk mr) := by
  intro T' hT' X'
  exact k p l e R s m args below meth c T' locs' cells' slots' ls lk mr s1 ⟨C.ok, C.2.1, C.fr, C.rm, C.hlk, X', ⟨State.WarmedH.trans C.wm X'.warmed, by rw [hT']; exact hH⟩, C.hlo, hcn, hlc⟩
/-- the heap as it is: only the tables may be warmer -/
theorem zCtx.toW0 (C : zCtx G d K Y lo g p l e R s m args below meth c T locs cells slots ls lk mr s1) {pc' : Nat} {st' : List Value} (k : zEF G d K Y pc' lo st' g Q) :
    W p l e R s m args below meth c T.heap locs cells slots (zEnd G K Y Q R s1 below) (zF m pc' ls st' lk mr) := C.toW k C.hp C.cn C.lc
end ZH
/-- what the tables say of a class -/
theorem zcls {ci : Nat} {C : String} {Tt : u_T} {N : Nat} (h : zcl[ci]? = some (C, Tt, N)) : (∀ w ∈ u_ws C Tt N, w ∈ lw_all) ∧ (∃ ty : Nat → FieldType, ∀ k, k < N → parseFieldDescriptor (Tt k).2.2.1 = some (ty k)) ∧ (∀ a, a < N → ∀ b, b < N → a ≠ b → (Tt a).2.1 ≠ (Tt b).2.1) := by
  match ci, h with
  | 0, h => cases h; exact ⟨in_X0, ⟨tyX0, tyX0_ok⟩, nmX0⟩
  | 1, h => cases h; exact ⟨in_X1, ⟨tyX1, tyX1_ok⟩, nmX1⟩
  | 2, h => cases h; exact ⟨in_X2, ⟨tyX2, tyX2_ok⟩, nmX2⟩
  | 3, h => cases h; exact ⟨in_X3, ⟨tyX3, tyX3_ok⟩, nmX3⟩
  | 4, h => cases h; exact ⟨in_X5, ⟨tyX5, tyX5_ok⟩, nmX5⟩
  | 5, h => cases h; exact ⟨in_X6, ⟨tyX6, tyX6_ok⟩, nmX6⟩
  | 6, h => cases h; exact ⟨in_X7, ⟨tyX7, tyX7_ok⟩, nmX7⟩
  | 7, h => cases h; exact ⟨in_X8, ⟨tyX8, tyX8_ok⟩, nmX8⟩
  | 8, h => cases h; exact ⟨in_X9, ⟨tyX9, tyX9_ok⟩, nmX9⟩
  | 9, h => cases h; exact ⟨in_X10, ⟨tyX10, tyX10_ok⟩, nmX10⟩
  | 10, h => cases h; exact ⟨in_X11, ⟨tyX11, tyX11_ok⟩, nmX11⟩
  | 11, h => cases h; exact ⟨in_X12, ⟨tyX12, tyX12_ok⟩, nmX12⟩
  | k + 12, h => simp [zcl] at h
section ZR
variable {G : zG} {d : Nat} {K : List Nat} {Y : zM} {pc : Nat} {lo : List (Option Value)} {st : List Value} {g : zS} {Q : zO → zS → Prop} {a : Nat}
theorem ez_get {ci idx N : Nat} {own ref C : String} {Tt : u_T} {fs : List Value} {v : Value} (hd : decode Y.code pc = .ok (.getfield idx, 3)) (hc : zcl[ci]? = some (C, Tt, N)) (k : Nat) (hk : k < N) (ho : own = Y.nm.cls) (hl : Cond.fieldLink own idx ref (Tt k).2.1 (Tt k).2.2.1 ∈ lw_all) (hs : ref = (Tt k).1 ∨ Cond.sameField ref (Tt k).1 (Tt k).2.1 (Tt k).2.2.1 ∈ lw_all)
    (he : g.h a = some (.inr (ci, fs))) (hv : fs[k]? = some v) (kk : zEF G d K Y (pc + 3) lo (v :: st) g Q) : zEF G d K Y pc lo (.ref a :: st) g Q := by
  subst ho
  intro p l e R s m args below meth c T locs cells slots ls lk mr s1 C
  obtain ⟨r, h1, cell, q1, q2, q3, q4⟩ := (C.hp.2.2.2 a _ he).2
  have hr : r = (_, Tt, N) := Option.some.inj (h1.symm.trans hc)
  subst hr
  obtain ⟨hin, -, -⟩ := zcls hc
  obtain ⟨hS, hfc, kC, hkC, hkind⟩ := C.hK.1 ci _ hc
  obtain ⟨cf, kf, fi, f, hi, hsl⟩ := hS k hk
  have hi2 : s.fieldFound? ref (Tt k).2.1 (Tt k).2.2.1 = some (cf, kf, fi, f) := by
    rcases hs with e | e
    · rw [e]; exact hi
    · exact u_same (C.w e) _ hi
  have hval : cell.slots[f.slot]? = some v := by
    rw [hsl, q4 k hk]
    simp [vp_V, hv]
  have hst := (u_facts (args := args) hfc hkC (u_lays (fun w h => C.w h) hin hk) hi).1
  have key : W p l e R s m args below meth c T.heap locs cells slots (zEnd G K Y Q R s1 below) (zF m pc ls (.ref a :: st) lk mr) :=
    W.getf (g := zF m pc ls (.ref a :: st) lk mr) (rest := st) C.ex C.hb C.own (C.w hl) hi2 hst q1 (by rw [q3]; exact fun h => by cases h) hval rfl rfl hd (C.toW0 kk)
  exact key T rfl C.X
theorem zap {args : Array Value} {s : State} {ci N : Nat} {C : String} {Tt : u_T} (hts : ∀ w ∈ lw_all, w.before args s = true) (hK : va_K G.D zcl (ztys G) s) (hc : zcl[ci]? = some (C, Tt, N)) : ∀ x y, x < N → y < N → x ≠ y → (G.D.2 ci) x ≠ (G.D.2 ci) y := by
  obtain ⟨hin, ⟨ty, hty⟩, hnm⟩ := zcls hc
  exact va_apart (own := C) hts hin ty hty hnm hK hc
theorem ez_put {ci idx N : Nat} {own ref C : String} {Tt : u_T} {fs : List Value} {v : Value} {ty : FieldType} (hd : decode Y.code pc = .ok (.putfield idx, 3)) (hc : zcl[ci]? = some (C, Tt, N)) (k : Nat) (hk : k < N) (ho : own = Y.nm.cls) (hl : Cond.fieldLink own idx ref (Tt k).2.1 (Tt k).2.2.1 ∈ lw_all) (hs : ref = (Tt k).1 ∨ Cond.sameField ref (Tt k).1 (Tt k).2.1 (Tt k).2.2.1 ∈ lw_all)
    (hfin : (Tt k).2.2.2 = false ∨ ((Tt k).2.2.2 = true ∧ Y.nm.name = "<init>" ∧ (Tt k).1 = Y.nm.cls)) (hp : parseFieldDescriptor (Tt k).2.2.1 = some ty) (hn : narrow ty v = v) (hft : fits ty v = true)
    (he : g.h a = some (.inr (ci, fs))) (hlen : k < fs.length) (kk : zEF G d K Y (pc + 3) lo st (zput g a (.inr (ci, fs.set k v))) Q) : zEF G d K Y pc lo (v :: .ref a :: st) g Q := by
  subst ho
  intro p l e R s m args below meth c T locs cells slots ls lk mr s1 C
  have hts : ∀ w ∈ lw_all, w.before args s = true := fun w h => C.w h
  have hap := zap hts C.hK hc
  obtain ⟨hbase, r, h1, cell, q1, q2, q3, q4⟩ := C.hp.2.2.2 a _ he
  have hr : r = (_, Tt, N) := Option.some.inj (h1.symm.trans hc)
  subst hr
  obtain ⟨hin, -, -⟩ := zcls hc
  obtain ⟨hS, hfc, kC, hkC, hkind⟩ := C.hK.1 ci _ hc
  obtain ⟨cf, kf, fi, f, hi, hsl⟩ := hS k hk
  have hi2 : s.fieldFound? ref (Tt k).2.1 (Tt k).2.2.1 = some (cf, kf, fi, f) := by
    rcases hs with e | e
    · rw [e]; exact hi
    · exact u_same (C.w e) _ hi
  have hst := (u_facts (args := args) hfc hkC (u_lays hts hin hk) hi).1
  have hlay := hts _ (hin _ (u_in_lay hk))
  have fin : ∀ H' : Heap, H'[a]? = some (cell.setSlot f.slot v) → H'.size = T.heap.size → (∀ q, q ≠ a → H'[q]? = T.heap[q]?) → W p l e R s m args below meth c H' (locs ++ [⟨a, f.slot⟩]) cells slots (zEnd G K Y Q R s1 below) (zF m (pc + 3) ls st lk mr) := by
    intro H' e1 e2 e3
    refine C.toW kk (C.hp.write he q1 e1 rfl rfl e2 e3 ?_) C.cn ?_
    · rw [hsl] at e1
      exact ⟨_, hc, t_OB.to (V := updV (vp_V fs) k v) ⟨_, e1, q2, q3, t_set q4 hap hk v⟩ (fun j _ => vp_updV_set hlen v j)⟩
    · intro q hq
      rcases List.mem_append.mp hq with h | h
      · exact C.lc q h
      · rw [List.mem_singleton.mp h]; exact hbase
  rcases hfin with hfin | ⟨hfin, hini, hdecl⟩
  · unfold u_lay at hlay
    rw [if_neg (by rw [hfin]; decide)] at hlay
    have h6 := u_store hfc hkC hkind hlay hi hp hn hft
    have key : W p l e R s m args below meth c T.heap locs cells slots (zEnd G K Y Q R s1 below) (zF m pc ls (v :: .ref a :: st) lk mr) :=
      W.putK (g := zF m pc ls (v :: .ref a :: st) lk mr) (rest := st) C.ex C.hb (f := f) ⟨C.own, C.w hl, ⟨_, _, _, hi2⟩, hst⟩ (by rw [q2]; exact h6) q1 q3 (by rw [hsl]; exact k2_hasslot (q4 k hk)) rfl rfl hd fin
    exact key T rfl C.X
  · unfold u_lay at hlay
    rw [if_pos hfin] at hlay
    have hcf : m.cls = cf := by
      obtain ⟨_, _, c', _, _, _, -, -, hf', -, -, -, hown2, -⟩ := Cond.laysFinal_spec hlay
      have e1 : c' = cf := by have := hi.symm.trans hf'; simp at this; exact this.1.symm
      rw [hdecl] at hown2
      rw [← e1]; exact Option.some.inj (C.own.symm.trans hown2)
    have h6 := u_fits hfc hkC hkind (Or.inr hlay) hi hp hn hft
    have hmn : meth.name = "<init>" := (name_of_methodNamed C.fr.2.1 C.X.method).1.trans hini
    have key : W p l e R s m args below meth c T.heap locs cells slots (zEnd G K Y Q R s1 below) (zF m pc ls (v :: .ref a :: st) lk mr) :=
      W.putFinK (g := zF m pc ls (v :: .ref a :: st) lk mr) (rest := st) C.ex C.hb C.own (C.w hl) hi2 hst hcf hmn (by rw [q2]; exact h6) q1 q3 (by rw [hsl]; exact k2_hasslot (q4 k hk)) rfl rfl hd fin
    exact key T rfl C.X
end ZR

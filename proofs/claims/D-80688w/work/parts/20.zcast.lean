/-! casts that fail, indices out of bounds, stores of a wrong type, calls on null -/
set_option maxRecDepth 100000
def zhome (b : Bool) : String := (match b with | true => "module " ++ "java.base" | false => "unnamed module") ++ " of loader " ++ "'bootstrap'"
def zhomes (a b : String) (x y z : Bool) : String := match z with
  | true => dotted a ++ " and " ++ dotted b ++ " are in " ++ zhome x
  | false => dotted a ++ " is in " ++ zhome x ++ "; " ++ dotted b ++ " is in " ++ zhome y
def ztext (a b : String) (x y z : Bool) : String := "class " ++ dotted a ++ " cannot be cast to class " ++ dotted b ++ " (" ++ zhomes a b x y z ++ ")"
def ztxOK (t : String) : Bool := !(t == notModelled) && decide ((stringBytes (stringToUtf16 t)).size ≤ 290)
def zcastOK (a b : String) : Bool := castPackages_1.contains (packageOf a) && castPackages_1.contains (packageOf b) && [true, false].all fun x => [true, false].all fun y => [true, false].all fun z => ztxOK (ztext a b x y z)
theorem zfound {vm : Vm} {C : String} {c : ClassId} (h : vm.findClass C = some c) {k : Class} (hk : vm.classes[c]? = some k) : k.name = C ∧ k.hidden = none ∧ k.loader = none := by
  obtain ⟨hlt, hp, -⟩ := Array.findIdx?_eq_some_iff_getElem.mp h
  have e : vm.classes[c] = k := by
    have h1 : vm.classes[c]? = some vm.classes[c] := Array.getElem?_eq_getElem hlt
    exact Option.some.inj (h1.symm.trans hk)
  rw [e] at hp
  simp only [Bool.and_eq_true, beq_iff_eq, Option.isNone_iff_eq_none] at hp
  exact ⟨hp.1.1.1, hp.1.1.2, hp.2⟩
theorem zhome_eq {vm : Vm} (hm : (vm.modules.all fun m => m.loader.isSome || m.name == "java.base" || !(castPackages_1.any fun p => m.packages.contains p)) = true) {k : Class} (hl : k.loader = none) (hp : castPackages_1.contains (packageOf k.name) = true) : ∃ b, vm.home k = zhome b := by
  unfold Vm.home zhome
  rw [hl]
  cases hmo : vm.moduleOf k with
  | none => exact ⟨false, rfl⟩
  | some mi =>
    refine ⟨true, ?_⟩
    have hn : mi.name = "java.base" := by
      unfold Vm.moduleOf at hmo
      split at hmo
      · have := List.find?_some hmo
        simpa using this
      · have h1 := List.find?_some hmo
        have h2 := List.all_eq_true.mp hm mi (List.mem_of_find?_eq_some hmo)
        simp only [Bool.and_eq_true, beq_iff_eq] at h1
        rw [hl] at h1
        have h3 : (castPackages_1.any fun p => mi.packages.contains p) = true := by
          rw [List.any_eq_true]
          exact ⟨packageOf k.name, List.contains_iff_mem.mp hp, h1.2⟩
        rw [h1.1, h3] at h2
        simpa using h2
    simp only [hn, Vm.loaderName]
theorem zmsg_eq {vm : Vm} (hm : (vm.modules.all fun m => m.loader.isSome || m.name == "java.base" || !(castPackages_1.any fun p => m.packages.contains p)) = true) {C D : String} {c t : ClassId} {ks kt : Class} (hc : vm.findClass C = some c) (ht : vm.findClass D = some t) (hks : vm.classes[c]? = some ks) (hkt : vm.classes[t]? = some kt) (hok : zcastOK C D = true) : ztxOK (Op.checkcast.message vm ks kt) = true := by
  obtain ⟨n1, n2, n3⟩ := zfound hc hks
  obtain ⟨m1, m2, m3⟩ := zfound ht hkt
  simp only [zcastOK, Bool.and_eq_true] at hok
  obtain ⟨⟨h1, h2⟩, h3⟩ := hok
  obtain ⟨x, hx⟩ := zhome_eq hm n3 (by rw [n1]; exact h1)
  obtain ⟨y, hy⟩ := zhome_eq hm m3 (by rw [m1]; exact h2)
  have b : ∀ z : Bool, z ∈ [true, false] := fun z => by cases z <;> simp
  have key : Op.checkcast.message vm ks kt = ztext C D x y (vm.sameModule ks kt) := by
    unfold Op.checkcast.message ztext zhomes Vm.homes Class.shown
    rw [n2, m2, n1, m1, hx, hy]
    cases vm.sameModule ks kt <;> rfl
  rw [key]
  exact List.all_eq_true.mp (List.all_eq_true.mp (List.all_eq_true.mp h3 x (b x)) y (b y)) _ (b _)
section ZK0
variable {p : Program} {l : Launch} {e : Env} {R : Room} {s : State} {m : MethodId} {args : Array Value} {below : List Frame} {meth : Method} {c : Code} {T : State} {locs : List Loc} {cells slots : Nat}
theorem zcastFail (X : Stand p l e R s m args below meth c T locs cells slots) (hexec : p.tables.exec = Jvm.exec)
    {own name : String} {index : Nat} (hown : s.vm.findClass own = some m.cls) (hlink : (Cond.classLink own index name).before args s = true)
    {a : Addr} {cell : Cell} {cT : ClassId} {ks : Class} (hcell : T.heap[a]? = some cell) (hobj : cell.vm.isStatics = false) (hks : s.vm.classes[cell.cls]? = some ks) (hcT : s.vm.findClass name = some cT) (hasg : s.vm.assignable cell.cls cT = false)
    {g : JFrame} (hg : g.method = m) {rest : List Value} (hstack : g.stack = .ref a :: rest) (hdg : decode c.code g.pc = .ok (.checkcast index, 3)) :
    ∃ (vm' : Vm) (ks' kt' : Class), Stand p l e R s m args below meth c (T.setVm vm') locs cells slots ∧ s.vm.Alike vm' ∧ vm'.classes[cell.cls]? = some ks' ∧ vm'.classes[cT]? = some kt' ∧
      ∀ target, Steps p.tables e below (((T.setVm vm').setTop g).pushFrame (.throwNew "java/lang/ClassCastException" (some (Op.checkcast.message vm' ks' kt')) none)) target → Steps p.tables e below (T.setTop g) target := by
  have hpl : e.platform.magicAccessors = ({} : Platform).magicAccessors := by rw [X.admits.platform]
  obtain ⟨c', hc', hcl⟩ := Cond.classLink_spec hown hlink e.platform hpl
  cases hcT.symm.trans hc'
  obtain ⟨dk, _, _, kt, hd, _, _, _, _, hkt, _, hopen⟩ := hcl.here
  have hcl₀ := X.warmed.classLinks hcl
  have hW' : s.WarmedH (T.vm.noted m.cls index (.cls cT)) := X.warmed.noted hd hopen (State.rightAt_cls hcl)
  obtain ⟨ks', hks', -⟩ := hW'.alike.2.2 _ _ hks
  obtain ⟨kt', hkt', -⟩ := hW'.alike.2.2 _ _ hkt
  refine ⟨_, ks', kt', X.noted hW', hW'.alike, hks', hkt', fun target hrest => ?_⟩
  subst hg
  jvm_step X.here [hexec, hdg, Op.checkcast.wp_cold (e := e) (s := T) (f := g) X.here.top hstack (resolveClass_links e.toSetting hcl₀) hcl₀.ready,
    Op.checkcast.wp_ready (e := e) (s := T.setVm (T.vm.noted g.method.cls index (.cls cT))) (f := g) X.here.top hcl₀.ready hstack]
  refine ⟨cell, hcell, VmData.noStatics_of hobj, ks', hks', kt', hkt', ?_⟩
  rw [if_neg (by rw [hW'.alike.assignable]; exact fun h => by rw [hasg] at h; cases h)]
  exact hrest
end ZK0

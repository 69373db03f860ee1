/-! exceptions of the system's own: their making (after vx_ctorMade0, vx_make0 of kit/laws/EXCEPTIONS.to-paste), what a method that may throw is asked -/
set_option maxRecDepth 100000
def ZZ (A : Nat → Prop) (U : State) (H : Heap) : Prop := vy_Zq Bundle.tN "UNASSIGNED_STACK" Bundle.steD A U H ∧ vy_Zq Bundle.tN "SUPPRESSED_SENTINEL" Bundle.listD A U H
theorem ZZ.moved {A : Nat → Prop} {u U : State} {H : Heap} (hvm : u.vm.Alike U.vm) (h : ZZ A u H) : ZZ A U H := ⟨h.1.moved hvm, h.2.moved hvm⟩
theorem ZZ.kept {A : Nat → Prop} {U : State} {H H1 : Heap} (h : ZZ A U H) (hq : ∀ a : Nat, a < H.size → ¬ A a → H1[a]? = H[a]?) : ZZ A U H1 := ⟨h.1.kept hq, h.2.kept hq⟩
theorem ZZ.narrow {A B : Nat → Prop} {U : State} {H : Heap} (h : ZZ A U H) (hAB : ∀ q, B q → A q) : ZZ B U H := ⟨h.1.narrow hAB, h.2.narrow hAB⟩
/-- a new object that nothing has been done to -/
def mFr (C : String) (a : Nat) (U : State) (H : Heap) : Prop := ∃ (cC : ClassId) (kC : Class), U.vm.findClass C = some cC ∧ U.vm.classes[cC]? = some kC ∧ kC.kind = .ordinary ∧ H[a]? = some (freshCell cC kC)
theorem mFr.moved {C : String} {a : Nat} {u U : State} {H : Heap} (hvm : u.vm.Alike U.vm) (h : mFr C a u H) : mFr C a U H := by
  obtain ⟨cC, kC, h1, h2, h4, h3⟩ := h
  obtain ⟨k', hk', he⟩ := hvm.2.2 _ _ h2
  refine ⟨cC, k', by rw [hvm.findClass]; exact h1, hk', by rw [he]; exact h4, ?_⟩
  rw [h3, he]
theorem y_super0 {p : Program} {l : Launch} {e : Env} {R : Room} {s : State} {m₀ : MethodId} {args : Array Value} {below : List Frame} {meth : Method} {c : Code} {W : State} {locs : List Loc} {cells slots : Nat} (X : Stand p l e R s m₀ args below meth c W locs cells slots) (hexec : p.tables.exec = Jvm.exec) (htr : e.platform.stackTraces = false) {own cls xC : String} {names : List String} {ic : Nat}
    (hown : s.vm.findClass own = some m₀.cls) (hcls : Bundle.fit cls = true) (hnames : ∀ n ∈ names, Bundle.fit n = true)
    (hT : ∀ a ∈ Bundle.throwableAtoms, a.before args s = true) (hch : ∀ a ∈ Bundle.chain0Atoms cls names, a.before args s = true)
    (hin0 : (Cond.instanceMethod (Bundle.init0 cls)).before args s = true) (hco0 : (Cond.code (Bundle.init0 cls) Bundle.five 1 none).before args s = true)
    (h : ∀ a ∈ ([.methodLink own ic (Bundle.init0 cls), .selects xC Bundle.tFill0 Bundle.tFill0, .selects xC Bundle.tFill Bundle.tFill,
   .lays xC Bundle.tN "cause" "Ljava/lang/Throwable;", .lays xC Bundle.tN "stackTrace" Bundle.steD, .lays xC Bundle.tN "suppressedExceptions" Bundle.listD, .lays xC Bundle.tN "detailMessage" "Ljava/lang/String;",
   .isRef (.static Bundle.tN "UNASSIGNED_STACK" Bundle.steD), .isRef (.static Bundle.tN "SUPPRESSED_SENTINEL" Bundle.listD),
   .fieldLink Bundle.tN 198 Bundle.tN "backtrace" "Ljava/lang/Object;", .lays Bundle.tN Bundle.tN "backtrace" "Ljava/lang/Object;", .lays xC Bundle.tN "backtrace" "Ljava/lang/Object;"] : List Cond), a.before args s = true)
    (hlocs : ∀ x ∈ locs, ∀ cell, s.heap[x.base]? = some cell → cell.vm.isStatics = false)
    {a : Addr} {cX : ClassId} {kX : Class} (hfoundX : s.vm.findClass xC = some cX) (hkX : s.vm.classes[cX]? = some kX) (hord : kX.kind = .ordinary) (hcell : W.heap[a]? = some (freshCell cX kX)) (hsta : ∀ (cT : ClassId) (kT : Class) (aS : Nat), s.vm.findClass Bundle.tN = some cT → s.vm.classes[cT]? = some kT → kT.statics = some aS → aS ≠ a)
    {g : JFrame} (hg : g.method = m₀) (hsize : g.locals.size = c.maxLocals) {rest : List Value} (hstack : g.stack = .ref a :: rest)
    (hd6 : decode c.code g.pc = .ok (.invokespecial ic, 3))
    (hRframes : names.length + 3 < R.frames) (hRlocals : 2 * g.monitorRoom + (rest.map fun v => v.category).sum + (13 * (names.length + 1) + 41) ≤ R.locals) :
    ∃ (V : State) (u0 sen : Value) (L : List Loc) (cT : ClassId) (kT : Class) (i1 i2 i3 : Nat) (f1 f2 f3 : Field), s.fieldFound? Bundle.tN "cause" "Ljava/lang/Throwable;" = some (cT, kT, i1, f1) ∧ s.fieldFound? Bundle.tN "stackTrace" Bundle.steD = some (cT, kT, i2, f2) ∧ s.fieldFound? Bundle.tN "suppressedExceptions" Bundle.listD = some (cT, kT, i3, f3) ∧
      Stand p l e R s m₀ args below meth c (V.setCell a (((((freshCell cX kX).setSlot f1.slot (.ref a)).setSlot f2.slot u0).setSlot f3.slot sen).setSlot f2.slot u0)) (locs ++ L) cells slots ∧ (∀ y ∈ L, y.base = a) ∧ a < V.heap.size ∧ V.heap = W.heap ∧
      ∀ target, Steps p.tables e below ((V.setCell a (((((freshCell cX kX).setSlot f1.slot (.ref a)).setSlot f2.slot u0).setSlot f3.slot sen).setSlot f2.slot u0)).setTop { g with stack := rest, pc := g.pc + 3 }) target → Steps p.tables e below (W.setTop g) target := by
  have howns : e.platform.frameOwnsMonitors = true := by rw [X.admits.platform]
  have hfin : e.platform.finalization = false := by rw [X.admits.platform]
  have hpl : e.platform.magicAccessors = ({} : Platform).magicAccessors := by rw [X.admits.platform]
  have a' : ∀ x : Cond, x ∈ ([.methodLink own ic (Bundle.init0 cls), .selects xC Bundle.tFill0 Bundle.tFill0, .selects xC Bundle.tFill Bundle.tFill,
   .lays xC Bundle.tN "cause" "Ljava/lang/Throwable;", .lays xC Bundle.tN "stackTrace" Bundle.steD, .lays xC Bundle.tN "suppressedExceptions" Bundle.listD, .lays xC Bundle.tN "detailMessage" "Ljava/lang/String;",
   .isRef (.static Bundle.tN "UNASSIGNED_STACK" Bundle.steD), .isRef (.static Bundle.tN "SUPPRESSED_SENTINEL" Bundle.listD),
   .fieldLink Bundle.tN 198 Bundle.tN "backtrace" "Ljava/lang/Object;", .lays Bundle.tN Bundle.tN "backtrace" "Ljava/lang/Object;", .lays xC Bundle.tN "backtrace" "Ljava/lang/Object;"] : List Cond) → x.holds args s none s [] = true := fun x hx => h x hx
  obtain ⟨T, Z, L, LZ, Y⟩ := ThrowableC.of_atoms (args := args) howns hfin hpl hT
  obtain ⟨P1, Ps, hlen, L1, hL, hP1m, hlink1, hlink⟩ := Bundle.chain0 (args := args) hpl Y.init0 names cls hcls hnames hch
  have hsel0 : selectMethod e.platform s.vm cX T.fill0 = .method T.fill0 := by
    obtain ⟨c2, r2, m2, q1, q2, q3, q4, -⟩ := Cond.selects_spec (a' (.selects xC Bundle.tFill0 Bundle.tFill0) (by simp))
    cases Option.some.inj (q1.symm.trans hfoundX)
    cases Option.some.inj (q2.symm.trans (State.methodFound?_of_named Y.fill0 (by decide)))
    cases Option.some.inj (q3.symm.trans Y.fill0)
    rw [Launch.admits_selectMethod X.admits]; exact q4
  have hselF : selectMethod e.platform s.vm cX T.fill = .method T.fill := by
    obtain ⟨c2, r2, m2, q1, q2, q3, q4, -⟩ := Cond.selects_spec (a' (.selects xC Bundle.tFill Bundle.tFill) (by simp))
    cases Option.some.inj (q1.symm.trans hfoundX)
    cases Option.some.inj (q2.symm.trans (State.methodFound?_of_named Y.fill (by decide)))
    cases Option.some.inj (q3.symm.trans Y.fill)
    rw [Launch.admits_selectMethod X.admits]; exact q4
  obtain ⟨cellS0, hcS0, hiss⟩ := Y.statics
  obtain ⟨u0, hu0⟩ := Cond.staticRefV Y.unassigned L.unassignedStatic L.statics hcS0 hiss (a' (.isRef (.static Bundle.tN "UNASSIGNED_STACK" Bundle.steD)) (by simp))
  obtain ⟨sen, hsen⟩ := Cond.staticRefV Y.sentinel L.sentinelStatic L.statics hcS0 hiss (a' (.isRef (.static Bundle.tN "SUPPRESSED_SENTINEL" Bundle.listD)) (by simp))
  obtain ⟨ci198, i198, fB, hk198, hg198, ha198, hsB, -, hnB, htB, hffB⟩ := Cond.ownField (t := .object "java/lang/Object") Y.found L.cls (by decide +kernel) (a' (.fieldLink Bundle.tN 198 Bundle.tN "backtrace" "Ljava/lang/Object;") (by simp)) (a' (.lays Bundle.tN Bundle.tN "backtrace" "Ljava/lang/Object;") (by simp)) e.platform hpl
  obtain ⟨cellS, hcS', heS, -, hkeep⟩ := X.same.2.2.2.2.2 T.aS cellS0 hcS0
  have hcellS : W.heap[T.aS]? = some cellS := hcS'
  have hout' : ∀ i, (⟨T.aS, i⟩ : Loc) ∉ locs := fun i hmem => by
    have := hlocs _ hmem cellS0 hcS0
    rw [hiss] at this; cases this
  have hknownS : cellS.vm ≠ .unknown := by
    rw [heS]; intro hu
    rw [show cellS0.vm = .unknown from hu] at hiss
    cases hiss
  have hneS : T.aS ≠ a := hsta T.cT T.kT T.aS Y.found L.cls L.statics
  obtain ⟨iM, hffM⟩ := Y.msg
  obtain ⟨tyC, dC, hdC, hdnC⟩ := Cond.laysAt hfoundX hkX Y.cause (a' (.lays xC Bundle.tN "cause" "Ljava/lang/Throwable;") (by simp))
  obtain ⟨tyS, dS, hdS, hdnS⟩ := Cond.laysAt hfoundX hkX Y.stack (a' (.lays xC Bundle.tN "stackTrace" Bundle.steD) (by simp))
  obtain ⟨tyP, dP, hdP, hdnP⟩ := Cond.laysAt hfoundX hkX Y.supp (a' (.lays xC Bundle.tN "suppressedExceptions" Bundle.listD) (by simp))
  obtain ⟨tyB, dB, hdB, hdnB⟩ := Cond.laysAt hfoundX hkX hffB (a' (.lays xC Bundle.tN "backtrace" "Ljava/lang/Object;") (by simp))
  have bC := Cond.laysApart hdB hdC hdnB hdnC (by rw [hnB, Y.causeName]; decide)
  have bS := Cond.laysApart hdB hdS hdnB hdnS (by rw [hnB, Y.stackName]; decide)
  have bP := Cond.laysApart hdB hdP hdnB hdnP (by rw [hnB, Y.suppName]; decide)
  have hskip : SkipFacts T e.platform s (fun u => u) u0 ((preparedCellV T.toThrowableT (freshCell cX kX) a u0 sen).withEntry W.cur) :=
    ⟨{ ci198 := ci198, i198 := i198, fBack := fB }, ⟨hk198, hg198, ha198, hsB⟩, by
      have := fresh_default (c := cX) tyB
      rw [htB] at this
      simpa [preparedCellV, Cell.setSlot, Cell.withEntry, Array.getElem?_setIfInBounds, bC, bS, bP, bC.symm, bS.symm, bP.symm, defaultValue] using this, fun _ _ => rfl⟩
  obtain ⟨tm, methC, cdC, kC, vm₁, hnC, -, -, -, -, -, -, -, hW₁, st1⟩ := Steps.initCold (tb := p.tables) (e := e) (below := below) (s := s) (U := W) X.here hexec X.warmed hpl hown (t := Bundle.init0 cls) rfl rfl (Bundle.fit_spec hcls).2
    (a' (.methodLink own ic (Bundle.init0 cls)) (by simp)) hin0 (bytes := Bundle.five) (maxL := 1) hco0
    (f := g) hg (a := a) (rest := rest) hstack hd6
  cases Option.some.inj (hnC.symm.trans hP1m)
  have X₁ := X.noted hW₁
  obtain ⟨vm₂, X₂, st2⟩ := X₁.ctorPlainOffV hexec (g := { g with stack := rest }) hg hsize T L Z LZ (P1 :: Ps)
    (fun P hP => by rcases List.mem_cons.mp hP with rfl | hP; exact L1; exact hL P hP) ⟨hlink1, hlink⟩ (u0 := u0) (sen := sen) (self := a) (cell := freshCell cX kX) (cellS := cellS)
    hcell (fun _ => by simp) (by simp) rfl rfl hsel0 hselF hcellS hneS hknownS (by rw [hkeep _ (hout' _)]; exact hu0) (by rw [hkeep _ (hout' _)]; exact hsen)
    (Takes.of_laid hkX hord tyC (by rw [Y.causeType]; rfl)) (Takes.of_laid hkX hord tyS (by rw [Y.stackType]; exact fits_refV_array _ u0)) (Takes.of_laid hkX hord tyP (by rw [Y.suppType]; exact fits_refV_object _ sen)) Y.objLocals hskip htr [] hd6
    (by simp only [List.length_cons, hlen]; omega) (by simp only [List.length_cons, hlen]; exact hRlocals)
  have hlt : a < ((W.setVm vm₁).setVm vm₂).heap.size := (Array.getElem?_eq_some_iff.mp hcell).1
  refine ⟨(W.setVm vm₁).setVm vm₂, u0.v, sen.v, _, _, _, _, _, _, _, _, _, Y.cause, Y.stack, Y.supp, X₂, fun y hy => ?_, hlt, rfl, fun target hwalk => st1 _ (fun acts => ?_)⟩
  · simp only [List.mem_cons, List.not_mem_nil, or_false] at hy
    rcases hy with rfl | rfl | rfl | rfl <;> rfl
  · rw [doInvoke_state]
    exact st2 _ hwalk

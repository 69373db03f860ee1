/-! super.m(..) where the superclass inherits m from its superclass's superclass -/
theorem x_sub2 {vm : Vm} {a b d : ClassId} {ka kb kd : Class} (ha : vm.classes[a]? = some ka) (hb : vm.classes[b]? = some kb) (hd : vm.classes[d]? = some kd) (e1 : ka.super = some b) (e2 : kb.super = some d) : vm.isSubclass a d = true := by
  have la := (Array.getElem?_eq_some_iff.mp ha).1
  have lb := (Array.getElem?_eq_some_iff.mp hb).1
  have ld := (Array.getElem?_eq_some_iff.mp hd).1
  unfold Vm.isSubclass
  by_cases h : vm.classes.size < 2
  · have e : @Eq Nat a d := by omega
    have e : a = d := e
    subst e
    simp [Vm.isSubclassAux]
  · obtain ⟨n, hn⟩ : ∃ n, vm.classes.size + 1 = n + 3 := ⟨vm.classes.size - 2, by omega⟩
    rw [hn]
    simp [Vm.isSubclassAux, ha, hb, e1, e2]
section XSU
variable {p : Program} {l : Launch} {e : Env} {R : Room} {s : State} {m : MethodId} {args : Array Value} {below : List Frame} {meth : Method} {c : Code}
theorem x_callSU {T : State} {locs : List Loc} {cells slots : Nat} (X : Stand p l e R s m args below meth c T locs cells slots) (hexec : p.tables.exec = Jvm.exec) {own mid : String} {index : Nat} {x y : MethodName} {bytes : ByteArray} {maxL : Nat} {ret : Option FieldType} (hyx : y = ⟨y.cls, x.name, x.desc⟩)
    (hown : s.vm.findClass own = some m.cls) (hlink : (Cond.methodLink own index x).before args s = true) (hsame : (Cond.sameMethod x.cls y.cls x.name x.desc).before args s = true) (hsup : (Cond.superclass own x.cls).before args s = true) (hs1 : (Cond.superclass x.cls mid).before args s = true) (hs2 : (Cond.superclass mid y.cls).before args s = true)
    (hinst : (Cond.instanceMethod y).before args s = true) (hcode : (Cond.code y bytes maxL ret).before args s = true) (hno : x.name ≠ "<init>")
    {W : Nat} {Pre : Pt → Array Value → Prop} {Post : Pt → Array Value → Option Value → Pt → Prop} (hK : Back l R p e below s args y 3 W Pre Post)
    {b : Addr} {cellB : Cell} {kB : Class} (hcell : T.heap[b]? = some cellB) (hobj : cellB.vm.isStatics = false) (hkB : s.vm.classes[cellB.cls]? = some kB)
    {g : JFrame} (hg : g.method = m) (hsize : g.locals.size = c.maxLocals) {argsL rest : List Value} (hlen : ∀ sig, parseMethodDescriptor y.desc = some sig → argsL.length = sig.parameters.length)
    (hstack : g.stack = argsL.reverse ++ .ref b :: rest) (hW : 2 * g.monitorRoom + (rest.map fun v => v.category).sum ≤ W) (hdg : decode c.code g.pc = .ok (.invokespecial index, 3))
    (hpre : ∀ vm₁, s.WarmedH vm₁ → Pre ⟨T.setVm vm₁, locs, cells, slots⟩ (Value.ref b :: argsL).toArray) :
    ∃ (v : Option Value) (vm₁ : Vm) (B : Pt), s.WarmedH vm₁ ∧ Stand p l e R s m args below meth c B.U B.locs B.cells B.slots ∧ Post ⟨T.setVm vm₁, locs, cells, slots⟩ (Value.ref b :: argsL).toArray v B ∧
      ∀ target, Steps p.tables e below (B.U.setTop { g with pc := g.pc + 3, stack := v.toList ++ rest }) target → Steps p.tables e below (T.setTop g) target := by
  obtain ⟨mk, methM, hnamed, hmethM, hstM, habM⟩ := Cond.instanceMethod_spec hinst
  obtain ⟨methM', cM, hmethM', -, -, -, -, -, -, hsigM⟩ := Cond.code_spec hnamed hcode
  cases hmethM.symm.trans hmethM'
  obtain ⟨ps, dk, kp, hps, hdk, hkp, hsuper, -, -, hnid⟩ := Cond.superclass_spec hown hsup
  obtain ⟨p1, dk1, kp1, hp1, hdk1, hkp1, hsuper1, -, -, -⟩ := Cond.superclass_spec hps hs1
  obtain ⟨p2, dk2, kp2, hp2, hdk2, hkp2, hsuper2, -, -, -⟩ := Cond.superclass_spec hp1 hs2
  have hn : s.methodNamed? ⟨y.cls, x.name, x.desc⟩ = some mk := by rw [← hyx]; exact hnamed
  have hpm : p2 = mk.cls := Option.some.inj (hp2.symm.trans (findClass_of_methodNamed hnamed))
  have hsub : s.vm.isSubclass ps mk.cls = true := by rw [← hpm]; exact x_sub2 hdk1 hdk2 hkp2 hsuper1 hsuper2
  obtain ⟨vm₁, X₁, hstep₁⟩ := X.invokespecialUp hexec hown hlink hsame hn hmethM hstM habM hno hdk hnid hps hsuper hsub (a := b) (cell := cellB) hcell
    (fun z h => by rw [h] at hobj; cases hobj) hkB (g := g) hg (argsL := argsL) (rest := rest) (hlen _ hsigM) hstack hdg
  obtain ⟨v, B, X', hpost, hsteps⟩ := hK m meth c ⟨T.setVm vm₁, locs, cells, slots⟩ { g with stack := rest } (.invokespecial index) mk (Value.ref b :: argsL).toArray X₁ hg hsize hdg hW (X₁.named hnamed) (hpre vm₁ X₁.warmed)
  exact ⟨v, vm₁, B, X₁.warmed, X', hpost, fun target h => hstep₁ _ (by rw [doInvoke_state]; exact hsteps.trans h)⟩
variable {H : Heap} {locs : List Loc} {cells slots : Nat}
theorem x_runSU {x y : MethodName} {mid : String} {bytes cc : ByteArray} {maxL nL mc ms n index : Nat} {ret : Option FieldType} {ws ws' : List Cond} {rm : Room} {Pc : Array Value → State → Prop} {Qc : Array Value → State → Outcome → State → Prop} {free : Addr → Prop} {Ts : List Cond} {own C : String} {cC : ClassId} {b : Addr} {As rest : List Value} {g : JFrame}
    (hat : ClassAt s C cC) (S : CallFix p m c cc nL s args Ts own) (hM : Met l y ws rm Pc Qc mc ms free) (hyx : y = ⟨y.cls, x.name, x.desc⟩)
    (h1 : Cond.methodLink own index x ∈ Ts) (h2 : Cond.sameMethod x.cls y.cls x.name x.desc ∈ Ts) (h3 : Cond.superclass own x.cls ∈ Ts) (h4 : Cond.superclass x.cls mid ∈ Ts) (h5 : Cond.superclass mid y.cls ∈ Ts) (h6 : Cond.instanceMethod y ∈ Ts) (h7 : Cond.initialized y.cls ∈ Ts) (hG : GoodIn Ts ws) (hw : ws = Cond.code y bytes maxL ret :: ws') (hrc : rm.cells = mc) (hrs : rm.slots = ms)
    (hd : x.name ≠ "<init>" ∧ (parseMethodDescriptor y.desc).map (fun d => d.parameters.length) = some n) (hR : rm.frames + 1 ≤ R.frames ∧ 8 + (maxL + 11) + rm.locals ≤ R.locals)
    (hp : PreV s H C b Pc As)
    (hg : g.method = m) (hn : As.length = n) (hsize : g.locals.size = nL) (hstack : g.stack = As.reverse ++ .ref b :: rest) (hW : 2 * g.monitorRoom + (rest.map fun v => v.category).sum ≤ 8) (hdg : decode cc g.pc = .ok (.invokespecial index, 3)) (hf : cells + mc ≤ R.cells ∧ slots + ms ≤ R.slots) :
    va_Run p l e R s m args below meth c H locs cells slots mc ms g rest (Qc (Value.ref b :: As).toArray) (free) := by
  obtain ⟨hx, hb, hml, ho, ht⟩ := S
  have hc : Cond.code y bytes maxL ret ∈ ws := by rw [hw]; exact List.mem_cons_self
  have hK : Back l R p e below s args y 3 8 (PreOf R mc ms Pc) (PostOf Qc mc ms free) := back_of (bytes := bytes) (maxL := maxL) (ret := ret) hM hp.1 hrc hrs hR.1 hR.2 (pay_in ht hG) hc (fun a' U hW => word_at hW (Or.inl (by first | rfl | simp [Cond.onTables, Cond.keeps, Cond.steady])) (ht _ h7))
  obtain ⟨-, ⟨cellB, hcB, hoB, hclB⟩, hPc⟩ := hp
  obtain ⟨hfc, kB, hkB, -⟩ := hat
  cases hfc.symm.trans hclB
  intro T hT X
  obtain ⟨v, vm₁, ⟨U', l2, c2, s2⟩, hW₁, X', ⟨g', mk, t, L, e1, e2, hq, q1, hL, q2, q3⟩, st⟩ := x_callSU X hx (bytes := bytes) (maxL := maxL) (ret := ret) hyx ho (ht _ h1) (ht _ h2) (ht _ h3) (ht _ h4) (ht _ h5) (ht _ h6) (ht _ (hG _ hc).1) hd.1 hK (by rw [hT]; exact hcB) hoB hkB hg (hsize.trans hml.symm) (argsL := As) (rest := rest) (fun sig h => by
      have h9 := hd.2
      rw [h] at h9
      exact hn.trans (Option.some.inj h9).symm) hstack hW (by rw [hb]; exact hdg)
    (fun vm₁ hW₁ => ⟨hf.1, hf.2, hPc (T.setVm vm₁) hT hW₁⟩)
  dsimp only [Pt.U, Pt.locs, Pt.cells, Pt.slots] at X' e1 e2 q1 q2 q3 st
  subst q1; subst q2; subst q3
  exact ⟨v, (T.setVm vm₁).calling g' mk (Value.ref b :: As).toArray, t, U', L, hT, X', hL, e1, e2, hq, st⟩
variable {Q : State → Prop} {G : xG} {cc bytes : ByteArray} {nL maxL index pc : Nat} {own : String} {y : MethodName} {rm : Room} {ls : Array Slot} {A : Nat → Prop} {ws wc : va_W} {As rest st0 : List Value} {ret : Option FieldType}
theorem x_SUXi {S : Type} {post : Int32 → S → Prop} {w' : S → va_W} {wN : S → va_W} {b : Nat} {x : MethodName} {mid : String} (hX : xS G p m c cc nL s args own A ws H locs) {C : String} {q9 : vw_C} {fs : List Value} {ci : Nat} (q0 : Nat) (he : ws[q0]? = some (b, .inr (ci, fs))) (hci : vwCl[ci]? = some q9) (hCq : q9.1 = C) (hM : xCi l G y bytes maxL ret rm (.ref b :: As) wc post w') (hyx : y = ⟨y.cls, x.name, x.desc⟩)
    (h1 : Cond.methodLink own index x ∈ lw_all) (h2 : Cond.sameMethod x.cls y.cls x.name x.desc ∈ lw_all) (h3 : Cond.superclass own x.cls ∈ lw_all) (h4 : Cond.superclass x.cls mid ∈ lw_all) (h5 : Cond.superclass mid y.cls ∈ lw_all) (h6 : Cond.instanceMethod y ∈ lw_all) (h7 : Cond.initialized y.cls ∈ lw_all) (h8 : Cond.code y bytes maxL ret ∈ lw_all)
    (hd : x.name ≠ "<init>" ∧ (parseMethodDescriptor y.desc).map (fun d => d.parameters.length) = some As.length) (hR : rm.frames + 1 ≤ R.frames ∧ 8 + (maxL + 11) + rm.locals ≤ R.locals) (isC pl : List Nat) (hC : isC.map (fun i => ws[i]?) = wc.map some) (hN : ∀ u, pl.map (fun n => xlk ws (w' u) n) = (wN u).map some) (hn : xok isC pl = true) (hnC : va_nd isC = true) (hsize : ls.size = nL) (hstack : st0 = As.reverse ++ .ref b :: rest) (hW : (rest.map fun v => v.category).sum ≤ 8) (hdg : decode cc pc = .ok (.invokespecial index, 3)) (hf : cells + rm.cells ≤ R.cells ∧ slots + rm.slots ≤ R.slots)
    (kk : ∀ (r : Int32) (u : S) (H1 : Heap) (locs1 : List Loc), post r u → va_P G.1 vwCl (wN u) H1 → va_D A (wN u) → va_S A s.heap H1 locs1 → W p l e R s m args below meth c H1 locs1 (cells + rm.cells) (slots + rm.slots) Q (F0 m (pc + 3) ls (.int r :: rest))) : W p l e R s m args below meth c H locs cells slots Q (F0 m pc ls st0) := by
  have hrec : ∃ cell : Cell, H[b]? = some cell ∧ cell.vm.isStatics = false ∧ s.vm.findClass C = some cell.cls := by rw [← hCq]; exact va_recv hX.2.1.1 hX.2.2.1 hci he
  have hat : ClassAt s C (G.1.1 ci) := by rw [← hCq]; exact (hX.2.1.1.1 ci _ hci).2
  exact x_backi hX isC pl hC hN hn (x_runSU (ws := ws_ y bytes maxL ret) hat hX.1 (hM H.size) hyx h1 h2 h3 h4 h5 h6 h7 (lw_meth h8) rfl rfl rfl hd hR ⟨xPc.blind, hrec, x_pre hX isC hnC hC⟩ rfl rfl hsize hstack (lv_room hW) hdg hf) kk
end XSU

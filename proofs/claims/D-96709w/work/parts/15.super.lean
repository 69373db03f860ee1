/-! the constructors above Refusal, at its frame (printed by tools/mkthrow2.py) -/
set_option maxRecDepth 100000
theorem y_tw {args : Array Value} {s : State} (hts : ∀ w ∈ lw_all, w.before args s = true) (lU : (Cond.laysStatic Bundle.tN "UNASSIGNED_STACK" Bundle.steD).before args s = true) (lN : (Cond.laysStatic Bundle.tN "SUPPRESSED_SENTINEL" Bundle.listD).before args s = true) : ∀ a ∈ Bundle.throwableAtoms, a.before args s = true := (List.forall_mem_cons.mpr ⟨hts _ q96, (List.forall_mem_cons.mpr ⟨hts _ q312, (List.forall_mem_cons.mpr ⟨hts _ q321, (List.forall_mem_cons.mpr ⟨hts _ q324, (List.forall_mem_cons.mpr ⟨hts _ q327, (List.forall_mem_cons.mpr ⟨hts _ q329, (List.forall_mem_cons.mpr ⟨hts _ q313, (List.forall_mem_cons.mpr ⟨hts _ q314, (List.forall_mem_cons.mpr ⟨hts _ q118, (List.forall_mem_cons.mpr ⟨hts _ q119, (List.forall_mem_cons.mpr ⟨hts _ q315, (List.forall_mem_cons.mpr ⟨hts _ q320, (List.forall_mem_cons.mpr ⟨hts _ q325, (List.forall_mem_cons.mpr ⟨hts _ q345, (List.forall_mem_cons.mpr ⟨hts _ q302, (List.forall_mem_cons.mpr ⟨hts _ q346, (List.forall_mem_cons.mpr ⟨hts _ q304, (List.forall_mem_cons.mpr ⟨hts _ q347, (List.forall_mem_cons.mpr ⟨hts _ q306, (List.forall_mem_cons.mpr ⟨hts _ q316, (List.forall_mem_cons.mpr ⟨lU, (List.forall_mem_cons.mpr ⟨hts _ q318, (List.forall_mem_cons.mpr ⟨lN, (List.forall_mem_cons.mpr ⟨hts _ q308, (fun _ h9 => absurd h9 List.not_mem_nil)⟩)⟩)⟩)⟩)⟩)⟩)⟩)⟩)⟩)⟩)⟩)⟩)⟩)⟩)⟩)⟩)⟩)⟩)⟩)⟩)⟩)⟩)⟩)⟩)
theorem y_cw {args : Array Value} {s : State} (hts : ∀ w ∈ lw_all, w.before args s = true) (hN : NW s) : ∀ a ∈ Bundle.chain0Atoms "java/lang/RuntimeException" ["java/lang/Exception"], a.before args s = true := List.forall_mem_append.mpr ⟨(List.forall_mem_cons.mpr ⟨hts _ q337, (List.forall_mem_cons.mpr ⟨hts _ q338, (List.forall_mem_cons.mpr ⟨hts _ q339, (List.forall_mem_cons.mpr ⟨hts _ q340, (List.forall_mem_cons.mpr ⟨va_Nw.use rfl (hN.D 3 rfl), (fun _ h9 => absurd h9 List.not_mem_nil)⟩)⟩)⟩)⟩)⟩), (List.forall_mem_cons.mpr ⟨hts _ q340, (List.forall_mem_cons.mpr ⟨hts _ q341, (List.forall_mem_cons.mpr ⟨hts _ q342, (List.forall_mem_cons.mpr ⟨hts _ q313, (List.forall_mem_cons.mpr ⟨va_Nw.use rfl (hN.D 5 rfl), (fun _ h9 => absurd h9 List.not_mem_nil)⟩)⟩)⟩)⟩)⟩)⟩

set_option maxHeartbeats 4000000 in
/-- Refusal's constructor goes on to its class above: the new object is of the class PulledFromUnder$Refused -/
theorem y_super_X11 {p : Program} {l : Launch} {e : Env} {R : Room} {s : State} {m : MethodId} {args : Array Value} {below : List Frame} {meth : Method} {c : Code} {cells slots : Nat} {Q : State → Prop} {G : xG} {cc : ByteArray} {nL pc : Nat} {ls : Array Slot} {A : Nat → Prop} {rest : List Value} (C0 : CallFix p m c cc nL s args lw_all RX10) (hl0 : l.stackTraces = false) (hK : KK G s) (hZ : ZZ A s s.heap) (hA : ∀ q, s.heap.size ≤ q → A q) {a : Nat} (hAa : A a) (hfr : mFr RX11 a s s.heap) (hsize : ls.size = nL) (hdg : decode cc pc = .ok (.invokespecial 1, 3)) (hR1 : 4 < R.frames) (hR2 : (rest.map fun v => v.category).sum + 67 ≤ R.locals)
    (kk : ∀ (u : Value × Value) (H1 : Heap) (locs1 : List Loc), va_P G.1 vwCl [(a, .inr (9, [.ref a, u.1, u.2, .null, .null, .int 0, .int 0]))] H1 → va_S A s.heap H1 locs1 → W p l e R s m args below meth c H1 locs1 cells slots Q (F0 m (pc + 3) ls rest)) : W p l e R s m args below meth c s.heap [] cells slots Q (F0 m pc ls (.ref a :: rest)) := by
  obtain ⟨hx, hb, hml, hown, hts⟩ := C0
  obtain ⟨cX, kX, hfX, hkX, hord, hcell⟩ := hfr
  intro T hT X
  have htr : e.platform.stackTraces = false := (show e.platform.stackTraces = l.stackTraces by rw [X.admits.platform]).trans hl0
  have hin0 : (Cond.instanceMethod (Bundle.init0 "java/lang/RuntimeException")).before args s = true := hts _ q337
  have hco0 : (Cond.code (Bundle.init0 "java/lang/RuntimeException") Bundle.five 1 none).before args s = true := hts _ q338
  have hown9 : s.vm.findClass "PulledFromUnder$Refusal" = some m.cls := hown
  obtain ⟨V, u0, sen, L, cT, kT, i1, i2, i3, f1, f2, f3, e1, e2, e3, X2, hL, hlt, hVh, st⟩ := y_super0 X hx htr (cls := "java/lang/RuntimeException") (names := ["java/lang/Exception"]) (xC := RX11) (ic := 1) hown9 (by decide) (by decide) (y_tw hts hZ.1.2.word hZ.2.2.word) (y_cw hts hK.2) hin0 hco0
    (List.forall_mem_cons.mpr ⟨hts _ q336, (List.forall_mem_cons.mpr ⟨hts _ q299, (List.forall_mem_cons.mpr ⟨hts _ q300, (List.forall_mem_cons.mpr ⟨hts _ q301, (List.forall_mem_cons.mpr ⟨hts _ q303, (List.forall_mem_cons.mpr ⟨hts _ q305, (List.forall_mem_cons.mpr ⟨hts _ q307, (List.forall_mem_cons.mpr ⟨vy_isRefq hZ.1.1, (List.forall_mem_cons.mpr ⟨vy_isRefq hZ.2.1, (List.forall_mem_cons.mpr ⟨hts _ q311, (List.forall_mem_cons.mpr ⟨hts _ q310, (List.forall_mem_cons.mpr ⟨hts _ q309, (fun _ h9 => absurd h9 List.not_mem_nil)⟩)⟩)⟩)⟩)⟩)⟩)⟩)⟩)⟩)⟩)⟩)⟩)
    (fun x hx => nomatch hx) hfX hkX hord (by rw [hT]; exact hcell) (a := a) (fun cT kT aS h1 h2 h3 => by
      obtain ⟨c9, k9, i9, f9, a9, cell9, g1, g2, g3, g4, g5, g6, g7, g8, g9, g10⟩ := hZ.1.2
      intro q
      have hf9 := (State.fieldFound?_class g2)
      cases h1.symm.trans g1
      cases h2.symm.trans hf9
      cases h3.symm.trans g4
      exact g10 (by rw [q]; exact hAa))
    (g := F0 m pc ls (.ref a :: rest)) rfl (hsize.trans hml.symm) rfl (by rw [hb]; exact hdg) hR1 (by
      show 2 * 0 + _ + _ ≤ _
      simp only [List.length_cons, List.length_nil]
      omega)
  have hKn := hK.1.1 9 _ rfl
  have hcC : cX = G.1.1 9 := Option.some.inj (hfX.symm.trans hKn.2.1)
  obtain ⟨cell0, b1, b2, b3, b4⟩ := u_born tyX11 (T := TX11) (N := 7) hts in_X11 hKn (by rw [← hcC]; exact hkX) (o := a) (H := s.heap) (by rw [hcell, hcC]; rfl) tyX11_ok
  have hc0 : cell0 = freshCell cX kX := Option.some.inj (b1.symm.trans hcell)
  rw [hc0] at b4
  have hap := va_apart (own := RX10) (D := G.1) hts in_X11 tyX11 tyX11_ok nmX11 hK.1 (ci := 9) rfl
  have sl : ∀ (k : Nat) (hk : k < 7) {c9 i9 : Nat} {k9 : Class} {f9 : Field}, s.fieldFound? (TX11 k).1 (TX11 k).2.1 (TX11 k).2.2.1 = some (c9, k9, i9, f9) → f9.slot = G.1.2 9 k := by
    intro k hk c9 i9 k9 f9 h
    obtain ⟨c8, k8, i8, f8, h8, h9⟩ := hKn.1 k hk
    have := h.symm.trans h8
    cases this
    exact h9
  have s1 : f1.slot = G.1.2 9 0 := sl 0 (by decide) e1
  have s2 : f2.slot = G.1.2 9 1 := sl 1 (by decide) e2
  have s3 : f3.slot = G.1.2 9 2 := sl 2 (by decide) e3
  have t1 := t_set b4 hap (k := 0) (by decide) (.ref a)
  have t2 := t_set t1 hap (k := 1) (by decide) u0
  have t3 := t_set t2 hap (k := 2) (by decide) sen
  have t4 := t_set t3 hap (k := 1) (by decide) u0
  rw [s1, s2, s3] at X2 st
  obtain ⟨cF, hcF⟩ : ∃ z, z = ((((freshCell cX kX).setSlot (G.1.2 9 0) (.ref a)).setSlot (G.1.2 9 1) u0).setSlot (G.1.2 9 2) sen).setSlot (G.1.2 9 1) u0 := ⟨_, rfl⟩
  rw [← hcF] at X2 st t4
  have hself : (V.setCell a cF).heap[a]? = some cF := heapAt_setCell_self (s := V) cF hlt
  have hoth : ∀ q : Nat, q ≠ a → (V.setCell a cF).heap[q]? = s.heap[q]? := fun q hq => by rw [heapAt_setCell_ne _ (Ne.symm hq), hVh, hT]
  have hszF : (V.setCell a cF).heap.size = s.heap.size := by rw [size_setCell, hVh, hT]
  obtain ⟨t, a1, b1⟩ := kk (u0, sen) (V.setCell a cF).heap ([] ++ L) (fun k q hk => by
      have hz : k < 1 := (List.getElem?_eq_some_iff.mp hk).1
      rw [show k = 0 by omega] at hk
      cases hk
      refine ⟨_, rfl, cF, hself, ?_, ?_, fun j hj => ?_⟩
      · rw [hcF]; exact hcC
      · rw [hcF]; rfl
      · have hj : j < 7 := hj
        rw [t4 j hj]
        rcases (show j = 0 ∨ j = 1 ∨ j = 2 ∨ j = 3 ∨ j = 4 ∨ j = 5 ∨ j = 6 by omega) with rfl | rfl | rfl | rfl | rfl | rfl | rfl <;> rfl)
    ⟨by rw [hszF]; exact Nat.le_refl _, fun q h1 h2 => hoth q (fun e => h2 (by rw [e]; exact hAa)), fun z hz => by
      rw [List.nil_append] at hz
      rw [hL z hz]; exact hAa⟩ _ rfl X2
  exact ⟨t, st t a1, b1⟩

set_option maxHeartbeats 4000000 in
/-- Refusal's constructor goes on to its class above: the new object is of the class PulledFromUnder$Fault -/
theorem y_super_X13 {p : Program} {l : Launch} {e : Env} {R : Room} {s : State} {m : MethodId} {args : Array Value} {below : List Frame} {meth : Method} {c : Code} {cells slots : Nat} {Q : State → Prop} {G : xG} {cc : ByteArray} {nL pc : Nat} {ls : Array Slot} {A : Nat → Prop} {rest : List Value} (C0 : CallFix p m c cc nL s args lw_all RX10) (hl0 : l.stackTraces = false) (hK : KK G s) (hZ : ZZ A s s.heap) (hA : ∀ q, s.heap.size ≤ q → A q) {a : Nat} (hAa : A a) (hfr : mFr RX13 a s s.heap) (hsize : ls.size = nL) (hdg : decode cc pc = .ok (.invokespecial 1, 3)) (hR1 : 4 < R.frames) (hR2 : (rest.map fun v => v.category).sum + 67 ≤ R.locals)
    (kk : ∀ (u : Value × Value) (H1 : Heap) (locs1 : List Loc), va_P G.1 vwCl [(a, .inr (11, [.ref a, u.1, u.2, .null, .null, .int 0, .int 0]))] H1 → va_S A s.heap H1 locs1 → W p l e R s m args below meth c H1 locs1 cells slots Q (F0 m (pc + 3) ls rest)) : W p l e R s m args below meth c s.heap [] cells slots Q (F0 m pc ls (.ref a :: rest)) := by
  obtain ⟨hx, hb, hml, hown, hts⟩ := C0
  obtain ⟨cX, kX, hfX, hkX, hord, hcell⟩ := hfr
  intro T hT X
  have htr : e.platform.stackTraces = false := (show e.platform.stackTraces = l.stackTraces by rw [X.admits.platform]).trans hl0
  have hin0 : (Cond.instanceMethod (Bundle.init0 "java/lang/RuntimeException")).before args s = true := hts _ q337
  have hco0 : (Cond.code (Bundle.init0 "java/lang/RuntimeException") Bundle.five 1 none).before args s = true := hts _ q338
  have hown9 : s.vm.findClass "PulledFromUnder$Refusal" = some m.cls := hown
  obtain ⟨V, u0, sen, L, cT, kT, i1, i2, i3, f1, f2, f3, e1, e2, e3, X2, hL, hlt, hVh, st⟩ := y_super0 X hx htr (cls := "java/lang/RuntimeException") (names := ["java/lang/Exception"]) (xC := RX13) (ic := 1) hown9 (by decide) (by decide) (y_tw hts hZ.1.2.word hZ.2.2.word) (y_cw hts hK.2) hin0 hco0
    (List.forall_mem_cons.mpr ⟨hts _ q336, (List.forall_mem_cons.mpr ⟨hts _ q397, (List.forall_mem_cons.mpr ⟨hts _ q323, (List.forall_mem_cons.mpr ⟨hts _ q398, (List.forall_mem_cons.mpr ⟨hts _ q399, (List.forall_mem_cons.mpr ⟨hts _ q400, (List.forall_mem_cons.mpr ⟨hts _ q401, (List.forall_mem_cons.mpr ⟨vy_isRefq hZ.1.1, (List.forall_mem_cons.mpr ⟨vy_isRefq hZ.2.1, (List.forall_mem_cons.mpr ⟨hts _ q311, (List.forall_mem_cons.mpr ⟨hts _ q310, (List.forall_mem_cons.mpr ⟨hts _ q402, (fun _ h9 => absurd h9 List.not_mem_nil)⟩)⟩)⟩)⟩)⟩)⟩)⟩)⟩)⟩)⟩)⟩)⟩)
    (fun x hx => nomatch hx) hfX hkX hord (by rw [hT]; exact hcell) (a := a) (fun cT kT aS h1 h2 h3 => by
      obtain ⟨c9, k9, i9, f9, a9, cell9, g1, g2, g3, g4, g5, g6, g7, g8, g9, g10⟩ := hZ.1.2
      intro q
      have hf9 := (State.fieldFound?_class g2)
      cases h1.symm.trans g1
      cases h2.symm.trans hf9
      cases h3.symm.trans g4
      exact g10 (by rw [q]; exact hAa))
    (g := F0 m pc ls (.ref a :: rest)) rfl (hsize.trans hml.symm) rfl (by rw [hb]; exact hdg) hR1 (by
      show 2 * 0 + _ + _ ≤ _
      simp only [List.length_cons, List.length_nil]
      omega)
  have hKn := hK.1.1 11 _ rfl
  have hcC : cX = G.1.1 11 := Option.some.inj (hfX.symm.trans hKn.2.1)
  obtain ⟨cell0, b1, b2, b3, b4⟩ := u_born tyX13 (T := TX13) (N := 7) hts in_X13 hKn (by rw [← hcC]; exact hkX) (o := a) (H := s.heap) (by rw [hcell, hcC]; rfl) tyX13_ok
  have hc0 : cell0 = freshCell cX kX := Option.some.inj (b1.symm.trans hcell)
  rw [hc0] at b4
  have hap := va_apart (own := RX10) (D := G.1) hts in_X13 tyX13 tyX13_ok nmX13 hK.1 (ci := 11) rfl
  have sl : ∀ (k : Nat) (hk : k < 7) {c9 i9 : Nat} {k9 : Class} {f9 : Field}, s.fieldFound? (TX13 k).1 (TX13 k).2.1 (TX13 k).2.2.1 = some (c9, k9, i9, f9) → f9.slot = G.1.2 11 k := by
    intro k hk c9 i9 k9 f9 h
    obtain ⟨c8, k8, i8, f8, h8, h9⟩ := hKn.1 k hk
    have := h.symm.trans h8
    cases this
    exact h9
  have s1 : f1.slot = G.1.2 11 0 := sl 0 (by decide) e1
  have s2 : f2.slot = G.1.2 11 1 := sl 1 (by decide) e2
  have s3 : f3.slot = G.1.2 11 2 := sl 2 (by decide) e3
  have t1 := t_set b4 hap (k := 0) (by decide) (.ref a)
  have t2 := t_set t1 hap (k := 1) (by decide) u0
  have t3 := t_set t2 hap (k := 2) (by decide) sen
  have t4 := t_set t3 hap (k := 1) (by decide) u0
  rw [s1, s2, s3] at X2 st
  obtain ⟨cF, hcF⟩ : ∃ z, z = ((((freshCell cX kX).setSlot (G.1.2 11 0) (.ref a)).setSlot (G.1.2 11 1) u0).setSlot (G.1.2 11 2) sen).setSlot (G.1.2 11 1) u0 := ⟨_, rfl⟩
  rw [← hcF] at X2 st t4
  have hself : (V.setCell a cF).heap[a]? = some cF := heapAt_setCell_self (s := V) cF hlt
  have hoth : ∀ q : Nat, q ≠ a → (V.setCell a cF).heap[q]? = s.heap[q]? := fun q hq => by rw [heapAt_setCell_ne _ (Ne.symm hq), hVh, hT]
  have hszF : (V.setCell a cF).heap.size = s.heap.size := by rw [size_setCell, hVh, hT]
  obtain ⟨t, a1, b1⟩ := kk (u0, sen) (V.setCell a cF).heap ([] ++ L) (fun k q hk => by
      have hz : k < 1 := (List.getElem?_eq_some_iff.mp hk).1
      rw [show k = 0 by omega] at hk
      cases hk
      refine ⟨_, rfl, cF, hself, ?_, ?_, fun j hj => ?_⟩
      · rw [hcF]; exact hcC
      · rw [hcF]; rfl
      · have hj : j < 7 := hj
        rw [t4 j hj]
        rcases (show j = 0 ∨ j = 1 ∨ j = 2 ∨ j = 3 ∨ j = 4 ∨ j = 5 ∨ j = 6 by omega) with rfl | rfl | rfl | rfl | rfl | rfl | rfl <;> rfl)
    ⟨by rw [hszF]; exact Nat.le_refl _, fun q h1 h2 => hoth q (fun e => h2 (by rw [e]; exact hAa)), fun z hz => by
      rw [List.nil_append] at hz
      rw [hL z hz]; exact hAa⟩ _ rfl X2
  exact ⟨t, st t a1, b1⟩

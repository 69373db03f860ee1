/-! a refusal and a fault: made at a method's frame (printed by tools/mkrefuse.py) -/
set_option maxRecDepth 100000
def xA1 (a sz : Nat) : Nat → Prop := fun q => q = a ∨ sz ≤ q
theorem ZZ.at {A B : Nat → Prop} {s U : State} {H : Heap} {locs : List Loc} (h : ZZ A s s.heap) (hS : va_S A s.heap H locs) (hW : s.WarmedH U.vm) (hU : U.heap = H) (hAB : ∀ q, B q → A q) : ZZ B U U.heap := by
  rw [hU]
  exact ((h.kept (fun a h1 h2 => hS.2.1 a h1 h2)).moved hW.alike).narrow hAB

set_option maxHeartbeats 4000000 in
theorem c_Refusal_X11 (l : Launch) (hl0 : l.stackTraces = false) (G : xG) (a sz : Nat) : Met l yX10_init (ws_ yX10_init cX10_init 1 none) ({ frames := 5, cells := 0, slots := 0, locals := 67 } : Room) (va_Pc [.ref a] (fun U => U.heap.size = sz ∧ KK G U ∧ mFr RX11 a U U.heap ∧ ZZ (xA1 a sz) U U.heap)) (va_Qv (fun _ : Value × Value => True) (fun u t => va_P G.1 vwCl [(a, .inr (9, [.ref a, u.1, u.2, .null, .null, .int 0, .int 0]))] t.heap) (xA1 a sz)) 0 0 (xA1 a sz) := by
  refine Met.ofW (cc := cX10_init) (maxL := 1) (ret := none) (by decide) rfl ?_
  intro p e s m args below meth c s₁ B hml hv
  obtain ⟨rfl, hsz, hK, hfr, hZ⟩ := hv
  have hx := B.exec
  have hb := B.bytes
  have hr := B.returns
  have hts := atoms_spec (ws := ws_ yX10_init cX10_init 1 none) B.pre
  have hts : ∀ w ∈ lw_all, w.before _ s = true := fun w h => hts w (List.mem_cons_of_mem _ h)
  have hown : s.vm.findClass RX10 = some m.cls := findClass_of_methodNamed B.named
  subst hsz
  have hl := lv_entry ([.ref a]) (n := 1) (Nat.le_of_ble_eq_true rfl)
  rw [lg_entry_eq]
  generalize (lg_sl ([.ref a]) ++ List.replicate (1 - (lg_sl ([.ref a])).length) Slot.unset).toArray = ls at hl ⊢
  have hl : lv_has ls 1 [(0, .ref a)] := hl
  refine lv_aload_n hx hb dX10_init_0 rfl (lv_at hl 0 rfl) ?_
  refine y_super_X11 ⟨hx, hb, hml, hown, hts⟩ hl0 hK hZ (fun q h => Or.inr h) (Or.inl rfl) hfr hl.1 dX10_init_1 (Nat.le_of_ble_eq_true rfl) (Nat.le_of_ble_eq_true rfl) (fun u H locs hP hS => ?_)
  exact W.vret hx hb hr (fun t ht hW => ⟨⟨u, rfl, trivial, by show va_P _ _ _ t.heap; rw [ht]; exact hP⟩, hS.F ht⟩) hS.2.2 dX10_init_4
set_option maxHeartbeats 4000000 in
theorem c_Refuse_X11 (l : Launch) (hl0 : l.stackTraces = false) (G : xG) (a sz : Nat) (k : Int32) : Met l yX11_init (ws_ yX11_init cX11_init 2 none) ({ frames := 6, cells := 0, slots := 0, locals := 87 } : Room) (va_Pc [.ref a, .int k] (fun U => U.heap.size = sz ∧ KK G U ∧ mFr RX11 a U U.heap ∧ ZZ (xA1 a sz) U U.heap)) (va_Qv (fun _ : Value × Value => True) (fun u t => va_P G.1 vwCl [(a, .inr (9, [.ref a, u.1, u.2, .null, .null, .int 0, .int k]))] t.heap) (xA1 a sz)) 0 0 (xA1 a sz) := by
  refine Met.ofW (cc := cX11_init) (maxL := 2) (ret := none) (by decide) rfl ?_
  intro p e s m args below meth c s₁ B hml hv
  obtain ⟨rfl, hsz, hK, hfr, hZ⟩ := hv
  have hx := B.exec
  have hb := B.bytes
  have hr := B.returns
  have hts := atoms_spec (ws := ws_ yX11_init cX11_init 2 none) B.pre
  have hts : ∀ w ∈ lw_all, w.before _ s = true := fun w h => hts w (List.mem_cons_of_mem _ h)
  have hown : s.vm.findClass RX11 = some m.cls := findClass_of_methodNamed B.named
  have hin : meth.name = "<init>" := (name_of_methodNamed B.named B.method).1
  subst hsz
  have hl := lv_entry ([.ref a, .int k]) (n := 2) (Nat.le_of_ble_eq_true rfl)
  rw [lg_entry_eq]
  generalize (lg_sl ([.ref a, .int k]) ++ List.replicate (2 - (lg_sl ([.ref a, .int k])).length) Slot.unset).toArray = ls at hl ⊢
  have hl : lv_has ls 2 [(0, .ref a), (1, .int k)] := hl
  have hS : va_S (xA1 a s.heap.size) s.heap s.heap [] := va_S.rf
  refine lv_aload_n hx hb dX11_init_0 rfl (lv_at hl 0 rfl) ?_
  refine va_callv (va_runIN (As := []) (rest := []) ⟨hx, hb, hml, hown, hts⟩ (c_Refusal_X11 l hl0 G a s.heap.size) ⟨va_cnB 0 hts (lw_meth q335) rfl rfl rfl (hK.2.M 13 rfl) (hts _ q99) (by decide +kernel) ⟨Nat.le_of_ble_eq_true rfl, Nat.le_of_ble_eq_true rfl⟩, rfl, hts _ q334⟩ ⟨fun a U g mk q => by obtain ⟨q0, q1, q2, q3, q4⟩ := q; exact ⟨q0, q1, q2.same rfl, mFr.moved (Vm.Alike.refl _) q3, ZZ.moved (Vm.Alike.refl _) q4⟩, fun U hU hW => ⟨rfl, by rw [hU], hK.warm hW, by rw [hU]; exact hfr.moved hW.alike, hZ.at hS hW hU (fun q h => h)⟩⟩ rfl rfl hl.1 rfl (lv_room (Nat.le_of_ble_eq_true rfl)) dX11_init_1 ⟨Nat.le_of_ble_eq_true rfl, Nat.le_of_ble_eq_true rfl⟩) hS (fun q _ h => h) (fun q h => h) (fun u t H1 locs ht hvm hw hB hz1 hk1 hS => ?_)
  rw [ht] at hB
  generalize H1 = H at hB hS ⊢
  have hD : va_D (xA1 a s.heap.size) [(a, (.inr (9, [.ref a, u.1, u.2, .null, .null, .int 0, .int 0]) : va_E))] := ⟨fun i j p q h1 h2 _ => by
      have := (List.getElem?_eq_some_iff.mp h1).1
      have := (List.getElem?_eq_some_iff.mp h2).1
      simp at *
      omega, fun i q h => by
      have := (List.getElem?_eq_some_iff.mp h).1
      rw [show i = 0 by simp at this; omega] at h
      cases h
      exact Or.inl rfl⟩
  refine lv_aload_n hx hb dX11_init_4 rfl (lv_at hl 0 rfl) ?_
  refine lv_iload_n hx hb dX11_init_5 rfl (lv_at hl 1 rfl) ?_
  refine va_putF (D := G.1) (ci := 9) (v := .int k) (ty := .int) (C := RX11) (T := TX11) (N := 7) hx hb hts in_X11 tyX11 tyX11_ok nmX11 hown hK.1 hB hD hS 0 rfl rfl 6 (by decide) (hts _ q343) (fun _ h9 => h9) rfl hin rfl (by decide +kernel) rfl rfl (Nat.le_of_ble_eq_true rfl) dX11_init_6 (fun H locs hP hD hS => ?_)
  exact W.vret hx hb hr (fun t ht hW => ⟨⟨u, rfl, trivial, by show va_P _ _ _ t.heap; rw [ht]; exact hP⟩, hS.F ht⟩) hS.2.2 dX11_init_9
set_option maxHeartbeats 4000000 in
/-- new PulledFromUnder$Refused -/
theorem y_new_X11 {p : Program} {l : Launch} {e : Env} {R : Room} {s : State} {m : MethodId} {args : Array Value} {below : List Frame} {meth : Method} {c : Code} {H : Heap} {locs : List Loc} {cells slots : Nat} {Q : State → Prop} {G : xG} {cc : ByteArray} {nL pc idx : Nat} {own : String} {ls : Array Slot} {A : Nat → Prop} {ws : va_W} {rest : List Value} (hX : xS G p m c cc nL s args own A ws H locs) (hcl : (Cond.classLink own idx RX11).before args s = true) (hdg : decode cc pc = .ok (.new idx, 3)) (hc : cells + 1 ≤ R.cells) (hs : slots + 7 ≤ R.slots)
    (kk : ∀ (q : Nat) (H1 : Heap), mFr RX11 q s H1 → A q → (∀ (k : Nat) (x : Nat × va_E), ws[k]? = some x → x.1 ≠ q) → xS G p m c cc nL s args own A ws H1 locs → W p l e R s m args below meth c H1 locs (cells + 1) (slots + 7) Q (F0 m (pc + 3) ls (.ref q :: rest))) : W p l e R s m args below meth c H locs cells slots Q (F0 m pc ls rest) := by
  obtain ⟨C0, hK, hP, hD, hS, hA⟩ := hX
  obtain ⟨hx, hb, hml, hown, hts⟩ := id C0
  refine W.newc (C := RX11) (n := 7) hx hb hown hcl (hts _ q290) (hts _ q100) rfl hdg hc hs (fun cC kC h1 h2 h3 h4 => ?_)
  refine kk H.size _ ⟨cC, kC, h1, h2, h3, by simp⟩ (hA _ hS.1) (fun k x hx9 => Nat.ne_of_lt ((hP k x hx9).lt)) ⟨C0, hK, hP.kept (fun k x hx9 => ?_), hD, ⟨?_, fun q h5 h6 => ?_, hS.2.2⟩, hA⟩
  · rw [Array.getElem?_push, if_neg (Nat.ne_of_lt ((hP k x hx9).lt))]
  · rw [Array.size_push]; exact Nat.le_succ_of_le hS.1
  · rw [Array.getElem?_push, if_neg (Nat.ne_of_lt (Nat.lt_of_lt_of_le h5 hS.1))]
    exact hS.2.1 q h5 h6
set_option maxHeartbeats 4000000 in
/-- .. and its constructor -/
theorem y_ctor_X11 {p : Program} {l : Launch} {e : Env} {R : Room} {s : State} {m : MethodId} {args : Array Value} {below : List Frame} {meth : Method} {c : Code} {H : Heap} {locs : List Loc} {cells slots : Nat} {Q : State → Prop} {G : xG} {cc : ByteArray} {nL pc idx : Nat} {own : String} {ls : Array Slot} {A : Nat → Prop} {ws : va_W} {rest : List Value} (hX : xS G p m c cc nL s args own A ws H locs) (hl0 : l.stackTraces = false) (hZ : ZZ A s s.heap) {a : Nat} {k : Int32} (hfr : mFr RX11 a s H) (hAa : A a) (hne : ∀ (k : Nat) (x : Nat × va_E), ws[k]? = some x → x.1 ≠ a) (hlink : (Cond.methodLink own idx yX11_init).before args s = true) (hsize : ls.size = nL) (hW : (rest.map fun v => v.category).sum ≤ 8) (hdg : decode cc pc = .ok (.invokespecial idx, 3)) (hR : 6 + 1 ≤ R.frames ∧ 8 + (2 + 11) + 87 ≤ R.locals) (hf : cells ≤ R.cells ∧ slots ≤ R.slots)
    (kk : ∀ (u : Value × Value) (H1 : Heap) (locs1 : List Loc), va_P G.1 vwCl (ws ++ [(a, .inr (9, [.ref a, u.1, u.2, .null, .null, .int 0, .int k]))]) H1 → va_D A (ws ++ [(a, .inr (9, [.ref a, u.1, u.2, .null, .null, .int 0, .int k]))]) → va_S A s.heap H1 locs1 → W p l e R s m args below meth c H1 locs1 cells slots Q (F0 m (pc + 3) ls rest)) : W p l e R s m args below meth c H locs cells slots Q (F0 m pc ls (.int k :: .ref a :: rest)) := by
  obtain ⟨C0, hK, hP, hD, hS, hA⟩ := hX
  obtain ⟨hx, hb, hml, hown, hts⟩ := id C0
  have hF : ∀ q, xA1 a H.size q → A q := fun q h => by
    rcases h with h | h
    · rw [h]; exact hAa
    · exact hA q (Nat.le_trans hS.1 h)
  refine va_callv (mc := 0) (ms := 0) (va_runI (As := [.int k]) (rest := rest) C0 (c_Refuse_X11 l hl0 G a H.size k) (cwI 1 hts (lw_meth q332) rfl rfl rfl (hts _ q100) hlink (hts _ q331) rfl (by decide +kernel) hR) ⟨fun a U g mk q => by obtain ⟨q0, q1, q2, q3, q4⟩ := q; exact ⟨q0, q1, q2.same rfl, mFr.moved (Vm.Alike.refl _) q3, ZZ.moved (Vm.Alike.refl _) q4⟩, fun U hU hW => ⟨rfl, by rw [hU], hK.warm hW, by rw [hU]; exact hfr.moved hW.alike, hZ.at hS hW hU hF⟩⟩ rfl rfl hsize rfl (lv_room hW) hdg hf) hS (fun q _ h => hF q h) hF (fun u t H1 locs1 ht hvm hw hB hz1 hk1 hS1 => ?_)
  rw [ht] at hB
  have hP1 : va_P G.1 vwCl ws H1 := hP.kept (fun i x hi => hk1 x.1 ((hP i x hi).lt) (fun z => by
    rcases z with z | z
    · exact hne i x hi z
    · exact absurd (hP i x hi).lt (Nat.not_lt.mpr z)))
  refine kk u H1 locs1 (hP1.app hB) (hD.app ⟨fun i j p q h1 h2 _ => ?_, fun i q h => ?_⟩ (fun i j x y h1 h2 h3 => ?_)) hS1
  · have := (List.getElem?_eq_some_iff.mp h1).1
    have := (List.getElem?_eq_some_iff.mp h2).1
    simp at *
    omega
  · have := (List.getElem?_eq_some_iff.mp h).1
    rw [show i = 0 by simp at this; omega] at h
    cases h
    exact hAa
  · have := (List.getElem?_eq_some_iff.mp h2).1
    rw [show j = 0 by simp at this; omega] at h2
    cases h2
    exact hne i x h1 h3

set_option maxHeartbeats 4000000 in
theorem c_Refusal_X13 (l : Launch) (hl0 : l.stackTraces = false) (G : xG) (a sz : Nat) : Met l yX10_init (ws_ yX10_init cX10_init 1 none) ({ frames := 5, cells := 0, slots := 0, locals := 67 } : Room) (va_Pc [.ref a] (fun U => U.heap.size = sz ∧ KK G U ∧ mFr RX13 a U U.heap ∧ ZZ (xA1 a sz) U U.heap)) (va_Qv (fun _ : Value × Value => True) (fun u t => va_P G.1 vwCl [(a, .inr (11, [.ref a, u.1, u.2, .null, .null, .int 0, .int 0]))] t.heap) (xA1 a sz)) 0 0 (xA1 a sz) := by
  refine Met.ofW (cc := cX10_init) (maxL := 1) (ret := none) (by decide) rfl ?_
  intro p e s m args below meth c s₁ B hml hv
  obtain ⟨rfl, hsz, hK, hfr, hZ⟩ := hv
  have hx := B.exec
  have hb := B.bytes
  have hr := B.returns
  have hts := atoms_spec (ws := ws_ yX10_init cX10_init 1 none) B.pre
  have hts : ∀ w ∈ lw_all, w.before _ s = true := fun w h => hts w (List.mem_cons_of_mem _ h)
  have hown : s.vm.findClass RX10 = some m.cls := findClass_of_methodNamed B.named
  subst hsz
  have hl := lv_entry ([.ref a]) (n := 1) (Nat.le_of_ble_eq_true rfl)
  rw [lg_entry_eq]
  generalize (lg_sl ([.ref a]) ++ List.replicate (1 - (lg_sl ([.ref a])).length) Slot.unset).toArray = ls at hl ⊢
  have hl : lv_has ls 1 [(0, .ref a)] := hl
  refine lv_aload_n hx hb dX10_init_0 rfl (lv_at hl 0 rfl) ?_
  refine y_super_X13 ⟨hx, hb, hml, hown, hts⟩ hl0 hK hZ (fun q h => Or.inr h) (Or.inl rfl) hfr hl.1 dX10_init_1 (Nat.le_of_ble_eq_true rfl) (Nat.le_of_ble_eq_true rfl) (fun u H locs hP hS => ?_)
  exact W.vret hx hb hr (fun t ht hW => ⟨⟨u, rfl, trivial, by show va_P _ _ _ t.heap; rw [ht]; exact hP⟩, hS.F ht⟩) hS.2.2 dX10_init_4
set_option maxHeartbeats 4000000 in
theorem c_Refuse_X13 (l : Launch) (hl0 : l.stackTraces = false) (G : xG) (a sz : Nat) (k : Int32) : Met l yX13_init (ws_ yX13_init cX13_init 2 none) ({ frames := 6, cells := 0, slots := 0, locals := 87 } : Room) (va_Pc [.ref a, .int k] (fun U => U.heap.size = sz ∧ KK G U ∧ mFr RX13 a U U.heap ∧ ZZ (xA1 a sz) U U.heap)) (va_Qv (fun _ : Value × Value => True) (fun u t => va_P G.1 vwCl [(a, .inr (11, [.ref a, u.1, u.2, .null, .null, .int 0, .int k]))] t.heap) (xA1 a sz)) 0 0 (xA1 a sz) := by
  refine Met.ofW (cc := cX13_init) (maxL := 2) (ret := none) (by decide) rfl ?_
  intro p e s m args below meth c s₁ B hml hv
  obtain ⟨rfl, hsz, hK, hfr, hZ⟩ := hv
  have hx := B.exec
  have hb := B.bytes
  have hr := B.returns
  have hts := atoms_spec (ws := ws_ yX13_init cX13_init 2 none) B.pre
  have hts : ∀ w ∈ lw_all, w.before _ s = true := fun w h => hts w (List.mem_cons_of_mem _ h)
  have hown : s.vm.findClass RX13 = some m.cls := findClass_of_methodNamed B.named
  have hin : meth.name = "<init>" := (name_of_methodNamed B.named B.method).1
  subst hsz
  have hl := lv_entry ([.ref a, .int k]) (n := 2) (Nat.le_of_ble_eq_true rfl)
  rw [lg_entry_eq]
  generalize (lg_sl ([.ref a, .int k]) ++ List.replicate (2 - (lg_sl ([.ref a, .int k])).length) Slot.unset).toArray = ls at hl ⊢
  have hl : lv_has ls 2 [(0, .ref a), (1, .int k)] := hl
  have hS : va_S (xA1 a s.heap.size) s.heap s.heap [] := va_S.rf
  refine lv_aload_n hx hb dX13_init_0 rfl (lv_at hl 0 rfl) ?_
  refine va_callv (va_runIN (As := []) (rest := []) ⟨hx, hb, hml, hown, hts⟩ (c_Refusal_X13 l hl0 G a s.heap.size) ⟨va_cnB 0 hts (lw_meth q335) rfl rfl rfl (hK.2.M 15 rfl) (hts _ q99) (by decide +kernel) ⟨Nat.le_of_ble_eq_true rfl, Nat.le_of_ble_eq_true rfl⟩, rfl, hts _ q334⟩ ⟨fun a U g mk q => by obtain ⟨q0, q1, q2, q3, q4⟩ := q; exact ⟨q0, q1, q2.same rfl, mFr.moved (Vm.Alike.refl _) q3, ZZ.moved (Vm.Alike.refl _) q4⟩, fun U hU hW => ⟨rfl, by rw [hU], hK.warm hW, by rw [hU]; exact hfr.moved hW.alike, hZ.at hS hW hU (fun q h => h)⟩⟩ rfl rfl hl.1 rfl (lv_room (Nat.le_of_ble_eq_true rfl)) dX13_init_1 ⟨Nat.le_of_ble_eq_true rfl, Nat.le_of_ble_eq_true rfl⟩) hS (fun q _ h => h) (fun q h => h) (fun u t H1 locs ht hvm hw hB hz1 hk1 hS => ?_)
  rw [ht] at hB
  generalize H1 = H at hB hS ⊢
  have hD : va_D (xA1 a s.heap.size) [(a, (.inr (11, [.ref a, u.1, u.2, .null, .null, .int 0, .int 0]) : va_E))] := ⟨fun i j p q h1 h2 _ => by
      have := (List.getElem?_eq_some_iff.mp h1).1
      have := (List.getElem?_eq_some_iff.mp h2).1
      simp at *
      omega, fun i q h => by
      have := (List.getElem?_eq_some_iff.mp h).1
      rw [show i = 0 by simp at this; omega] at h
      cases h
      exact Or.inl rfl⟩
  refine lv_aload_n hx hb dX13_init_4 rfl (lv_at hl 0 rfl) ?_
  refine lv_iload_n hx hb dX13_init_5 rfl (lv_at hl 1 rfl) ?_
  refine va_putF (D := G.1) (ci := 11) (v := .int k) (ty := .int) (C := RX13) (T := TX13) (N := 7) hx hb hts in_X13 tyX13 tyX13_ok nmX13 hown hK.1 hB hD hS 0 rfl rfl 6 (by decide) (hts _ q407) (fun _ h9 => h9) rfl hin rfl (by decide +kernel) rfl rfl (Nat.le_of_ble_eq_true rfl) dX13_init_6 (fun H locs hP hD hS => ?_)
  exact W.vret hx hb hr (fun t ht hW => ⟨⟨u, rfl, trivial, by show va_P _ _ _ t.heap; rw [ht]; exact hP⟩, hS.F ht⟩) hS.2.2 dX13_init_9
set_option maxHeartbeats 4000000 in
/-- new PulledFromUnder$Fault -/
theorem y_new_X13 {p : Program} {l : Launch} {e : Env} {R : Room} {s : State} {m : MethodId} {args : Array Value} {below : List Frame} {meth : Method} {c : Code} {H : Heap} {locs : List Loc} {cells slots : Nat} {Q : State → Prop} {G : xG} {cc : ByteArray} {nL pc idx : Nat} {own : String} {ls : Array Slot} {A : Nat → Prop} {ws : va_W} {rest : List Value} (hX : xS G p m c cc nL s args own A ws H locs) (hcl : (Cond.classLink own idx RX13).before args s = true) (hdg : decode cc pc = .ok (.new idx, 3)) (hc : cells + 1 ≤ R.cells) (hs : slots + 7 ≤ R.slots)
    (kk : ∀ (q : Nat) (H1 : Heap), mFr RX13 q s H1 → A q → (∀ (k : Nat) (x : Nat × va_E), ws[k]? = some x → x.1 ≠ q) → xS G p m c cc nL s args own A ws H1 locs → W p l e R s m args below meth c H1 locs (cells + 1) (slots + 7) Q (F0 m (pc + 3) ls (.ref q :: rest))) : W p l e R s m args below meth c H locs cells slots Q (F0 m pc ls rest) := by
  obtain ⟨C0, hK, hP, hD, hS, hA⟩ := hX
  obtain ⟨hx, hb, hml, hown, hts⟩ := id C0
  refine W.newc (C := RX13) (n := 7) hx hb hown hcl (hts _ q395) (hts _ q102) rfl hdg hc hs (fun cC kC h1 h2 h3 h4 => ?_)
  refine kk H.size _ ⟨cC, kC, h1, h2, h3, by simp⟩ (hA _ hS.1) (fun k x hx9 => Nat.ne_of_lt ((hP k x hx9).lt)) ⟨C0, hK, hP.kept (fun k x hx9 => ?_), hD, ⟨?_, fun q h5 h6 => ?_, hS.2.2⟩, hA⟩
  · rw [Array.getElem?_push, if_neg (Nat.ne_of_lt ((hP k x hx9).lt))]
  · rw [Array.size_push]; exact Nat.le_succ_of_le hS.1
  · rw [Array.getElem?_push, if_neg (Nat.ne_of_lt (Nat.lt_of_lt_of_le h5 hS.1))]
    exact hS.2.1 q h5 h6
set_option maxHeartbeats 4000000 in
/-- .. and its constructor -/
theorem y_ctor_X13 {p : Program} {l : Launch} {e : Env} {R : Room} {s : State} {m : MethodId} {args : Array Value} {below : List Frame} {meth : Method} {c : Code} {H : Heap} {locs : List Loc} {cells slots : Nat} {Q : State → Prop} {G : xG} {cc : ByteArray} {nL pc idx : Nat} {own : String} {ls : Array Slot} {A : Nat → Prop} {ws : va_W} {rest : List Value} (hX : xS G p m c cc nL s args own A ws H locs) (hl0 : l.stackTraces = false) (hZ : ZZ A s s.heap) {a : Nat} {k : Int32} (hfr : mFr RX13 a s H) (hAa : A a) (hne : ∀ (k : Nat) (x : Nat × va_E), ws[k]? = some x → x.1 ≠ a) (hlink : (Cond.methodLink own idx yX13_init).before args s = true) (hsize : ls.size = nL) (hW : (rest.map fun v => v.category).sum ≤ 8) (hdg : decode cc pc = .ok (.invokespecial idx, 3)) (hR : 6 + 1 ≤ R.frames ∧ 8 + (2 + 11) + 87 ≤ R.locals) (hf : cells ≤ R.cells ∧ slots ≤ R.slots)
    (kk : ∀ (u : Value × Value) (H1 : Heap) (locs1 : List Loc), va_P G.1 vwCl (ws ++ [(a, .inr (11, [.ref a, u.1, u.2, .null, .null, .int 0, .int k]))]) H1 → va_D A (ws ++ [(a, .inr (11, [.ref a, u.1, u.2, .null, .null, .int 0, .int k]))]) → va_S A s.heap H1 locs1 → W p l e R s m args below meth c H1 locs1 cells slots Q (F0 m (pc + 3) ls rest)) : W p l e R s m args below meth c H locs cells slots Q (F0 m pc ls (.int k :: .ref a :: rest)) := by
  obtain ⟨C0, hK, hP, hD, hS, hA⟩ := hX
  obtain ⟨hx, hb, hml, hown, hts⟩ := id C0
  have hF : ∀ q, xA1 a H.size q → A q := fun q h => by
    rcases h with h | h
    · rw [h]; exact hAa
    · exact hA q (Nat.le_trans hS.1 h)
  refine va_callv (mc := 0) (ms := 0) (va_runI (As := [.int k]) (rest := rest) C0 (c_Refuse_X13 l hl0 G a H.size k) (cwI 1 hts (lw_meth q405) rfl rfl rfl (hts _ q102) hlink (hts _ q404) rfl (by decide +kernel) hR) ⟨fun a U g mk q => by obtain ⟨q0, q1, q2, q3, q4⟩ := q; exact ⟨q0, q1, q2.same rfl, mFr.moved (Vm.Alike.refl _) q3, ZZ.moved (Vm.Alike.refl _) q4⟩, fun U hU hW => ⟨rfl, by rw [hU], hK.warm hW, by rw [hU]; exact hfr.moved hW.alike, hZ.at hS hW hU hF⟩⟩ rfl rfl hsize rfl (lv_room hW) hdg hf) hS (fun q _ h => hF q h) hF (fun u t H1 locs1 ht hvm hw hB hz1 hk1 hS1 => ?_)
  rw [ht] at hB
  have hP1 : va_P G.1 vwCl ws H1 := hP.kept (fun i x hi => hk1 x.1 ((hP i x hi).lt) (fun z => by
    rcases z with z | z
    · exact hne i x hi z
    · exact absurd (hP i x hi).lt (Nat.not_lt.mpr z)))
  refine kk u H1 locs1 (hP1.app hB) (hD.app ⟨fun i j p q h1 h2 _ => ?_, fun i q h => ?_⟩ (fun i j x y h1 h2 h3 => ?_)) hS1
  · have := (List.getElem?_eq_some_iff.mp h1).1
    have := (List.getElem?_eq_some_iff.mp h2).1
    simp at *
    omega
  · have := (List.getElem?_eq_some_iff.mp h).1
    rw [show i = 0 by simp at this; omega] at h
    cases h
    exact hAa
  · have := (List.getElem?_eq_some_iff.mp h2).1
    rw [show j = 0 by simp at this; omega] at h2
    cases h2
    exact hne i x h1 h3

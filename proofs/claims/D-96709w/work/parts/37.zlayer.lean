/-! THE LAYER, further: throwing calls that give a reference; methods that catch, and their callers; calls beside a tail of cells (printed by tools/mky2.py) -/
set_option maxRecDepth 100000
section YR
variable {p : Program} {l : Launch} {e : Env} {R : Room} {s : State} {m : MethodId} {args : Array Value} {below : List Frame} {meth : Method} {c : Code} {H : Heap} {locs : List Loc} {cells slots : Nat} {Q : State → Prop} {mc ms : Nat} {free : Addr → Prop} {A0 A1 : Nat → Prop} {H0 : Heap} {a : Array Value} {ls : Array Slot} {st0 rest : List Value} {pc : Nat}
theorem y_callr {S SX : Type} {post : S → Prop} {px : SX → Prop} {B : S → Nat → State → Prop} {BX : String → Addr → SX → State → Prop} {AX : Nat → Prop} (hr : vy_Run p l e R s m args below meth c H locs cells slots mc ms (F0 m pc ls st0) rest (va_Qr post B A1 a) (vy_X px BX AX) free) (hS : va_S A0 H0 H locs) (hA : ∀ q, q < H.size → A1 q → A0 q) (hf : ∀ q, free q → A0 q) (hAX : ∀ q, q < H.size → AX q → A0 q)
    (kx : ∀ (E : String) (ce : Cell) (q9 : Addr) (u : SX) (t : State) (H1 : Heap) (locs1 : List Loc), t.heap = H1 → s.vm.Alike t.vm → px u → BX E q9 u t → H.size ≤ H1.size → (∀ q : Nat, q < H.size → ¬ AX q → H1[q]? = H[q]?) → va_S A0 H0 H1 locs1 → H1[q9]? = some ce → ce.vm = .none → s.vm.findClass E = some ce.cls → vy_W p l e R s m args below meth c H1 locs1 (cells + mc) (slots + ms) Q (F0 m pc ls rest) q9)
    (kk : ∀ (u : S) (ra : Nat) (t : State) (H1 : Heap) (locs1 : List Loc), t.heap = H1 → s.vm.Alike t.vm → post u → B u ra t → H.size ≤ H1.size → (∀ q : Nat, q < H.size → ¬ A1 q → H1[q]? = H[q]?) → va_S A0 H0 H1 locs1 → W p l e R s m args below meth c H1 locs1 (cells + mc) (slots + ms) Q (F0 m (pc + 3) ls (.ref ra :: rest))) : W p l e R s m args below meth c H locs cells slots Q (F0 m pc ls st0) := by
  intro T hT X
  rcases hr T hT X with ⟨v, st₀, t, T', L, h0, X', hL, e1, e2, ⟨⟨u, ra, hv, hp, hb⟩, hF⟩, st⟩ | ⟨q, st₀, t, T', L, E, ce, h0, X', hL, e1, e2, ⟨u, hp, hb, hF⟩, hce, hcv, hcl, st⟩
  · cases hv
    obtain ⟨k1, k2, k3⟩ := vy_keep h0 e1 hS hA hf hL hF
    obtain ⟨t2, a1, b1⟩ := kk u ra t T'.heap (locs ++ L) e1.symm (by rw [← e2]; exact X'.warmed.alike) hp hb k1 k2 k3 T' rfl X'
    exact ⟨t2, st t2 a1, b1⟩
  · obtain ⟨k1, k2, k3⟩ := vy_keep h0 e1 hS hAX hf hL hF
    obtain ⟨t2, a1, b1⟩ := kx E ce q u t T'.heap (locs ++ L) e1.symm (by rw [← e2]; exact X'.warmed.alike) hp hb k1 k2 k3 (by rw [e1]; exact hce) hcv hcl T' rfl X'
    exact ⟨t2, st.trans a1, b1⟩
end YR
section YC2
variable {p : Program} {l : Launch} {e : Env} {R : Room} {s : State} {m : MethodId} {args : Array Value} {below : List Frame} {meth : Method} {c : Code} {H : Heap} {locs : List Loc} {cells slots : Nat} {Q : State → Prop} {G : xG} {cc bytes : ByteArray} {nL maxL index pc : Nat} {own : String} {y : MethodName} {rm : Room} {ls : Array Slot} {A : Nat → Prop} {ws wc : va_W} {As rest st0 : List Value} {ret : Option FieldType} {hh : List (Nat × Nat × Nat × Nat)}
theorem y_backr {S SX : Type} {post : S → Prop} {ra : S → Nat} {w' : S → va_W} {wN : S → va_W} {px : Int32 → SX → Prop} {wx wNx : SX → va_W} {a : Array Value} (hX : xS G p m c cc nL s args own A ws H locs) (isC pl plx : List Nat) (hC : isC.map (fun i => ws[i]?) = wc.map some) (hN : ∀ u, pl.map (fun n => xlk ws (w' u) n) = (wN u).map some) (hNx : ∀ u q ee, plx.map (fun n => xlk ws (wx u ++ [yEc q ee]) n) = (wNx u ++ [yEc q ee]).map some) (hn : xok isC pl = true) (hnx : xok isC plx = true)
    (hr : vy_Run p l e R s m args below meth c H locs cells slots rm.cells rm.slots (F0 m pc ls st0) rest (va_Qr post (xBr G wc H.size ra w') (va_A wc H.size) a) (vy_X (fun u : SX × yE => px u.2.2.1 u.1) (yB G wc H.size wx) (va_A wc H.size)) (va_A wc H.size))
    (kx : ∀ (q : Nat) (u : SX) (ee : yE) (H1 : Heap) (locs1 : List Loc), px ee.2.1 u → va_P G.1 vwCl (wNx u ++ [yEc q ee]) H1 → va_D A (wNx u ++ [yEc q ee]) → va_S A s.heap H1 locs1 → vy_W p l e R s m args below meth c H1 locs1 (cells + rm.cells) (slots + rm.slots) Q (F0 m pc ls rest) q) (kk : ∀ (u : S) (H1 : Heap) (locs1 : List Loc), post u → va_P G.1 vwCl (wN u) H1 → va_D A (wN u) → va_S A s.heap H1 locs1 → W p l e R s m args below meth c H1 locs1 (cells + rm.cells) (slots + rm.slots) Q (F0 m (pc + 3) ls (.ref (ra u) :: rest))) : W p l e R s m args below meth c H locs cells slots Q (F0 m pc ls st0) := by
  obtain ⟨hC0, hK, hP, hD, hS, hA⟩ := hX
  have hF := x_free hD hS hA isC hC
  refine y_callr hr hS (fun q _ h => hF q h) hF (fun q _ h => hF q h) (fun E ce q9 u t H1 locs1 ht hvm hw hB hz1 hk1 hS1 _ _ _ => ?_) (fun u ra2 t H1 locs1 ht hvm hw hB hz1 hk1 hS1 => ?_)
  · obtain ⟨-, hP1, hD1⟩ := hB
    rw [ht] at hP1
    obtain ⟨hP2, hD2⟩ := x_merge hP hD isC plx hC (hNx u.1 q9 u.2) hnx hk1 hF hP1 hD1
    exact kx q9 u.1 u.2 H1 locs1 hw hP2 hD2 hS1
  · obtain ⟨rfl, hP1, hD1⟩ := hB
    rw [ht] at hP1
    obtain ⟨hP2, hD2⟩ := x_merge hP hD isC pl hC (hN u) hn hk1 hF hP1 hD1
    exact kk u H1 locs1 hw hP2 hD2 hS1
theorem y_Vr {S SX : Type} {post : S → Prop} {ra : S → Nat} {w' : S → va_W} {wN : S → va_W} {px : Int32 → SX → Prop} {wx wNx : SX → va_W} {b : Nat} (hX : xS G p m c cc nL s args own A ws H locs) (hZ : ZZ A s s.heap) {C : String} {q9 : vw_C} {fs : List Value} {ci : Nat} (q0 : Nat) (he : ws[q0]? = some (b, .inr (ci, fs))) (hci : vwCl[ci]? = some q9) (hCq : q9.1 = C) (hM : yCr l G y bytes maxL ret rm (.ref b :: As) wc post ra w' px wx) (cw : CallW R s args own C index y bytes maxL ret (ws_ y bytes maxL ret) rm rm.cells rm.slots As.length) (isC pl plx : List Nat) (hC : isC.map (fun i => ws[i]?) = wc.map some) (hN : ∀ u, pl.map (fun n => xlk ws (w' u) n) = (wN u).map some) (hNx : ∀ u q ee, plx.map (fun n => xlk ws (wx u ++ [yEc q ee]) n) = (wNx u ++ [yEc q ee]).map some) (hn : xok isC pl = true) (hnx : xok isC plx = true) (hnC : va_nd isC = true) (hsize : ls.size = nL) (hstack : st0 = As.reverse ++ .ref b :: rest) (hW : (rest.map fun v => v.category).sum ≤ 8) (hdg : decode cc pc = .ok (.invokevirtual index, 3)) (hf : cells + rm.cells ≤ R.cells ∧ slots + rm.slots ≤ R.slots)
    (kx : ∀ (q : Nat) (u : SX) (ee : yE) (H1 : Heap) (locs1 : List Loc), px ee.2.1 u → va_P G.1 vwCl (wNx u ++ [yEc q ee]) H1 → va_D A (wNx u ++ [yEc q ee]) → va_S A s.heap H1 locs1 → vy_W p l e R s m args below meth c H1 locs1 (cells + rm.cells) (slots + rm.slots) Q (F0 m pc ls rest) q) (kk : ∀ (u : S) (H1 : Heap) (locs1 : List Loc), post u → va_P G.1 vwCl (wN u) H1 → va_D A (wN u) → va_S A s.heap H1 locs1 → W p l e R s m args below meth c H1 locs1 (cells + rm.cells) (slots + rm.slots) Q (F0 m (pc + 3) ls (.ref (ra u) :: rest))) : W p l e R s m args below meth c H locs cells slots Q (F0 m pc ls st0) := by
  have hrec : ∃ cell : Cell, H[b]? = some cell ∧ cell.vm.isStatics = false ∧ s.vm.findClass C = some cell.cls := by rw [← hCq]; exact va_recv hX.2.1.1 hX.2.2.1 hci he
  exact y_backr hX isC pl plx hC hN hNx hn hnx (vy_runV hX.1 (hM H.size) cw ⟨yPc.blind, hrec, y_pre hX hZ isC hnC hC⟩ rfl rfl hsize hstack (lv_room hW) hdg hf) kx kk
def zCi (l : Launch) (G : xG) (y : MethodName) (ws : List Cond) (rm : Room) (av : List Value) (w : va_W) {S : Type} (post : Int32 → S → Prop) (w' : S → va_W) : Prop := ∀ sz : Nat, Met l y ws rm (yPc G av w sz) (va_Qi post (xB G w sz w') (va_A w sz)) rm.cells rm.slots (va_A w sz)
def zCl (l : Launch) (G : xG) (y : MethodName) (ws : List Cond) (rm : Room) (av : List Value) (w : va_W) {S : Type} (post : Int64 → S → Prop) (w' : S → va_W) : Prop := ∀ sz : Nat, Met l y ws rm (yPc G av w sz) (va_Ql post (xB G w sz w') (va_A w sz)) rm.cells rm.slots (va_A w sz)
theorem z_openi {S : Type} {l : Launch} {G : xG} {y : MethodName} {cc : ByteArray} {maxL : Nat} {ty : FieldType} {rm : Room} {av : List Value} {w : va_W} {post : Int32 → S → Prop} {w' : S → va_W} (hy : plainName y.cls = true) (hlen : (lg_sl av).length ≤ maxL) (hpos : ∀ v u, post v u → narrow ty (.int v) = .int v)
    (body : ∀ (p : Program) (e : Env) (s : State) (m : MethodId) (args : Array Value) (below : List Frame) (meth : Method) (c : Code) (A : Nat → Prop) (Q : State → Prop) (ls : Array Slot), CallFix p m c cc maxL s args lw_all y.cls → KK G s → ZZ A s s.heap → va_P G.1 vwCl w s.heap → va_D A w → (∀ q : Nat, s.heap.size ≤ q → A q) → lv_has ls maxL (lv_args 0 av) → (∀ (pc : Nat) (ls : Array Slot) (H : Heap) (locs : List Loc) (k n : Nat) (v : Int32) (u : S), decode cc pc = .ok (.ireturn, 1) → post v u → va_P G.1 vwCl (w' u) H → va_D A (w' u) → va_S A s.heap H locs → k ≤ rm.cells → n ≤ rm.slots → W p l e rm s m args below meth c H locs k n Q (F0 m pc ls [.int v])) → W p l e rm s m args below meth c s.heap [] 0 0 Q (F0 m 0 ls [])) : zCi l G y (ws_ y cc maxL (some ty)) rm av w post w' := by
  intro sz
  refine Met.ofW (cc := cc) (maxL := maxL) (ret := some ty) hy rfl ?_
  intro p e s m args below meth c s₁ B hml hv
  obtain ⟨rfl, hsz, hP, hK, hD0, hZ⟩ := hv
  subst hsz
  have hts := atoms_spec (ws := (ws_ y cc maxL (some ty))) B.pre
  have hl := lv_entry av (n := maxL) hlen
  rw [lg_entry_eq]
  refine body p e s m _ below meth c (va_A w s.heap.size) _ _ ⟨B.exec, B.bytes, hml, findClass_of_methodNamed B.named, fun w h => hts w (List.mem_cons_of_mem _ h)⟩ hK hZ hP hD0.self (fun q h => Or.inr h) hl ?_
  intro pc ls H locs k n v u hd hp hP hD hS hk hn
  refine W.widen hk hn ?_
  exact W.zret (v := v) B.exec B.bytes B.returns (hpos v u hp) (fun t ht hW => ⟨⟨v, u, rfl, hp, by rw [ht]; exact hP, hD⟩, hS.F ht⟩) hS.2.2 hd
theorem z_openiW {S : Type} {l : Launch} {G : xG} {y : MethodName} {cc : ByteArray} {maxL : Nat} {ty : FieldType} {rm : Room} {av : List Value} {w : va_W} {post : Int32 → S → Prop} {w' : S → va_W} (hy : plainName y.cls = true) (hlen : (lg_sl av).length ≤ maxL) (hpos : ∀ v u, post v u → narrow ty (.int v) = .int v)
    (body : ∀ (p : Program) (e : Env) (s : State) (m : MethodId) (args : Array Value) (below : List Frame) (meth : Method) (c : Code) (A : Nat → Prop) (Q : State → Prop) (ls : Array Slot), CallFix p m c cc maxL s args lw_all y.cls → KK G s → ZZ A s s.heap → va_P G.1 vwCl w s.heap → va_D A w → (∀ q : Nat, s.heap.size ≤ q → A q) → lv_has ls maxL (lv_args 0 av) → c.exceptionTable.toList = tableOf hh → (∀ (pc : Nat) (ls : Array Slot) (H : Heap) (locs : List Loc) (k n : Nat) (v : Int32) (u : S), decode cc pc = .ok (.ireturn, 1) → post v u → va_P G.1 vwCl (w' u) H → va_D A (w' u) → va_S A s.heap H locs → k ≤ rm.cells → n ≤ rm.slots → W p l e rm s m args below meth c H locs k n Q (F0 m pc ls [.int v])) → W p l e rm s m args below meth c s.heap [] 0 0 Q (F0 m 0 ls [])) : zCi l G y (wsW_ y cc maxL (some ty) hh) rm av w post w' := by
  intro sz
  refine va_MetW (cc := cc) (maxL := maxL) (ret := some ty) (hh := hh) hy rfl ?_
  intro p e s m args below meth c s₁ B hml hv
  obtain ⟨rfl, hsz, hP, hK, hD0, hZ⟩ := hv
  subst hsz
  have hts := atoms_spec (ws := (wsW_ y cc maxL (some ty) hh)) B.pre
  have hl := lv_entry av (n := maxL) hlen
  rw [lg_entry_eq]
  have htb := vy_table (x := y) B (hts _ List.mem_cons_self)
  refine body p e s m _ below meth c (va_A w s.heap.size) _ _ ⟨B.exec, B.bytes, hml, findClass_of_methodNamed B.named, fun w h => hts w (List.mem_cons_of_mem _ h)⟩ hK hZ hP hD0.self (fun q h => Or.inr h) hl htb ?_
  intro pc ls H locs k n v u hd hp hP hD hS hk hn
  refine W.widen hk hn ?_
  exact W.zret (v := v) B.exec B.bytes B.returns (hpos v u hp) (fun t ht hW => ⟨⟨v, u, rfl, hp, by rw [ht]; exact hP, hD⟩, hS.F ht⟩) hS.2.2 hd
theorem z_Vi {S : Type} {post : Int32 → S → Prop} {w' : S → va_W} {wN : S → va_W} {b : Nat} (hX : xS G p m c cc nL s args own A ws H locs) (hZ : ZZ A s s.heap) {C : String} {q9 : vw_C} {fs : List Value} {ci : Nat} (q0 : Nat) (he : ws[q0]? = some (b, .inr (ci, fs))) (hci : vwCl[ci]? = some q9) (hCq : q9.1 = C) (hM : zCi l G y (ws_ y bytes maxL ret) rm (.ref b :: As) wc post w') (cw : CallW R s args own C index y bytes maxL ret (ws_ y bytes maxL ret) rm rm.cells rm.slots As.length) (isC pl : List Nat) (hC : isC.map (fun i => ws[i]?) = wc.map some) (hN : ∀ u, pl.map (fun n => xlk ws (w' u) n) = (wN u).map some) (hn : xok isC pl = true) (hnC : va_nd isC = true) (hsize : ls.size = nL) (hstack : st0 = As.reverse ++ .ref b :: rest) (hW : (rest.map fun v => v.category).sum ≤ 8) (hdg : decode cc pc = .ok (.invokevirtual index, 3)) (hf : cells + rm.cells ≤ R.cells ∧ slots + rm.slots ≤ R.slots)
    (kk : ∀ (r : Int32) (u : S) (H1 : Heap) (locs1 : List Loc), post r u → va_P G.1 vwCl (wN u) H1 → va_D A (wN u) → va_S A s.heap H1 locs1 → W p l e R s m args below meth c H1 locs1 (cells + rm.cells) (slots + rm.slots) Q (F0 m (pc + 3) ls (.int r :: rest))) : W p l e R s m args below meth c H locs cells slots Q (F0 m pc ls st0) := by
  have hrec : ∃ cell : Cell, H[b]? = some cell ∧ cell.vm.isStatics = false ∧ s.vm.findClass C = some cell.cls := by rw [← hCq]; exact va_recv hX.2.1.1 hX.2.2.1 hci he
  exact x_backi hX isC pl hC hN hn (va_runV hX.1 (hM H.size) cw ⟨yPc.blind, hrec, y_pre hX hZ isC hnC hC⟩ rfl rfl hsize hstack (lv_room hW) hdg hf) kk
theorem z_VWi {S : Type} {post : Int32 → S → Prop} {w' : S → va_W} {wN : S → va_W} {b : Nat} (hX : xS G p m c cc nL s args own A ws H locs) (hZ : ZZ A s s.heap) {C : String} {q9 : vw_C} {fs : List Value} {ci : Nat} (q0 : Nat) (he : ws[q0]? = some (b, .inr (ci, fs))) (hci : vwCl[ci]? = some q9) (hCq : q9.1 = C) (hM : zCi l G y (wsW_ y bytes maxL ret hh) rm (.ref b :: As) wc post w') (cw : vy_CVW R s args own C index y bytes maxL ret hh (wsW_ y bytes maxL ret hh) rm rm.cells rm.slots As.length) (isC pl : List Nat) (hC : isC.map (fun i => ws[i]?) = wc.map some) (hN : ∀ u, pl.map (fun n => xlk ws (w' u) n) = (wN u).map some) (hn : xok isC pl = true) (hnC : va_nd isC = true) (hsize : ls.size = nL) (hstack : st0 = As.reverse ++ .ref b :: rest) (hW : (rest.map fun v => v.category).sum ≤ 8) (hdg : decode cc pc = .ok (.invokevirtual index, 3)) (hf : cells + rm.cells ≤ R.cells ∧ slots + rm.slots ≤ R.slots)
    (kk : ∀ (r : Int32) (u : S) (H1 : Heap) (locs1 : List Loc), post r u → va_P G.1 vwCl (wN u) H1 → va_D A (wN u) → va_S A s.heap H1 locs1 → W p l e R s m args below meth c H1 locs1 (cells + rm.cells) (slots + rm.slots) Q (F0 m (pc + 3) ls (.int r :: rest))) : W p l e R s m args below meth c H locs cells slots Q (F0 m pc ls st0) := by
  have hrec : ∃ cell : Cell, H[b]? = some cell ∧ cell.vm.isStatics = false ∧ s.vm.findClass C = some cell.cls := by rw [← hCq]; exact va_recv hX.2.1.1 hX.2.2.1 hci he
  exact x_backi hX isC pl hC hN hn (vy_runVW hX.1 (hM H.size) cw ⟨yPc.blind, hrec, y_pre hX hZ isC hnC hC⟩ rfl rfl hsize hstack (lv_room hW) hdg hf) kk
theorem z_openl {S : Type} {l : Launch} {G : xG} {y : MethodName} {cc : ByteArray} {maxL : Nat} {rm : Room} {av : List Value} {w : va_W} {post : Int64 → S → Prop} {w' : S → va_W} (hy : plainName y.cls = true) (hlen : (lg_sl av).length ≤ maxL) 
    (body : ∀ (p : Program) (e : Env) (s : State) (m : MethodId) (args : Array Value) (below : List Frame) (meth : Method) (c : Code) (A : Nat → Prop) (Q : State → Prop) (ls : Array Slot), CallFix p m c cc maxL s args lw_all y.cls → KK G s → ZZ A s s.heap → va_P G.1 vwCl w s.heap → va_D A w → (∀ q : Nat, s.heap.size ≤ q → A q) → lv_has ls maxL (lv_args 0 av) → (∀ (pc : Nat) (ls : Array Slot) (H : Heap) (locs : List Loc) (k n : Nat) (v : Int64) (u : S), decode cc pc = .ok (.lreturn, 1) → post v u → va_P G.1 vwCl (w' u) H → va_D A (w' u) → va_S A s.heap H locs → k ≤ rm.cells → n ≤ rm.slots → W p l e rm s m args below meth c H locs k n Q (F0 m pc ls [.long v])) → W p l e rm s m args below meth c s.heap [] 0 0 Q (F0 m 0 ls [])) : zCl l G y (ws_ y cc maxL (some .long)) rm av w post w' := by
  intro sz
  refine Met.ofW (cc := cc) (maxL := maxL) (ret := some .long) hy rfl ?_
  intro p e s m args below meth c s₁ B hml hv
  obtain ⟨rfl, hsz, hP, hK, hD0, hZ⟩ := hv
  subst hsz
  have hts := atoms_spec (ws := (ws_ y cc maxL (some .long))) B.pre
  have hl := lv_entry av (n := maxL) hlen
  rw [lg_entry_eq]
  refine body p e s m _ below meth c (va_A w s.heap.size) _ _ ⟨B.exec, B.bytes, hml, findClass_of_methodNamed B.named, fun w h => hts w (List.mem_cons_of_mem _ h)⟩ hK hZ hP hD0.self (fun q h => Or.inr h) hl ?_
  intro pc ls H locs k n v u hd hp hP hD hS hk hn
  refine W.widen hk hn ?_
  exact W.lret (v := v) B.exec B.bytes B.returns (fun t ht hW => ⟨⟨v, u, rfl, hp, by rw [ht]; exact hP, hD⟩, hS.F ht⟩) hS.2.2 hd
theorem z_openlW {S : Type} {l : Launch} {G : xG} {y : MethodName} {cc : ByteArray} {maxL : Nat} {rm : Room} {av : List Value} {w : va_W} {post : Int64 → S → Prop} {w' : S → va_W} (hy : plainName y.cls = true) (hlen : (lg_sl av).length ≤ maxL) 
    (body : ∀ (p : Program) (e : Env) (s : State) (m : MethodId) (args : Array Value) (below : List Frame) (meth : Method) (c : Code) (A : Nat → Prop) (Q : State → Prop) (ls : Array Slot), CallFix p m c cc maxL s args lw_all y.cls → KK G s → ZZ A s s.heap → va_P G.1 vwCl w s.heap → va_D A w → (∀ q : Nat, s.heap.size ≤ q → A q) → lv_has ls maxL (lv_args 0 av) → c.exceptionTable.toList = tableOf hh → (∀ (pc : Nat) (ls : Array Slot) (H : Heap) (locs : List Loc) (k n : Nat) (v : Int64) (u : S), decode cc pc = .ok (.lreturn, 1) → post v u → va_P G.1 vwCl (w' u) H → va_D A (w' u) → va_S A s.heap H locs → k ≤ rm.cells → n ≤ rm.slots → W p l e rm s m args below meth c H locs k n Q (F0 m pc ls [.long v])) → W p l e rm s m args below meth c s.heap [] 0 0 Q (F0 m 0 ls [])) : zCl l G y (wsW_ y cc maxL (some .long) hh) rm av w post w' := by
  intro sz
  refine va_MetW (cc := cc) (maxL := maxL) (ret := some .long) (hh := hh) hy rfl ?_
  intro p e s m args below meth c s₁ B hml hv
  obtain ⟨rfl, hsz, hP, hK, hD0, hZ⟩ := hv
  subst hsz
  have hts := atoms_spec (ws := (wsW_ y cc maxL (some .long) hh)) B.pre
  have hl := lv_entry av (n := maxL) hlen
  rw [lg_entry_eq]
  have htb := vy_table (x := y) B (hts _ List.mem_cons_self)
  refine body p e s m _ below meth c (va_A w s.heap.size) _ _ ⟨B.exec, B.bytes, hml, findClass_of_methodNamed B.named, fun w h => hts w (List.mem_cons_of_mem _ h)⟩ hK hZ hP hD0.self (fun q h => Or.inr h) hl htb ?_
  intro pc ls H locs k n v u hd hp hP hD hS hk hn
  refine W.widen hk hn ?_
  exact W.lret (v := v) B.exec B.bytes B.returns (fun t ht hW => ⟨⟨v, u, rfl, hp, by rw [ht]; exact hP, hD⟩, hS.F ht⟩) hS.2.2 hd
theorem z_Vl {S : Type} {post : Int64 → S → Prop} {w' : S → va_W} {wN : S → va_W} {b : Nat} (hX : xS G p m c cc nL s args own A ws H locs) (hZ : ZZ A s s.heap) {C : String} {q9 : vw_C} {fs : List Value} {ci : Nat} (q0 : Nat) (he : ws[q0]? = some (b, .inr (ci, fs))) (hci : vwCl[ci]? = some q9) (hCq : q9.1 = C) (hM : zCl l G y (ws_ y bytes maxL ret) rm (.ref b :: As) wc post w') (cw : CallW R s args own C index y bytes maxL ret (ws_ y bytes maxL ret) rm rm.cells rm.slots As.length) (isC pl : List Nat) (hC : isC.map (fun i => ws[i]?) = wc.map some) (hN : ∀ u, pl.map (fun n => xlk ws (w' u) n) = (wN u).map some) (hn : xok isC pl = true) (hnC : va_nd isC = true) (hsize : ls.size = nL) (hstack : st0 = As.reverse ++ .ref b :: rest) (hW : (rest.map fun v => v.category).sum ≤ 8) (hdg : decode cc pc = .ok (.invokevirtual index, 3)) (hf : cells + rm.cells ≤ R.cells ∧ slots + rm.slots ≤ R.slots)
    (kk : ∀ (r : Int64) (u : S) (H1 : Heap) (locs1 : List Loc), post r u → va_P G.1 vwCl (wN u) H1 → va_D A (wN u) → va_S A s.heap H1 locs1 → W p l e R s m args below meth c H1 locs1 (cells + rm.cells) (slots + rm.slots) Q (F0 m (pc + 3) ls (.long r :: rest))) : W p l e R s m args below meth c H locs cells slots Q (F0 m pc ls st0) := by
  have hrec : ∃ cell : Cell, H[b]? = some cell ∧ cell.vm.isStatics = false ∧ s.vm.findClass C = some cell.cls := by rw [← hCq]; exact va_recv hX.2.1.1 hX.2.2.1 hci he
  exact x_backl hX isC pl hC hN hn (va_runV hX.1 (hM H.size) cw ⟨yPc.blind, hrec, y_pre hX hZ isC hnC hC⟩ rfl rfl hsize hstack (lv_room hW) hdg hf) kk
theorem z_VWl {S : Type} {post : Int64 → S → Prop} {w' : S → va_W} {wN : S → va_W} {b : Nat} (hX : xS G p m c cc nL s args own A ws H locs) (hZ : ZZ A s s.heap) {C : String} {q9 : vw_C} {fs : List Value} {ci : Nat} (q0 : Nat) (he : ws[q0]? = some (b, .inr (ci, fs))) (hci : vwCl[ci]? = some q9) (hCq : q9.1 = C) (hM : zCl l G y (wsW_ y bytes maxL ret hh) rm (.ref b :: As) wc post w') (cw : vy_CVW R s args own C index y bytes maxL ret hh (wsW_ y bytes maxL ret hh) rm rm.cells rm.slots As.length) (isC pl : List Nat) (hC : isC.map (fun i => ws[i]?) = wc.map some) (hN : ∀ u, pl.map (fun n => xlk ws (w' u) n) = (wN u).map some) (hn : xok isC pl = true) (hnC : va_nd isC = true) (hsize : ls.size = nL) (hstack : st0 = As.reverse ++ .ref b :: rest) (hW : (rest.map fun v => v.category).sum ≤ 8) (hdg : decode cc pc = .ok (.invokevirtual index, 3)) (hf : cells + rm.cells ≤ R.cells ∧ slots + rm.slots ≤ R.slots)
    (kk : ∀ (r : Int64) (u : S) (H1 : Heap) (locs1 : List Loc), post r u → va_P G.1 vwCl (wN u) H1 → va_D A (wN u) → va_S A s.heap H1 locs1 → W p l e R s m args below meth c H1 locs1 (cells + rm.cells) (slots + rm.slots) Q (F0 m (pc + 3) ls (.long r :: rest))) : W p l e R s m args below meth c H locs cells slots Q (F0 m pc ls st0) := by
  have hrec : ∃ cell : Cell, H[b]? = some cell ∧ cell.vm.isStatics = false ∧ s.vm.findClass C = some cell.cls := by rw [← hCq]; exact va_recv hX.2.1.1 hX.2.2.1 hci he
  exact x_backl hX isC pl hC hN hn (vy_runVW hX.1 (hM H.size) cw ⟨yPc.blind, hrec, y_pre hX hZ isC hnC hC⟩ rfl rfl hsize hstack (lv_room hW) hdg hf) kk
theorem z_catch {w : va_W} {q : Nat} {ee : yE} (x : ExceptionTableEntry) (hown : s.vm.findClass own = some m.cls) (hK : KK G s) (htb : c.exceptionTable.toList = tableOf hh) (hx1 : tableOf hh = [x]) (hx : covers x pc = true) (h0 : x.catchType ≠ 0) (hlink : (Cond.classLink own x.catchType "PulledFromUnder$Refusal").before args s = true) (hP : va_P G.1 vwCl (w ++ [yEc q ee]) H)
    (kk : W p l e R s m args below meth c H locs cells slots Q (F0 m x.handlerPc ls [.ref q])) : vy_W p l e R s m args below meth c H locs cells slots Q (F0 m pc ls rest) q := by
  have hlast : (w ++ [yEc q ee])[w.length]? = some (yEc q ee) := by rw [List.getElem?_append_right (Nat.le_refl _)]; simp
  have hat := hP _ _ hlast
  have hs : c.exceptionTable.toList = [] ++ x :: [] := by rw [htb, hx1]; rfl
  obtain ⟨k, n9, a1, a2, a3⟩ := ee
  cases k
  · obtain ⟨r, h1, ce, h2, h3, h4, -⟩ := hat
    cases h1
    exact vy_catch (E := RX11) hown [] x [] hs (fun z hz => absurd hz List.not_mem_nil) hx h0 hlink (va_Nw.use rfl (hK.2.C 3 rfl)) h2 h4 (by rw [h3]; exact (hK.1.1 9 _ rfl).2.1) kk
  · obtain ⟨r, h1, ce, h2, h3, h4, -⟩ := hat
    cases h1
    exact vy_catch (E := RX13) hown [] x [] hs (fun z hz => absurd hz List.not_mem_nil) hx h0 hlink (va_Nw.use rfl (hK.2.C 2 rfl)) h2 h4 (by rw [h3]; exact (hK.1.1 11 _ rfl).2.1) kk
end YC2
/-! a call beside a tail of cells that it doesn't touch: the tail's places -/
def tlp (k n : Nat) : List Nat := (List.range n).map (fun i => 2 * (k + i))
theorem tlp_at (k n i : Nat) : (tlp k n)[i]? = if i < n then some (2 * (k + i)) else none := by
  unfold tlp
  rw [List.getElem?_map]
  by_cases h : i < n
  · rw [if_pos h, List.getElem?_range h]; rfl
  · rw [if_neg h, List.getElem?_eq_none (by simpa using Nat.le_of_not_lt h)]; rfl
theorem tl_xlk {ws tl w1 : va_W} {n : Nat} {x : Nat × va_E} (h : xlk ws w1 n = some x) : xlk (ws ++ tl) w1 n = some x := by
  unfold xlk at h ⊢
  rcases (show n % 2 = 0 ∨ n % 2 = 1 by omega) with e | e <;> rw [e] at h ⊢
  · show (ws ++ tl)[n / 2]? = some x
    have h : ws[n / 2]? = some x := h
    rw [List.getElem?_append_left (List.getElem?_eq_some_iff.mp h).1]
    exact h
  · exact h
theorem tl_N {ws tl w1 wN : va_W} {pl : List Nat} (h : pl.map (fun n => xlk ws w1 n) = wN.map some) : (pl ++ tlp ws.length tl.length).map (fun n => xlk (ws ++ tl) w1 n) = (wN ++ tl).map some := by
  rw [List.map_append, List.map_append]
  congr 1
  · rw [← h]
    refine List.map_congr_left (fun n hn => ?_)
    have h1 : xlk ws w1 n ∈ pl.map (fun n => xlk ws w1 n) := List.mem_map.mpr ⟨n, hn, rfl⟩
    rw [h] at h1
    obtain ⟨x, -, hx⟩ := List.mem_map.mp h1
    rw [← hx]
    exact tl_xlk hx.symm
  · refine List.ext_getElem? (fun i => ?_)
    rw [List.getElem?_map, List.getElem?_map, tlp_at]
    by_cases hi : i < tl.length
    · rw [if_pos hi]
      show some (xlk (ws ++ tl) w1 (2 * (ws.length + i))) = _
      have e1 : 2 * (ws.length + i) % 2 = 0 := by omega
      have e2 : 2 * (ws.length + i) / 2 = ws.length + i := by omega
      unfold xlk
      rw [e1]
      show some ((ws ++ tl)[2 * (ws.length + i) / 2]?) = _
      rw [e2, List.getElem?_append_right (by omega), Nat.add_sub_cancel_left, List.getElem?_eq_getElem hi]
      rfl
    · rw [if_neg hi, List.getElem?_eq_none (by omega)]
      rfl
theorem tl_C {ws tl wc : va_W} {isC : List Nat} (h : isC.map (fun i => ws[i]?) = wc.map some) : isC.map (fun i => (ws ++ tl)[i]?) = wc.map some := by
  rw [← h]
  refine List.map_congr_left (fun n hn => ?_)
  have h1 : ws[n]? ∈ isC.map (fun i => ws[i]?) := List.mem_map.mpr ⟨n, hn, rfl⟩
  rw [h] at h1
  obtain ⟨x, -, hx⟩ := List.mem_map.mp h1
  exact List.getElem?_append_left (List.getElem?_eq_some_iff.mp hx.symm).1
theorem nd_iff : ∀ {l : List Nat}, va_nd l = true ↔ l.Nodup
  | [] => ⟨fun _ => List.nodup_nil, fun _ => rfl⟩
  | a :: l => by
    rw [List.nodup_cons]
    show (_ && va_nd l) = true ↔ _
    rw [Bool.and_eq_true, nd_iff]
    refine and_congr ?_ Iff.rfl
    simp
theorem nd_map {f : Nat → Nat} (hf : ∀ i j, f i = f j → i = j) {l : List Nat} (h : l.Nodup) : (l.map f).Nodup := List.pairwise_map.mpr (h.imp (fun hne e => hne (hf _ _ e)))
theorem tl_ok {isC pl : List Nat} {k n : Nat} (h : xok isC pl = true) (h1 : pl.all (fun j => Nat.beq (j % 2) 1 || Nat.blt (j / 2) k) = true) (h2 : isC.all (fun i => Nat.blt i k) = true) : xok isC (pl ++ tlp k n) = true := by
  unfold xok at h ⊢
  rw [Bool.and_eq_true] at h ⊢
  refine ⟨nd_iff.mpr ?_, ?_⟩
  · rw [List.nodup_append]
    refine ⟨nd_iff.mp h.1, ?_, fun a ha b hb e => ?_⟩
    · unfold tlp
      refine nd_map (fun i j hij => by
        have hij : 2 * (k + i) = 2 * (k + j) := hij
        omega) List.nodup_range
    · subst e
      obtain ⟨i, -, hi⟩ := List.mem_map.mp hb
      have h3 := List.all_eq_true.mp h1 a ha
      rw [Bool.or_eq_true] at h3
      rcases h3 with h3 | h3
      · have := Nat.eq_of_beq_eq_true h3
        omega
      · have := Nat.le_of_ble_eq_true h3
        omega
  · rw [List.all_append, Bool.and_eq_true]
    refine ⟨h.2, List.all_eq_true.mpr (fun a ha => ?_)⟩
    obtain ⟨i, -, hi⟩ := List.mem_map.mp ha
    rw [Bool.or_eq_true]
    right
    refine List.all_eq_true.mpr (fun j hj => ?_)
    have h4 := Nat.le_of_ble_eq_true (List.all_eq_true.mp h2 j hj)
    have h5 : ¬ j = a / 2 := by omega
    cases e : Nat.beq j (a / 2) with
    | false => rfl
    | true => exact absurd (Nat.eq_of_beq_eq_true e) h5


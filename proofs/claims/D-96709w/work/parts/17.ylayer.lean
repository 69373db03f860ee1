/-! THE LAYER of methods that may throw: contracts, openers, calls (printed by tools/mky.py) -/
set_option maxRecDepth 100000
/-- what is thrown: whether a fault, its number, the three references that Throwable sets -/
abbrev yE : Type := Bool × Int32 × Value × Value × Value
def yEn (e : yE) : String := cond e.1 RX13 RX11
def yEc (q : Nat) (e : yE) : Nat × va_E := (q, .inr (cond e.1 11 9, [e.2.2.1, e.2.2.2.1, e.2.2.2.2, .null, .null, .int 0, .int e.2.1]))
def yPc (G : xG) (av : List Value) (w : va_W) (sz : Nat) : Array Value → State → Prop := va_Pc av (fun U => U.heap.size = sz ∧ va_P G.1 vwCl w U.heap ∧ KK G U ∧ va_D (fun _ => True) w ∧ ZZ (va_A w sz) U U.heap)
theorem yPc.blind {G : xG} {av : List Value} {w : va_W} {sz : Nat} : FrameBlind (yPc G av w sz) := fun a U g mk q => by
  obtain ⟨q0, q1, qP, qK, qD, qZ⟩ := q
  exact ⟨q0, q1, qP, qK.same rfl, qD, ZZ.moved (Vm.Alike.refl _) qZ⟩
def yB (G : xG) (w : va_W) (sz : Nat) {SX : Type} (wx : SX → va_W) (E : String) (q : Addr) (u : SX × yE) (t : State) : Prop := E = yEn u.2 ∧ va_P G.1 vwCl (wx u.1 ++ [yEc q u.2]) t.heap ∧ va_D (va_A w sz) (wx u.1 ++ [yEc q u.2])

def yCi (l : Launch) (G : xG) (y : MethodName) (cc : ByteArray) (maxL : Nat) (ret : Option FieldType) (rm : Room) (av : List Value) (w : va_W) {S SX : Type} (post : Int32 → S → Prop) (w' : S → va_W) (px : Int32 → SX → Prop) (wx : SX → va_W) : Prop := ∀ sz : Nat, vy_Met l y (ws_ y cc maxL ret) rm (yPc G av w sz) (va_Qi post (xB G w sz w') (va_A w sz)) (vy_X (fun u : SX × yE => px u.2.2.1 u.1) (yB G w sz wx) (va_A w sz)) rm.cells rm.slots (va_A w sz)
def yCl (l : Launch) (G : xG) (y : MethodName) (cc : ByteArray) (maxL : Nat) (ret : Option FieldType) (rm : Room) (av : List Value) (w : va_W) {S SX : Type} (post : Int64 → S → Prop) (w' : S → va_W) (px : Int32 → SX → Prop) (wx : SX → va_W) : Prop := ∀ sz : Nat, vy_Met l y (ws_ y cc maxL ret) rm (yPc G av w sz) (va_Ql post (xB G w sz w') (va_A w sz)) (vy_X (fun u : SX × yE => px u.2.2.1 u.1) (yB G w sz wx) (va_A w sz)) rm.cells rm.slots (va_A w sz)
def yCv (l : Launch) (G : xG) (y : MethodName) (cc : ByteArray) (maxL : Nat) (ret : Option FieldType) (rm : Room) (av : List Value) (w : va_W) {S SX : Type} (post : S → Prop) (w' : S → va_W) (px : Int32 → SX → Prop) (wx : SX → va_W) : Prop := ∀ sz : Nat, vy_Met l y (ws_ y cc maxL ret) rm (yPc G av w sz) (va_Qv post (xB G w sz w') (va_A w sz)) (vy_X (fun u : SX × yE => px u.2.2.1 u.1) (yB G w sz wx) (va_A w sz)) rm.cells rm.slots (va_A w sz)
def yCr (l : Launch) (G : xG) (y : MethodName) (cc : ByteArray) (maxL : Nat) (ret : Option FieldType) (rm : Room) (av : List Value) (w : va_W) {S SX : Type} (post : S → Prop) (ra : S → Nat) (w' : S → va_W) (px : Int32 → SX → Prop) (wx : SX → va_W) : Prop := ∀ sz : Nat, vy_Met l y (ws_ y cc maxL ret) rm (yPc G av w sz) (va_Qr post (xBr G w sz ra w') (va_A w sz)) (vy_X (fun u : SX × yE => px u.2.2.1 u.1) (yB G w sz wx) (va_A w sz)) rm.cells rm.slots (va_A w sz)
theorem y_leave {p : Program} {l : Launch} {e : Env} {rm : Room} {s : State} {m : MethodId} {args : Array Value} {below : List Frame} {meth : Method} {c : Code} {H : Heap} {locs : List Loc} {cells slots pc : Nat} {G : xG} {w : va_W} {SX : Type} {px : Int32 → SX → Prop} {wx : SX → va_W} {Qc : Array Value → State → Outcome → State → Prop} {ls : Array Slot} {rest : List Value} {q : Nat} {u : SX} {ee : yE} (hout : ∀ x ∈ c.exceptionTable.toList, covers x pc = false) (hlocks : meth.locks = false) (hK : KK G s) (hp : px ee.2.1 u) (hP : va_P G.1 vwCl (wx u ++ [yEc q ee]) H) (hD : va_D (va_A w s.heap.size) (wx u ++ [yEc q ee])) (hS : va_S (va_A w s.heap.size) s.heap H locs) (hk : cells ≤ rm.cells) (hn : slots ≤ rm.slots) :
    vy_W p l e rm s m args below meth c H locs cells slots (vy_MQ below Qc (vy_X (fun u : SX × yE => px u.2.2.1 u.1) (yB G w s.heap.size wx) (va_A w s.heap.size)) args s rm.cells rm.slots (va_A w s.heap.size)) (F0 m pc ls rest) q := by
  have hlast : (wx u ++ [yEc q ee])[(wx u).length]? = some (yEc q ee) := by rw [List.getElem?_append_right (Nat.le_refl _)]; simp
  have hat := hP _ _ hlast
  obtain ⟨k, n9, a1, a2, a3⟩ := ee
  cases k
  · obtain ⟨r, h1, ce, h2, h3, h4, -⟩ := hat
    cases h1
    exact vy_out (E := RX11) hout hlocks h2 h4 (by rw [h3]; exact (hK.1.1 9 _ rfl).2.1) (fun t ht hvm => ⟨(u, (false, n9, a1, a2, a3)), hp, ⟨rfl, by rw [ht]; exact hP, hD⟩, hS.F ht⟩) hS.2.2 hk hn
  · obtain ⟨r, h1, ce, h2, h3, h4, -⟩ := hat
    cases h1
    exact vy_out (E := RX13) hout hlocks h2 h4 (by rw [h3]; exact (hK.1.1 11 _ rfl).2.1) (fun t ht hvm => ⟨(u, (true, n9, a1, a2, a3)), hp, ⟨rfl, by rw [ht]; exact hP, hD⟩, hS.F ht⟩) hS.2.2 hk hn

theorem y_openi {S SX : Type} {l : Launch} {G : xG} {y : MethodName} {cc : ByteArray} {maxL : Nat} {ty : FieldType} {rm : Room} {av : List Value} {w : va_W} {post : Int32 → S → Prop} {w' : S → va_W} {px : Int32 → SX → Prop} {wx : SX → va_W} (hy : plainName y.cls = true) (hlen : (lg_sl av).length ≤ maxL) (hpos : ∀ v u, post v u → narrow ty (.int v) = .int v)
    (body : ∀ (p : Program) (e : Env) (s : State) (m : MethodId) (args : Array Value) (below : List Frame) (meth : Method) (c : Code) (A : Nat → Prop) (Q : State → Prop) (ls : Array Slot), CallFix p m c cc maxL s args lw_all y.cls → KK G s → ZZ A s s.heap → va_P G.1 vwCl w s.heap → va_D A w → (∀ q : Nat, s.heap.size ≤ q → A q) → lv_has ls maxL (lv_args 0 av) → (∀ (pc : Nat) (ls : Array Slot) (H : Heap) (locs : List Loc) (k n : Nat) (v : Int32) (u : S), decode cc pc = .ok (.ireturn, 1) → post v u → va_P G.1 vwCl (w' u) H → va_D A (w' u) → va_S A s.heap H locs → k ≤ rm.cells → n ≤ rm.slots → W p l e rm s m args below meth c H locs k n Q (F0 m pc ls [.int v])) → (∀ (pc : Nat) (ls : Array Slot) (H : Heap) (locs : List Loc) (k n : Nat) (rest : List Value) (q : Nat) (u : SX) (ee : yE), px ee.2.1 u → va_P G.1 vwCl (wx u ++ [yEc q ee]) H → va_D A (wx u ++ [yEc q ee]) → va_S A s.heap H locs → k ≤ rm.cells → n ≤ rm.slots → vy_W p l e rm s m args below meth c H locs k n Q (F0 m pc ls rest) q) → W p l e rm s m args below meth c s.heap [] 0 0 Q (F0 m 0 ls [])) : yCi l G y cc maxL (some ty) rm av w post w' px wx := by
  intro sz
  refine vy_ofW (cc := cc) (maxL := maxL) (ret := some ty) hy rfl ?_
  intro p e s m args below meth c s₁ B hml htb hv
  obtain ⟨rfl, hsz, hP, hK, hD0, hZ⟩ := hv
  subst hsz
  have hts := atoms_spec (ws := ws_ y cc maxL (some ty)) B.pre
  have hl := lv_entry av (n := maxL) hlen
  rw [lg_entry_eq]
  refine body p e s m _ below meth c (va_A w s.heap.size) _ _ ⟨B.exec, B.bytes, hml, findClass_of_methodNamed B.named, fun w h => hts w (List.mem_cons_of_mem _ h)⟩ hK hZ hP hD0.self (fun q h => Or.inr h) hl ?_ ?_
  · intro pc ls H locs k n v u hd hp hP hD hS hk hn
    refine W.widen hk hn (vy_ret ?_)
    exact W.zret (v := v) B.exec B.bytes B.returns (hpos v u hp) (fun t ht hW => ⟨⟨v, u, rfl, hp, by rw [ht]; exact hP, hD⟩, hS.F ht⟩) hS.2.2 hd
  · intro pc ls H locs k n rest q u ee hp hP hD hS hk hn
    exact y_leave (fun x hx => (htb x hx).elim) B.notSynchronized hK hp hP hD hS hk hn
theorem y_openl {S SX : Type} {l : Launch} {G : xG} {y : MethodName} {cc : ByteArray} {maxL : Nat} {rm : Room} {av : List Value} {w : va_W} {post : Int64 → S → Prop} {w' : S → va_W} {px : Int32 → SX → Prop} {wx : SX → va_W} (hy : plainName y.cls = true) (hlen : (lg_sl av).length ≤ maxL) 
    (body : ∀ (p : Program) (e : Env) (s : State) (m : MethodId) (args : Array Value) (below : List Frame) (meth : Method) (c : Code) (A : Nat → Prop) (Q : State → Prop) (ls : Array Slot), CallFix p m c cc maxL s args lw_all y.cls → KK G s → ZZ A s s.heap → va_P G.1 vwCl w s.heap → va_D A w → (∀ q : Nat, s.heap.size ≤ q → A q) → lv_has ls maxL (lv_args 0 av) → (∀ (pc : Nat) (ls : Array Slot) (H : Heap) (locs : List Loc) (k n : Nat) (v : Int64) (u : S), decode cc pc = .ok (.lreturn, 1) → post v u → va_P G.1 vwCl (w' u) H → va_D A (w' u) → va_S A s.heap H locs → k ≤ rm.cells → n ≤ rm.slots → W p l e rm s m args below meth c H locs k n Q (F0 m pc ls [.long v])) → (∀ (pc : Nat) (ls : Array Slot) (H : Heap) (locs : List Loc) (k n : Nat) (rest : List Value) (q : Nat) (u : SX) (ee : yE), px ee.2.1 u → va_P G.1 vwCl (wx u ++ [yEc q ee]) H → va_D A (wx u ++ [yEc q ee]) → va_S A s.heap H locs → k ≤ rm.cells → n ≤ rm.slots → vy_W p l e rm s m args below meth c H locs k n Q (F0 m pc ls rest) q) → W p l e rm s m args below meth c s.heap [] 0 0 Q (F0 m 0 ls [])) : yCl l G y cc maxL (some .long) rm av w post w' px wx := by
  intro sz
  refine vy_ofW (cc := cc) (maxL := maxL) (ret := some .long) hy rfl ?_
  intro p e s m args below meth c s₁ B hml htb hv
  obtain ⟨rfl, hsz, hP, hK, hD0, hZ⟩ := hv
  subst hsz
  have hts := atoms_spec (ws := ws_ y cc maxL (some .long)) B.pre
  have hl := lv_entry av (n := maxL) hlen
  rw [lg_entry_eq]
  refine body p e s m _ below meth c (va_A w s.heap.size) _ _ ⟨B.exec, B.bytes, hml, findClass_of_methodNamed B.named, fun w h => hts w (List.mem_cons_of_mem _ h)⟩ hK hZ hP hD0.self (fun q h => Or.inr h) hl ?_ ?_
  · intro pc ls H locs k n v u hd hp hP hD hS hk hn
    refine W.widen hk hn (vy_ret ?_)
    exact W.lret (v := v) B.exec B.bytes B.returns (fun t ht hW => ⟨⟨v, u, rfl, hp, by rw [ht]; exact hP, hD⟩, hS.F ht⟩) hS.2.2 hd
  · intro pc ls H locs k n rest q u ee hp hP hD hS hk hn
    exact y_leave (fun x hx => (htb x hx).elim) B.notSynchronized hK hp hP hD hS hk hn
theorem y_openv {S SX : Type} {l : Launch} {G : xG} {y : MethodName} {cc : ByteArray} {maxL : Nat} {rm : Room} {av : List Value} {w : va_W} {post : S → Prop} {w' : S → va_W} {px : Int32 → SX → Prop} {wx : SX → va_W} (hy : plainName y.cls = true) (hlen : (lg_sl av).length ≤ maxL) 
    (body : ∀ (p : Program) (e : Env) (s : State) (m : MethodId) (args : Array Value) (below : List Frame) (meth : Method) (c : Code) (A : Nat → Prop) (Q : State → Prop) (ls : Array Slot), CallFix p m c cc maxL s args lw_all y.cls → KK G s → ZZ A s s.heap → va_P G.1 vwCl w s.heap → va_D A w → (∀ q : Nat, s.heap.size ≤ q → A q) → lv_has ls maxL (lv_args 0 av) → (∀ (pc : Nat) (ls : Array Slot) (H : Heap) (locs : List Loc) (k n : Nat) (u : S), decode cc pc = .ok (.return_, 1) → post u → va_P G.1 vwCl (w' u) H → va_D A (w' u) → va_S A s.heap H locs → k ≤ rm.cells → n ≤ rm.slots → W p l e rm s m args below meth c H locs k n Q (F0 m pc ls [])) → (∀ (pc : Nat) (ls : Array Slot) (H : Heap) (locs : List Loc) (k n : Nat) (rest : List Value) (q : Nat) (u : SX) (ee : yE), px ee.2.1 u → va_P G.1 vwCl (wx u ++ [yEc q ee]) H → va_D A (wx u ++ [yEc q ee]) → va_S A s.heap H locs → k ≤ rm.cells → n ≤ rm.slots → vy_W p l e rm s m args below meth c H locs k n Q (F0 m pc ls rest) q) → W p l e rm s m args below meth c s.heap [] 0 0 Q (F0 m 0 ls [])) : yCv l G y cc maxL none rm av w post w' px wx := by
  intro sz
  refine vy_ofW (cc := cc) (maxL := maxL) (ret := none) hy rfl ?_
  intro p e s m args below meth c s₁ B hml htb hv
  obtain ⟨rfl, hsz, hP, hK, hD0, hZ⟩ := hv
  subst hsz
  have hts := atoms_spec (ws := ws_ y cc maxL none) B.pre
  have hl := lv_entry av (n := maxL) hlen
  rw [lg_entry_eq]
  refine body p e s m _ below meth c (va_A w s.heap.size) _ _ ⟨B.exec, B.bytes, hml, findClass_of_methodNamed B.named, fun w h => hts w (List.mem_cons_of_mem _ h)⟩ hK hZ hP hD0.self (fun q h => Or.inr h) hl ?_ ?_
  · intro pc ls H locs k n u hd hp hP hD hS hk hn
    refine W.widen hk hn (vy_ret ?_)
    exact W.vret B.exec B.bytes B.returns (fun t ht hW => ⟨⟨u, rfl, hp, by rw [ht]; exact hP, hD⟩, hS.F ht⟩) hS.2.2 hd
  · intro pc ls H locs k n rest q u ee hp hP hD hS hk hn
    exact y_leave (fun x hx => (htb x hx).elim) B.notSynchronized hK hp hP hD hS hk hn
theorem y_openr {S SX : Type} {l : Launch} {G : xG} {y : MethodName} {cc : ByteArray} {maxL : Nat} {ty : FieldType} {rm : Room} {av : List Value} {w : va_W} {post : S → Prop} {ra : S → Nat} {w' : S → va_W} {px : Int32 → SX → Prop} {wx : SX → va_W} (hy : plainName y.cls = true) (hlen : (lg_sl av).length ≤ maxL) (hty : (∃ n, ty = .object n) ∨ ∃ t, ty = .array t)
    (body : ∀ (p : Program) (e : Env) (s : State) (m : MethodId) (args : Array Value) (below : List Frame) (meth : Method) (c : Code) (A : Nat → Prop) (Q : State → Prop) (ls : Array Slot), CallFix p m c cc maxL s args lw_all y.cls → KK G s → ZZ A s s.heap → va_P G.1 vwCl w s.heap → va_D A w → (∀ q : Nat, s.heap.size ≤ q → A q) → lv_has ls maxL (lv_args 0 av) → (∀ (pc : Nat) (ls : Array Slot) (H : Heap) (locs : List Loc) (k n : Nat) (u : S), decode cc pc = .ok (.areturn, 1) → post u → va_P G.1 vwCl (w' u) H → va_D A (w' u) → va_S A s.heap H locs → k ≤ rm.cells → n ≤ rm.slots → W p l e rm s m args below meth c H locs k n Q (F0 m pc ls [.ref (ra u)])) → (∀ (pc : Nat) (ls : Array Slot) (H : Heap) (locs : List Loc) (k n : Nat) (rest : List Value) (q : Nat) (u : SX) (ee : yE), px ee.2.1 u → va_P G.1 vwCl (wx u ++ [yEc q ee]) H → va_D A (wx u ++ [yEc q ee]) → va_S A s.heap H locs → k ≤ rm.cells → n ≤ rm.slots → vy_W p l e rm s m args below meth c H locs k n Q (F0 m pc ls rest) q) → W p l e rm s m args below meth c s.heap [] 0 0 Q (F0 m 0 ls [])) : yCr l G y cc maxL (some ty) rm av w post ra w' px wx := by
  intro sz
  refine vy_ofW (cc := cc) (maxL := maxL) (ret := some ty) hy rfl ?_
  intro p e s m args below meth c s₁ B hml htb hv
  obtain ⟨rfl, hsz, hP, hK, hD0, hZ⟩ := hv
  subst hsz
  have hts := atoms_spec (ws := ws_ y cc maxL (some ty)) B.pre
  have hl := lv_entry av (n := maxL) hlen
  rw [lg_entry_eq]
  refine body p e s m _ below meth c (va_A w s.heap.size) _ _ ⟨B.exec, B.bytes, hml, findClass_of_methodNamed B.named, fun w h => hts w (List.mem_cons_of_mem _ h)⟩ hK hZ hP hD0.self (fun q h => Or.inr h) hl ?_ ?_
  · intro pc ls H locs k n u hd hp hP hD hS hk hn
    refine W.widen hk hn (vy_ret ?_)
    exact W.aret (v := .ref (ra u)) B.exec B.bytes B.returns hty (Or.inr ⟨_, rfl⟩) (fun t ht hW => ⟨⟨u, ra u, rfl, hp, rfl, by rw [ht]; exact hP, hD⟩, hS.F ht⟩) hS.2.2 hd
  · intro pc ls H locs k n rest q u ee hp hP hD hS hk hn
    exact y_leave (fun x hx => (htb x hx).elim) B.notSynchronized hK hp hP hD hS hk hn
section YC
variable {p : Program} {l : Launch} {e : Env} {R : Room} {s : State} {m : MethodId} {args : Array Value} {below : List Frame} {meth : Method} {c : Code} {H : Heap} {locs : List Loc} {cells slots : Nat} {Q : State → Prop} {G : xG} {cc bytes : ByteArray} {nL maxL index pc : Nat} {own : String} {y : MethodName} {rm : Room} {ls : Array Slot} {A : Nat → Prop} {ws wc : va_W} {As rest st0 : List Value} {ret : Option FieldType}
theorem y_pre {av : List Value} (hX : xS G p m c cc nL s args own A ws H locs) (hZ : ZZ A s s.heap) (isC : List Nat) (hn : va_nd isC = true) (hC : isC.map (fun i => ws[i]?) = wc.map some) : ∀ U : State, U.heap = H → s.WarmedH U.vm → yPc G av wc H.size av.toArray U := by
  intro U hU hW
  obtain ⟨a1, a2, a3, a4, a5⟩ := x_pre (av := av) hX isC hn hC U hU hW
  exact ⟨a1, a2, a3, a4, a5, hZ.at hX.2.2.2.2.1 hW hU (x_free hX.2.2.2.1 hX.2.2.2.2.1 hX.2.2.2.2.2 isC hC)⟩
theorem y_backi {S SX : Type} {post : Int32 → S → Prop} {w' : S → va_W} {wN : S → va_W} {px : Int32 → SX → Prop} {wx wNx : SX → va_W} {a : Array Value} (hX : xS G p m c cc nL s args own A ws H locs) (isC pl plx : List Nat) (hC : isC.map (fun i => ws[i]?) = wc.map some) (hN : ∀ u, pl.map (fun n => xlk ws (w' u) n) = (wN u).map some) (hNx : ∀ u q ee, plx.map (fun n => xlk ws (wx u ++ [yEc q ee]) n) = (wNx u ++ [yEc q ee]).map some) (hn : xok isC pl = true) (hnx : xok isC plx = true)
    (hr : vy_Run p l e R s m args below meth c H locs cells slots rm.cells rm.slots (F0 m pc ls st0) rest (va_Qi post (xB G wc H.size w') (va_A wc H.size) a) (vy_X (fun u : SX × yE => px u.2.2.1 u.1) (yB G wc H.size wx) (va_A wc H.size)) (va_A wc H.size))
    (kx : ∀ (q : Nat) (u : SX) (ee : yE) (H1 : Heap) (locs1 : List Loc), px ee.2.1 u → va_P G.1 vwCl (wNx u ++ [yEc q ee]) H1 → va_D A (wNx u ++ [yEc q ee]) → va_S A s.heap H1 locs1 → vy_W p l e R s m args below meth c H1 locs1 (cells + rm.cells) (slots + rm.slots) Q (F0 m pc ls rest) q) (kk : ∀ (r : Int32) (u : S) (H1 : Heap) (locs1 : List Loc), post r u → va_P G.1 vwCl (wN u) H1 → va_D A (wN u) → va_S A s.heap H1 locs1 → W p l e R s m args below meth c H1 locs1 (cells + rm.cells) (slots + rm.slots) Q (F0 m (pc + 3) ls (.int r :: rest))) : W p l e R s m args below meth c H locs cells slots Q (F0 m pc ls st0) := by
  obtain ⟨hC0, hK, hP, hD, hS, hA⟩ := hX
  have hF := x_free hD hS hA isC hC
  refine vy_calli hr hS (fun q _ h => hF q h) hF (fun q _ h => hF q h) (fun E ce q9 u t H1 locs1 ht hvm hw hB hz1 hk1 hS1 _ _ _ => ?_) (fun r u t H1 locs1 ht hvm hw hB hz1 hk1 hS1 => ?_)
  · obtain ⟨-, hP1, hD1⟩ := hB
    rw [ht] at hP1
    obtain ⟨hP2, hD2⟩ := x_merge hP hD isC plx hC (hNx u.1 q9 u.2) hnx hk1 hF hP1 hD1
    exact kx q9 u.1 u.2 H1 locs1 hw hP2 hD2 hS1
  · obtain ⟨hP1, hD1⟩ := hB
    rw [ht] at hP1
    obtain ⟨hP2, hD2⟩ := x_merge hP hD isC pl hC (hN u) hn hk1 hF hP1 hD1
    exact kk r u H1 locs1 hw hP2 hD2 hS1
theorem y_Vi {S SX : Type} {post : Int32 → S → Prop} {w' : S → va_W} {wN : S → va_W} {px : Int32 → SX → Prop} {wx wNx : SX → va_W} {b : Nat} (hX : xS G p m c cc nL s args own A ws H locs) (hZ : ZZ A s s.heap) {C : String} {q9 : vw_C} {fs : List Value} {ci : Nat} (q0 : Nat) (he : ws[q0]? = some (b, .inr (ci, fs))) (hci : vwCl[ci]? = some q9) (hCq : q9.1 = C) (hM : yCi l G y bytes maxL ret rm (.ref b :: As) wc post w' px wx) (cw : CallW R s args own C index y bytes maxL ret (ws_ y bytes maxL ret) rm rm.cells rm.slots As.length) (isC pl plx : List Nat) (hC : isC.map (fun i => ws[i]?) = wc.map some) (hN : ∀ u, pl.map (fun n => xlk ws (w' u) n) = (wN u).map some) (hNx : ∀ u q ee, plx.map (fun n => xlk ws (wx u ++ [yEc q ee]) n) = (wNx u ++ [yEc q ee]).map some) (hn : xok isC pl = true) (hnx : xok isC plx = true) (hnC : va_nd isC = true) (hsize : ls.size = nL) (hstack : st0 = As.reverse ++ .ref b :: rest) (hW : (rest.map fun v => v.category).sum ≤ 8) (hdg : decode cc pc = .ok (.invokevirtual index, 3)) (hf : cells + rm.cells ≤ R.cells ∧ slots + rm.slots ≤ R.slots)
    (kx : ∀ (q : Nat) (u : SX) (ee : yE) (H1 : Heap) (locs1 : List Loc), px ee.2.1 u → va_P G.1 vwCl (wNx u ++ [yEc q ee]) H1 → va_D A (wNx u ++ [yEc q ee]) → va_S A s.heap H1 locs1 → vy_W p l e R s m args below meth c H1 locs1 (cells + rm.cells) (slots + rm.slots) Q (F0 m pc ls rest) q) (kk : ∀ (r : Int32) (u : S) (H1 : Heap) (locs1 : List Loc), post r u → va_P G.1 vwCl (wN u) H1 → va_D A (wN u) → va_S A s.heap H1 locs1 → W p l e R s m args below meth c H1 locs1 (cells + rm.cells) (slots + rm.slots) Q (F0 m (pc + 3) ls (.int r :: rest))) : W p l e R s m args below meth c H locs cells slots Q (F0 m pc ls st0) := by
  have hrec : ∃ cell : Cell, H[b]? = some cell ∧ cell.vm.isStatics = false ∧ s.vm.findClass C = some cell.cls := by rw [← hCq]; exact va_recv hX.2.1.1 hX.2.2.1 hci he
  exact y_backi hX isC pl plx hC hN hNx hn hnx (vy_runV hX.1 (hM H.size) cw ⟨yPc.blind, hrec, y_pre hX hZ isC hnC hC⟩ rfl rfl hsize hstack (lv_room hW) hdg hf) kx kk
theorem y_Si {S SX : Type} {post : Int32 → S → Prop} {w' : S → va_W} {wN : S → va_W} {px : Int32 → SX → Prop} {wx wNx : SX → va_W} (hX : xS G p m c cc nL s args own A ws H locs) (hZ : ZZ A s s.heap) (hM : yCi l G y bytes maxL ret rm As wc post w' px wx) (cw : CallB R s args own index y bytes maxL ret (ws_ y bytes maxL ret) rm rm.cells rm.slots As.length ∧ (Cond.static y).before args s = true) (isC pl plx : List Nat) (hC : isC.map (fun i => ws[i]?) = wc.map some) (hN : ∀ u, pl.map (fun n => xlk ws (w' u) n) = (wN u).map some) (hNx : ∀ u q ee, plx.map (fun n => xlk ws (wx u ++ [yEc q ee]) n) = (wNx u ++ [yEc q ee]).map some) (hn : xok isC pl = true) (hnx : xok isC plx = true) (hnC : va_nd isC = true) (hsize : ls.size = nL) (hstack : st0 = As.reverse ++ rest) (hW : (rest.map fun v => v.category).sum ≤ 8) (hdg : decode cc pc = .ok (.invokestatic index, 3)) (hf : cells + rm.cells ≤ R.cells ∧ slots + rm.slots ≤ R.slots)
    (kx : ∀ (q : Nat) (u : SX) (ee : yE) (H1 : Heap) (locs1 : List Loc), px ee.2.1 u → va_P G.1 vwCl (wNx u ++ [yEc q ee]) H1 → va_D A (wNx u ++ [yEc q ee]) → va_S A s.heap H1 locs1 → vy_W p l e R s m args below meth c H1 locs1 (cells + rm.cells) (slots + rm.slots) Q (F0 m pc ls rest) q) (kk : ∀ (r : Int32) (u : S) (H1 : Heap) (locs1 : List Loc), post r u → va_P G.1 vwCl (wN u) H1 → va_D A (wN u) → va_S A s.heap H1 locs1 → W p l e R s m args below meth c H1 locs1 (cells + rm.cells) (slots + rm.slots) Q (F0 m (pc + 3) ls (.int r :: rest))) : W p l e R s m args below meth c H locs cells slots Q (F0 m pc ls st0) := by
  exact y_backi hX isC pl plx hC hN hNx hn hnx (vy_runS hX.1 (hM H.size) cw ⟨yPc.blind, y_pre hX hZ isC hnC hC⟩ rfl rfl hsize hstack (lv_room hW) hdg hf) kx kk
theorem y_backl {S SX : Type} {post : Int64 → S → Prop} {w' : S → va_W} {wN : S → va_W} {px : Int32 → SX → Prop} {wx wNx : SX → va_W} {a : Array Value} (hX : xS G p m c cc nL s args own A ws H locs) (isC pl plx : List Nat) (hC : isC.map (fun i => ws[i]?) = wc.map some) (hN : ∀ u, pl.map (fun n => xlk ws (w' u) n) = (wN u).map some) (hNx : ∀ u q ee, plx.map (fun n => xlk ws (wx u ++ [yEc q ee]) n) = (wNx u ++ [yEc q ee]).map some) (hn : xok isC pl = true) (hnx : xok isC plx = true)
    (hr : vy_Run p l e R s m args below meth c H locs cells slots rm.cells rm.slots (F0 m pc ls st0) rest (va_Ql post (xB G wc H.size w') (va_A wc H.size) a) (vy_X (fun u : SX × yE => px u.2.2.1 u.1) (yB G wc H.size wx) (va_A wc H.size)) (va_A wc H.size))
    (kx : ∀ (q : Nat) (u : SX) (ee : yE) (H1 : Heap) (locs1 : List Loc), px ee.2.1 u → va_P G.1 vwCl (wNx u ++ [yEc q ee]) H1 → va_D A (wNx u ++ [yEc q ee]) → va_S A s.heap H1 locs1 → vy_W p l e R s m args below meth c H1 locs1 (cells + rm.cells) (slots + rm.slots) Q (F0 m pc ls rest) q) (kk : ∀ (r : Int64) (u : S) (H1 : Heap) (locs1 : List Loc), post r u → va_P G.1 vwCl (wN u) H1 → va_D A (wN u) → va_S A s.heap H1 locs1 → W p l e R s m args below meth c H1 locs1 (cells + rm.cells) (slots + rm.slots) Q (F0 m (pc + 3) ls (.long r :: rest))) : W p l e R s m args below meth c H locs cells slots Q (F0 m pc ls st0) := by
  obtain ⟨hC0, hK, hP, hD, hS, hA⟩ := hX
  have hF := x_free hD hS hA isC hC
  refine vy_calll hr hS (fun q _ h => hF q h) hF (fun q _ h => hF q h) (fun E ce q9 u t H1 locs1 ht hvm hw hB hz1 hk1 hS1 _ _ _ => ?_) (fun r u t H1 locs1 ht hvm hw hB hz1 hk1 hS1 => ?_)
  · obtain ⟨-, hP1, hD1⟩ := hB
    rw [ht] at hP1
    obtain ⟨hP2, hD2⟩ := x_merge hP hD isC plx hC (hNx u.1 q9 u.2) hnx hk1 hF hP1 hD1
    exact kx q9 u.1 u.2 H1 locs1 hw hP2 hD2 hS1
  · obtain ⟨hP1, hD1⟩ := hB
    rw [ht] at hP1
    obtain ⟨hP2, hD2⟩ := x_merge hP hD isC pl hC (hN u) hn hk1 hF hP1 hD1
    exact kk r u H1 locs1 hw hP2 hD2 hS1
theorem y_Vl {S SX : Type} {post : Int64 → S → Prop} {w' : S → va_W} {wN : S → va_W} {px : Int32 → SX → Prop} {wx wNx : SX → va_W} {b : Nat} (hX : xS G p m c cc nL s args own A ws H locs) (hZ : ZZ A s s.heap) {C : String} {q9 : vw_C} {fs : List Value} {ci : Nat} (q0 : Nat) (he : ws[q0]? = some (b, .inr (ci, fs))) (hci : vwCl[ci]? = some q9) (hCq : q9.1 = C) (hM : yCl l G y bytes maxL ret rm (.ref b :: As) wc post w' px wx) (cw : CallW R s args own C index y bytes maxL ret (ws_ y bytes maxL ret) rm rm.cells rm.slots As.length) (isC pl plx : List Nat) (hC : isC.map (fun i => ws[i]?) = wc.map some) (hN : ∀ u, pl.map (fun n => xlk ws (w' u) n) = (wN u).map some) (hNx : ∀ u q ee, plx.map (fun n => xlk ws (wx u ++ [yEc q ee]) n) = (wNx u ++ [yEc q ee]).map some) (hn : xok isC pl = true) (hnx : xok isC plx = true) (hnC : va_nd isC = true) (hsize : ls.size = nL) (hstack : st0 = As.reverse ++ .ref b :: rest) (hW : (rest.map fun v => v.category).sum ≤ 8) (hdg : decode cc pc = .ok (.invokevirtual index, 3)) (hf : cells + rm.cells ≤ R.cells ∧ slots + rm.slots ≤ R.slots)
    (kx : ∀ (q : Nat) (u : SX) (ee : yE) (H1 : Heap) (locs1 : List Loc), px ee.2.1 u → va_P G.1 vwCl (wNx u ++ [yEc q ee]) H1 → va_D A (wNx u ++ [yEc q ee]) → va_S A s.heap H1 locs1 → vy_W p l e R s m args below meth c H1 locs1 (cells + rm.cells) (slots + rm.slots) Q (F0 m pc ls rest) q) (kk : ∀ (r : Int64) (u : S) (H1 : Heap) (locs1 : List Loc), post r u → va_P G.1 vwCl (wN u) H1 → va_D A (wN u) → va_S A s.heap H1 locs1 → W p l e R s m args below meth c H1 locs1 (cells + rm.cells) (slots + rm.slots) Q (F0 m (pc + 3) ls (.long r :: rest))) : W p l e R s m args below meth c H locs cells slots Q (F0 m pc ls st0) := by
  have hrec : ∃ cell : Cell, H[b]? = some cell ∧ cell.vm.isStatics = false ∧ s.vm.findClass C = some cell.cls := by rw [← hCq]; exact va_recv hX.2.1.1 hX.2.2.1 hci he
  exact y_backl hX isC pl plx hC hN hNx hn hnx (vy_runV hX.1 (hM H.size) cw ⟨yPc.blind, hrec, y_pre hX hZ isC hnC hC⟩ rfl rfl hsize hstack (lv_room hW) hdg hf) kx kk
theorem y_Sl {S SX : Type} {post : Int64 → S → Prop} {w' : S → va_W} {wN : S → va_W} {px : Int32 → SX → Prop} {wx wNx : SX → va_W} (hX : xS G p m c cc nL s args own A ws H locs) (hZ : ZZ A s s.heap) (hM : yCl l G y bytes maxL ret rm As wc post w' px wx) (cw : CallB R s args own index y bytes maxL ret (ws_ y bytes maxL ret) rm rm.cells rm.slots As.length ∧ (Cond.static y).before args s = true) (isC pl plx : List Nat) (hC : isC.map (fun i => ws[i]?) = wc.map some) (hN : ∀ u, pl.map (fun n => xlk ws (w' u) n) = (wN u).map some) (hNx : ∀ u q ee, plx.map (fun n => xlk ws (wx u ++ [yEc q ee]) n) = (wNx u ++ [yEc q ee]).map some) (hn : xok isC pl = true) (hnx : xok isC plx = true) (hnC : va_nd isC = true) (hsize : ls.size = nL) (hstack : st0 = As.reverse ++ rest) (hW : (rest.map fun v => v.category).sum ≤ 8) (hdg : decode cc pc = .ok (.invokestatic index, 3)) (hf : cells + rm.cells ≤ R.cells ∧ slots + rm.slots ≤ R.slots)
    (kx : ∀ (q : Nat) (u : SX) (ee : yE) (H1 : Heap) (locs1 : List Loc), px ee.2.1 u → va_P G.1 vwCl (wNx u ++ [yEc q ee]) H1 → va_D A (wNx u ++ [yEc q ee]) → va_S A s.heap H1 locs1 → vy_W p l e R s m args below meth c H1 locs1 (cells + rm.cells) (slots + rm.slots) Q (F0 m pc ls rest) q) (kk : ∀ (r : Int64) (u : S) (H1 : Heap) (locs1 : List Loc), post r u → va_P G.1 vwCl (wN u) H1 → va_D A (wN u) → va_S A s.heap H1 locs1 → W p l e R s m args below meth c H1 locs1 (cells + rm.cells) (slots + rm.slots) Q (F0 m (pc + 3) ls (.long r :: rest))) : W p l e R s m args below meth c H locs cells slots Q (F0 m pc ls st0) := by
  exact y_backl hX isC pl plx hC hN hNx hn hnx (vy_runS hX.1 (hM H.size) cw ⟨yPc.blind, y_pre hX hZ isC hnC hC⟩ rfl rfl hsize hstack (lv_room hW) hdg hf) kx kk
theorem y_backv {S SX : Type} {post : S → Prop} {w' : S → va_W} {wN : S → va_W} {px : Int32 → SX → Prop} {wx wNx : SX → va_W} {a : Array Value} (hX : xS G p m c cc nL s args own A ws H locs) (isC pl plx : List Nat) (hC : isC.map (fun i => ws[i]?) = wc.map some) (hN : ∀ u, pl.map (fun n => xlk ws (w' u) n) = (wN u).map some) (hNx : ∀ u q ee, plx.map (fun n => xlk ws (wx u ++ [yEc q ee]) n) = (wNx u ++ [yEc q ee]).map some) (hn : xok isC pl = true) (hnx : xok isC plx = true)
    (hr : vy_Run p l e R s m args below meth c H locs cells slots rm.cells rm.slots (F0 m pc ls st0) rest (va_Qv post (xB G wc H.size w') (va_A wc H.size) a) (vy_X (fun u : SX × yE => px u.2.2.1 u.1) (yB G wc H.size wx) (va_A wc H.size)) (va_A wc H.size))
    (kx : ∀ (q : Nat) (u : SX) (ee : yE) (H1 : Heap) (locs1 : List Loc), px ee.2.1 u → va_P G.1 vwCl (wNx u ++ [yEc q ee]) H1 → va_D A (wNx u ++ [yEc q ee]) → va_S A s.heap H1 locs1 → vy_W p l e R s m args below meth c H1 locs1 (cells + rm.cells) (slots + rm.slots) Q (F0 m pc ls rest) q) (kk : ∀ (u : S) (H1 : Heap) (locs1 : List Loc), post u → va_P G.1 vwCl (wN u) H1 → va_D A (wN u) → va_S A s.heap H1 locs1 → W p l e R s m args below meth c H1 locs1 (cells + rm.cells) (slots + rm.slots) Q (F0 m (pc + 3) ls (rest))) : W p l e R s m args below meth c H locs cells slots Q (F0 m pc ls st0) := by
  obtain ⟨hC0, hK, hP, hD, hS, hA⟩ := hX
  have hF := x_free hD hS hA isC hC
  refine vy_callv hr hS (fun q _ h => hF q h) hF (fun q _ h => hF q h) (fun E ce q9 u t H1 locs1 ht hvm hw hB hz1 hk1 hS1 _ _ _ => ?_) (fun u t H1 locs1 ht hvm hw hB hz1 hk1 hS1 => ?_)
  · obtain ⟨-, hP1, hD1⟩ := hB
    rw [ht] at hP1
    obtain ⟨hP2, hD2⟩ := x_merge hP hD isC plx hC (hNx u.1 q9 u.2) hnx hk1 hF hP1 hD1
    exact kx q9 u.1 u.2 H1 locs1 hw hP2 hD2 hS1
  · obtain ⟨hP1, hD1⟩ := hB
    rw [ht] at hP1
    obtain ⟨hP2, hD2⟩ := x_merge hP hD isC pl hC (hN u) hn hk1 hF hP1 hD1
    exact kk u H1 locs1 hw hP2 hD2 hS1
theorem y_Vv {S SX : Type} {post : S → Prop} {w' : S → va_W} {wN : S → va_W} {px : Int32 → SX → Prop} {wx wNx : SX → va_W} {b : Nat} (hX : xS G p m c cc nL s args own A ws H locs) (hZ : ZZ A s s.heap) {C : String} {q9 : vw_C} {fs : List Value} {ci : Nat} (q0 : Nat) (he : ws[q0]? = some (b, .inr (ci, fs))) (hci : vwCl[ci]? = some q9) (hCq : q9.1 = C) (hM : yCv l G y bytes maxL ret rm (.ref b :: As) wc post w' px wx) (cw : CallW R s args own C index y bytes maxL ret (ws_ y bytes maxL ret) rm rm.cells rm.slots As.length) (isC pl plx : List Nat) (hC : isC.map (fun i => ws[i]?) = wc.map some) (hN : ∀ u, pl.map (fun n => xlk ws (w' u) n) = (wN u).map some) (hNx : ∀ u q ee, plx.map (fun n => xlk ws (wx u ++ [yEc q ee]) n) = (wNx u ++ [yEc q ee]).map some) (hn : xok isC pl = true) (hnx : xok isC plx = true) (hnC : va_nd isC = true) (hsize : ls.size = nL) (hstack : st0 = As.reverse ++ .ref b :: rest) (hW : (rest.map fun v => v.category).sum ≤ 8) (hdg : decode cc pc = .ok (.invokevirtual index, 3)) (hf : cells + rm.cells ≤ R.cells ∧ slots + rm.slots ≤ R.slots)
    (kx : ∀ (q : Nat) (u : SX) (ee : yE) (H1 : Heap) (locs1 : List Loc), px ee.2.1 u → va_P G.1 vwCl (wNx u ++ [yEc q ee]) H1 → va_D A (wNx u ++ [yEc q ee]) → va_S A s.heap H1 locs1 → vy_W p l e R s m args below meth c H1 locs1 (cells + rm.cells) (slots + rm.slots) Q (F0 m pc ls rest) q) (kk : ∀ (u : S) (H1 : Heap) (locs1 : List Loc), post u → va_P G.1 vwCl (wN u) H1 → va_D A (wN u) → va_S A s.heap H1 locs1 → W p l e R s m args below meth c H1 locs1 (cells + rm.cells) (slots + rm.slots) Q (F0 m (pc + 3) ls (rest))) : W p l e R s m args below meth c H locs cells slots Q (F0 m pc ls st0) := by
  have hrec : ∃ cell : Cell, H[b]? = some cell ∧ cell.vm.isStatics = false ∧ s.vm.findClass C = some cell.cls := by rw [← hCq]; exact va_recv hX.2.1.1 hX.2.2.1 hci he
  exact y_backv hX isC pl plx hC hN hNx hn hnx (vy_runV hX.1 (hM H.size) cw ⟨yPc.blind, hrec, y_pre hX hZ isC hnC hC⟩ rfl rfl hsize hstack (lv_room hW) hdg hf) kx kk
theorem y_Sv {S SX : Type} {post : S → Prop} {w' : S → va_W} {wN : S → va_W} {px : Int32 → SX → Prop} {wx wNx : SX → va_W} (hX : xS G p m c cc nL s args own A ws H locs) (hZ : ZZ A s s.heap) (hM : yCv l G y bytes maxL ret rm As wc post w' px wx) (cw : CallB R s args own index y bytes maxL ret (ws_ y bytes maxL ret) rm rm.cells rm.slots As.length ∧ (Cond.static y).before args s = true) (isC pl plx : List Nat) (hC : isC.map (fun i => ws[i]?) = wc.map some) (hN : ∀ u, pl.map (fun n => xlk ws (w' u) n) = (wN u).map some) (hNx : ∀ u q ee, plx.map (fun n => xlk ws (wx u ++ [yEc q ee]) n) = (wNx u ++ [yEc q ee]).map some) (hn : xok isC pl = true) (hnx : xok isC plx = true) (hnC : va_nd isC = true) (hsize : ls.size = nL) (hstack : st0 = As.reverse ++ rest) (hW : (rest.map fun v => v.category).sum ≤ 8) (hdg : decode cc pc = .ok (.invokestatic index, 3)) (hf : cells + rm.cells ≤ R.cells ∧ slots + rm.slots ≤ R.slots)
    (kx : ∀ (q : Nat) (u : SX) (ee : yE) (H1 : Heap) (locs1 : List Loc), px ee.2.1 u → va_P G.1 vwCl (wNx u ++ [yEc q ee]) H1 → va_D A (wNx u ++ [yEc q ee]) → va_S A s.heap H1 locs1 → vy_W p l e R s m args below meth c H1 locs1 (cells + rm.cells) (slots + rm.slots) Q (F0 m pc ls rest) q) (kk : ∀ (u : S) (H1 : Heap) (locs1 : List Loc), post u → va_P G.1 vwCl (wN u) H1 → va_D A (wN u) → va_S A s.heap H1 locs1 → W p l e R s m args below meth c H1 locs1 (cells + rm.cells) (slots + rm.slots) Q (F0 m (pc + 3) ls (rest))) : W p l e R s m args below meth c H locs cells slots Q (F0 m pc ls st0) := by
  exact y_backv hX isC pl plx hC hN hNx hn hnx (vy_runS hX.1 (hM H.size) cw ⟨yPc.blind, y_pre hX hZ isC hnC hC⟩ rfl rfl hsize hstack (lv_room hW) hdg hf) kx kk
end YC

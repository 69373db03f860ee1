/-! THE LAYER: classes of the worlds, the words that only the tables hold, contracts, openers, calls (printed by tools/mklayer.py) -/
set_option maxRecDepth 100000
def TX_no : u_T := fun _ => ("", "", "", false)
abbrev vwCl : List vw_C := [(RX0, TX0, 13), (RX2, TX_no, 0), (RX3, TX_no, 0), (RX4, TX_no, 0), (RX5, TX_no, 0), (RX6, TX_no, 0), (RX7, TX_no, 0), (RX8, TX8, 9), (RX9, TX9, 13), (RX11, TX11, 7), (RX12, TX12, 3), (RX13, TX13, 7), (RX15, TX15, 3), (RX16, TX16, 4), (RX17, TX17, 3), (RX18, TX18, 2), (RX19, TX19, 2), (RX20, TX20, 2)]
def nwF : List (String × Nat × String × String × String × String) := [("PulledFromUnder$OnThingTold", 15, "PulledFromUnder$Room", "things", "I", "PulledFromUnder"), ("PulledFromUnder$PullTold", 16, "PulledFromUnder$Room", "things", "I", "PulledFromUnder"), ("PulledFromUnder$SetUpTold", 15, "PulledFromUnder$Room", "things", "I", "PulledFromUnder"), ("PulledFromUnder$FloorThingTold", 21, "PulledFromUnder$Room", "things", "I", "PulledFromUnder"), ("PulledFromUnder", 134, "PulledFromUnder$Room", "things", "I", "PulledFromUnder"), ("PulledFromUnder", 186, "PulledFromUnder$Room", "kind", "[LPulledFromUnder$Kind;", "PulledFromUnder"), ("PulledFromUnder", 210, "PulledFromUnder$Room", "figures", "[I", "PulledFromUnder"), ("PulledFromUnder", 270, "PulledFromUnder$Room", "on", "[I", "PulledFromUnder"), ("PulledFromUnder$SetUpTold", 20, "PulledFromUnder$Room", "state", "[I", "PulledFromUnder"), ("PulledFromUnder", 124, "PulledFromUnder$Room", "state", "[I", "PulledFromUnder"), ("PulledFromUnder", 273, "PulledFromUnder$Room", "air", "[I", "PulledFromUnder"), ("PulledFromUnder$FloorThingTold", 15, "PulledFromUnder$Room", "isFloor", "Z", "PulledFromUnder"), ("PulledFromUnder$FloorTold", 7, "PulledFromUnder$Room", "isFloor", "Z", "PulledFromUnder"), ("PulledFromUnder", 288, "PulledFromUnder$Room", "isFloor", "Z", "PulledFromUnder"), ("PulledFromUnder$MinutesTold", 21, "PulledFromUnder$Room", "minute", "I", "PulledFromUnder"), ("PulledFromUnder", 299, "PulledFromUnder$Room", "minute", "I", "PulledFromUnder"), ("PulledFromUnder", 174, "PulledFromUnder$Room", "props", "I", "PulledFromUnder"), ("PulledFromUnder$Reader", 69, "PulledFromUnder", "kinds", "[LPulledFromUnder$Kind;", "PulledFromUnder"), ("PulledFromUnder$Reader", 25, "PulledFromUnder", "letters", "[C", "PulledFromUnder"), ("PulledFromUnder$Reader", 13, "PulledFromUnder", "letterMany", "I", "PulledFromUnder"), ("PulledFromUnder", 99, "PulledFromUnder$Reader", "size", "I", "PulledFromUnder"), ("PulledFromUnder", 96, "PulledFromUnder$Reader", "at", "I", "PulledFromUnder")]
def nwM : List (String × Nat × MethodName × String) := [("PulledFromUnder", 30, ⟨"PulledFromUnder$Thing", "<init>", "()V"⟩, "PulledFromUnder"), ("PulledFromUnder$Thing", 1, ⟨"PulledFromUnder$Kind", "<init>", "()V"⟩, "PulledFromUnder"), ("PulledFromUnder", 33, ⟨"PulledFromUnder$Glass", "<init>", "()V"⟩, "PulledFromUnder"), ("PulledFromUnder$Glass", 3, ⟨"PulledFromUnder$Thing", "<init>", "()V"⟩, "PulledFromUnder"), ("PulledFromUnder", 36, ⟨"PulledFromUnder$Person", "<init>", "()V"⟩, "PulledFromUnder"), ("PulledFromUnder$Person", 1, ⟨"PulledFromUnder$Thing", "<init>", "()V"⟩, "PulledFromUnder"), ("PulledFromUnder", 39, ⟨"PulledFromUnder$Council", "<init>", "()V"⟩, "PulledFromUnder"), ("PulledFromUnder$Council", 1, ⟨"PulledFromUnder$Person", "<init>", "()V"⟩, "PulledFromUnder"), ("PulledFromUnder", 42, ⟨"PulledFromUnder$Watcher", "<init>", "()V"⟩, "PulledFromUnder"), ("PulledFromUnder$Watcher", 1, ⟨"PulledFromUnder$Person", "<init>", "()V"⟩, "PulledFromUnder"), ("PulledFromUnder", 45, ⟨"PulledFromUnder$Bride", "<init>", "()V"⟩, "PulledFromUnder"), ("PulledFromUnder$Bride", 1, ⟨"PulledFromUnder$Glass", "<init>", "()V"⟩, "PulledFromUnder"), ("PulledFromUnder", 52, ⟨"PulledFromUnder$Room", "<init>", "()V"⟩, "PulledFromUnder"), ("PulledFromUnder$Refused", 1, ⟨"PulledFromUnder$Refusal", "<init>", "()V"⟩, "PulledFromUnder"), ("PulledFromUnder", 83, ⟨"PulledFromUnder$Reader", "<init>", "(LPulledFromUnder;)V"⟩, "PulledFromUnder"), ("PulledFromUnder$Fault", 1, ⟨"PulledFromUnder$Refusal", "<init>", "()V"⟩, "PulledFromUnder"), ("PulledFromUnder$Reader", 60, ⟨"PulledFromUnder", "kindOf", "(I)I"⟩, "PulledFromUnder"), ("PulledFromUnder$Reader", 46, ⟨"PulledFromUnder", "in", "(JJJ)Z"⟩, "PulledFromUnder"), ("PulledFromUnder$MinutesTold", 17, ⟨"PulledFromUnder", "in", "(JJJ)Z"⟩, "PulledFromUnder"), ("PulledFromUnder$Room", 54, ⟨"PulledFromUnder", "has", "(II)Z"⟩, "PulledFromUnder"), ("PulledFromUnder$Room", 86, ⟨"PulledFromUnder", "ones", "(I)I"⟩, "PulledFromUnder")]
def nwC : List (String × String) := [("PulledFromUnder$Refused", "PulledFromUnder$Refused"), ("PulledFromUnder$Fault", "PulledFromUnder$Fault"), ("PulledFromUnder$Fault", "PulledFromUnder$Refusal"), ("PulledFromUnder$Refused", "PulledFromUnder$Refusal"), ("PulledFromUnder$Thing", "PulledFromUnder$Kind"), ("PulledFromUnder$Glass", "PulledFromUnder$Kind"), ("PulledFromUnder$Person", "PulledFromUnder$Kind"), ("PulledFromUnder$Council", "PulledFromUnder$Kind"), ("PulledFromUnder$Watcher", "PulledFromUnder$Kind"), ("PulledFromUnder$Bride", "PulledFromUnder$Kind"), ("PulledFromUnder$FloorThingTold", "PulledFromUnder$Told"), ("PulledFromUnder$OnThingTold", "PulledFromUnder$Told"), ("PulledFromUnder$PullTold", "PulledFromUnder$Told"), ("PulledFromUnder$FloorTold", "PulledFromUnder$Told"), ("PulledFromUnder$SetUpTold", "PulledFromUnder$Told"), ("PulledFromUnder$MinutesTold", "PulledFromUnder$Told")]
def nwD : List MethodName := [⟨"PulledFromUnder$Refusal", "<init>", "()V"⟩, ⟨"java/lang/RuntimeException", "<init>", "()V"⟩, ⟨"java/lang/RuntimeException", "<init>", "(Ljava/lang/String;)V"⟩, ⟨"java/lang/Exception", "<init>", "()V"⟩, ⟨"java/lang/Exception", "<init>", "(Ljava/lang/String;)V"⟩, ⟨"java/lang/Throwable", "<init>", "()V"⟩, ⟨"java/lang/Throwable", "<init>", "(Ljava/lang/String;)V"⟩, ⟨"PulledFromUnder$Told", "isGood", "(LPulledFromUnder$Room;)Z"⟩, ⟨"PulledFromUnder$Told", "become", "(LPulledFromUnder$Room;)V"⟩, ⟨"PulledFromUnder$Kind", "grip", "(I)I"⟩, ⟨"PulledFromUnder$Kind", "habit", "(IZ)I"⟩, ⟨"PulledFromUnder$Kind", "kind", "()I"⟩, ⟨"PulledFromUnder$Kind", "isWatcher", "()Z"⟩, ⟨"PulledFromUnder$Refusal", "number", "()I"⟩]
/-- the words that the tables alone hold (nest mates' links, castable, declares, arrays of objects) -/
def NW (U : State) : Prop := (∀ q ∈ nwF, va_Nw (.fieldLinkNest q.1 q.2.1 q.2.2.1 q.2.2.2.1 q.2.2.2.2.1 q.2.2.2.2.2) U) ∧ (∀ q ∈ nwM, va_Nw (.methodLinkNest q.1 q.2.1 q.2.2.1 q.2.2.2) U) ∧ (∀ q ∈ nwC, va_Nw (.castable q.1 q.2) U) ∧ (∀ q ∈ nwD, va_Nw (.declares q) U) ∧ va_AO RX1 U ∧ va_AO RX14 U
theorem NW.warm {s U : State} (hW : s.WarmedH U.vm) (h : NW s) : NW U := ⟨fun q hq => va_Nw.warmF hW (h.1 q hq), fun q hq => va_Nw.warmM hW (h.2.1 q hq), fun q hq => va_Nw.warmC hW (h.2.2.1 q hq), fun q hq => va_Nw.warmD hW (h.2.2.2.1 q hq), va_AO.moved hW.alike h.2.2.2.2.1, va_AO.moved hW.alike h.2.2.2.2.2⟩
theorem NW.same {u U : State} (e : u.vm = U.vm) (h : NW u) : NW U := ⟨fun q hq => va_Nw.same rfl e (h.1 q hq), fun q hq => va_Nw.same rfl e (h.2.1 q hq), fun q hq => va_Nw.same rfl e (h.2.2.1 q hq), fun q hq => va_Nw.same rfl e (h.2.2.2.1 q hq), va_AO.moved (by rw [e]; exact Vm.Alike.refl _) h.2.2.2.2.1, va_AO.moved (by rw [e]; exact Vm.Alike.refl _) h.2.2.2.2.2⟩
theorem NW.F {U : State} (h : NW U) (i : Nat) {q : String × Nat × String × String × String × String} (e : nwF[i]? = some q) : va_Nw (.fieldLinkNest q.1 q.2.1 q.2.2.1 q.2.2.2.1 q.2.2.2.2.1 q.2.2.2.2.2) U := h.1 q (List.mem_of_getElem? e)
theorem NW.M {U : State} (h : NW U) (i : Nat) {q : String × Nat × MethodName × String} (e : nwM[i]? = some q) : va_Nw (.methodLinkNest q.1 q.2.1 q.2.2.1 q.2.2.2) U := h.2.1 q (List.mem_of_getElem? e)
theorem NW.C {U : State} (h : NW U) (i : Nat) {q : String × String} (e : nwC[i]? = some q) : va_Nw (.castable q.1 q.2) U := h.2.2.1 q (List.mem_of_getElem? e)
theorem NW.D {U : State} (h : NW U) (i : Nat) {q : MethodName} (e : nwD[i]? = some q) : va_Nw (.declares q) U := h.2.2.2.1 q (List.mem_of_getElem? e)

theorem NW.start {A : Array Value} {s : State} (h : ∀ w ∈ lw_tbl, w.before A s = true) : NW s := by
  refine ⟨?_, ?_, ?_, ?_, va_AO.of (h _ q121), va_AO.of (h _ q381)⟩
  · exact List.forall_mem_cons.mpr ⟨va_Nw.of rfl (h _ q175), List.forall_mem_cons.mpr ⟨va_Nw.of rfl (h _ q176), List.forall_mem_cons.mpr ⟨va_Nw.of rfl (h _ q177), List.forall_mem_cons.mpr ⟨va_Nw.of rfl (h _ q178), List.forall_mem_cons.mpr ⟨va_Nw.of rfl (h _ q179), List.forall_mem_cons.mpr ⟨va_Nw.of rfl (h _ q181), List.forall_mem_cons.mpr ⟨va_Nw.of rfl (h _ q183), List.forall_mem_cons.mpr ⟨va_Nw.of rfl (h _ q185), List.forall_mem_cons.mpr ⟨va_Nw.of rfl (h _ q187), List.forall_mem_cons.mpr ⟨va_Nw.of rfl (h _ q188), List.forall_mem_cons.mpr ⟨va_Nw.of rfl (h _ q190), List.forall_mem_cons.mpr ⟨va_Nw.of rfl (h _ q192), List.forall_mem_cons.mpr ⟨va_Nw.of rfl (h _ q193), List.forall_mem_cons.mpr ⟨va_Nw.of rfl (h _ q194), List.forall_mem_cons.mpr ⟨va_Nw.of rfl (h _ q195), List.forall_mem_cons.mpr ⟨va_Nw.of rfl (h _ q197), List.forall_mem_cons.mpr ⟨va_Nw.of rfl (h _ q199), List.forall_mem_cons.mpr ⟨va_Nw.of rfl (h _ q220), List.forall_mem_cons.mpr ⟨va_Nw.of rfl (h _ q228), List.forall_mem_cons.mpr ⟨va_Nw.of rfl (h _ q230), List.forall_mem_cons.mpr ⟨va_Nw.of rfl (h _ q369), List.forall_mem_cons.mpr ⟨va_Nw.of rfl (h _ q371), fun _ h9 => absurd h9 List.not_mem_nil⟩⟩⟩⟩⟩⟩⟩⟩⟩⟩⟩⟩⟩⟩⟩⟩⟩⟩⟩⟩⟩⟩
  · exact List.forall_mem_cons.mpr ⟨va_Nw.of rfl (h _ q124), List.forall_mem_cons.mpr ⟨va_Nw.of rfl (h _ q127), List.forall_mem_cons.mpr ⟨va_Nw.of rfl (h _ q134), List.forall_mem_cons.mpr ⟨va_Nw.of rfl (h _ q137), List.forall_mem_cons.mpr ⟨va_Nw.of rfl (h _ q141), List.forall_mem_cons.mpr ⟨va_Nw.of rfl (h _ q144), List.forall_mem_cons.mpr ⟨va_Nw.of rfl (h _ q148), List.forall_mem_cons.mpr ⟨va_Nw.of rfl (h _ q151), List.forall_mem_cons.mpr ⟨va_Nw.of rfl (h _ q155), List.forall_mem_cons.mpr ⟨va_Nw.of rfl (h _ q158), List.forall_mem_cons.mpr ⟨va_Nw.of rfl (h _ q162), List.forall_mem_cons.mpr ⟨va_Nw.of rfl (h _ q165), List.forall_mem_cons.mpr ⟨va_Nw.of rfl (h _ q169), List.forall_mem_cons.mpr ⟨va_Nw.of rfl (h _ q333), List.forall_mem_cons.mpr ⟨va_Nw.of rfl (h _ q364), List.forall_mem_cons.mpr ⟨va_Nw.of rfl (h _ q406), List.forall_mem_cons.mpr ⟨va_Nw.of rfl (h _ q416), List.forall_mem_cons.mpr ⟨va_Nw.of rfl (h _ q426), List.forall_mem_cons.mpr ⟨va_Nw.of rfl (h _ q553), List.forall_mem_cons.mpr ⟨va_Nw.of rfl (h _ q616), List.forall_mem_cons.mpr ⟨va_Nw.of rfl (h _ q775), fun _ h9 => absurd h9 List.not_mem_nil⟩⟩⟩⟩⟩⟩⟩⟩⟩⟩⟩⟩⟩⟩⟩⟩⟩⟩⟩⟩⟩
  · exact List.forall_mem_cons.mpr ⟨va_Nw.of rfl (h _ q291), List.forall_mem_cons.mpr ⟨va_Nw.of rfl (h _ q396), List.forall_mem_cons.mpr ⟨va_Nw.of rfl (h _ q1488), List.forall_mem_cons.mpr ⟨va_Nw.of rfl (h _ q1489), List.forall_mem_cons.mpr ⟨va_Nw.of rfl (h _ q1490), List.forall_mem_cons.mpr ⟨va_Nw.of rfl (h _ q1491), List.forall_mem_cons.mpr ⟨va_Nw.of rfl (h _ q1492), List.forall_mem_cons.mpr ⟨va_Nw.of rfl (h _ q1493), List.forall_mem_cons.mpr ⟨va_Nw.of rfl (h _ q1494), List.forall_mem_cons.mpr ⟨va_Nw.of rfl (h _ q1495), List.forall_mem_cons.mpr ⟨va_Nw.of rfl (h _ q1496), List.forall_mem_cons.mpr ⟨va_Nw.of rfl (h _ q1497), List.forall_mem_cons.mpr ⟨va_Nw.of rfl (h _ q1498), List.forall_mem_cons.mpr ⟨va_Nw.of rfl (h _ q1499), List.forall_mem_cons.mpr ⟨va_Nw.of rfl (h _ q1500), List.forall_mem_cons.mpr ⟨va_Nw.of rfl (h _ q1501), fun _ h9 => absurd h9 List.not_mem_nil⟩⟩⟩⟩⟩⟩⟩⟩⟩⟩⟩⟩⟩⟩⟩⟩
  · exact List.forall_mem_cons.mpr ⟨va_Nw.of rfl (h _ q292), List.forall_mem_cons.mpr ⟨va_Nw.of rfl (h _ q293), List.forall_mem_cons.mpr ⟨va_Nw.of rfl (h _ q294), List.forall_mem_cons.mpr ⟨va_Nw.of rfl (h _ q295), List.forall_mem_cons.mpr ⟨va_Nw.of rfl (h _ q296), List.forall_mem_cons.mpr ⟨va_Nw.of rfl (h _ q297), List.forall_mem_cons.mpr ⟨va_Nw.of rfl (h _ q298), List.forall_mem_cons.mpr ⟨va_Nw.of rfl (h _ q541), List.forall_mem_cons.mpr ⟨va_Nw.of rfl (h _ q569), List.forall_mem_cons.mpr ⟨va_Nw.of rfl (h _ q595), List.forall_mem_cons.mpr ⟨va_Nw.of rfl (h _ q647), List.forall_mem_cons.mpr ⟨va_Nw.of rfl (h _ q709), List.forall_mem_cons.mpr ⟨va_Nw.of rfl (h _ q931), List.forall_mem_cons.mpr ⟨va_Nw.of rfl (h _ q991), fun _ h9 => absurd h9 List.not_mem_nil⟩⟩⟩⟩⟩⟩⟩⟩⟩⟩⟩⟩⟩⟩
/-- the classes' numbers and slots (1), the array classes (2): ints, bytes, chars, kinds, statements -/
abbrev xG : Type := va_G × (Nat → ClassId)
abbrev xt (G : xG) : List (ClassId × FieldType) := [(G.2 0, .int), (G.2 1, .byte), (G.2 2, .char), (G.2 3, .object RX1), (G.2 4, .object RX14)]
def KK (G : xG) (U : State) : Prop := va_K G.1 vwCl (xt G) U ∧ NW U
theorem KK.warm {G : xG} {s U : State} (hW : s.WarmedH U.vm) (h : KK G s) : KK G U := ⟨va_K.moved hW.alike h.1, h.2.warm hW⟩
theorem KK.same {G : xG} {u U : State} (e : u.vm = U.vm) (h : KK G u) : KK G U := ⟨va_K.moved (by rw [e]; exact Vm.Alike.refl _) h.1, h.2.same e⟩
/-- a method's start: the world w, at whatever heap -/
def xPc (G : xG) (av : List Value) (w : va_W) (sz : Nat) : Array Value → State → Prop := va_Pc av (fun U => U.heap.size = sz ∧ va_P G.1 vwCl w U.heap ∧ KK G U ∧ va_D (fun _ => True) w)
theorem xPc.blind {G : xG} {av : List Value} {w : va_W} {sz : Nat} : FrameBlind (xPc G av w sz) := fun a U g mk q => by
  obtain ⟨q0, q1, qP, qK, qD⟩ := q
  exact ⟨q0, q1, qP, qK.same rfl, qD⟩
def xB (G : xG) (w : va_W) (sz : Nat) {S : Type} (w' : S → va_W) (u : S) (t : State) : Prop := va_P G.1 vwCl (w' u) t.heap ∧ va_D (va_A w sz) (w' u)
def xBr (G : xG) (w : va_W) (sz : Nat) {S : Type} (ra : S → Nat) (w' : S → va_W) (u : S) (a : Nat) (t : State) : Prop := a = ra u ∧ va_P G.1 vwCl (w' u) t.heap ∧ va_D (va_A w sz) (w' u)
def xCi (l : Launch) (G : xG) (y : MethodName) (cc : ByteArray) (maxL : Nat) (ret : Option FieldType) (rm : Room) (av : List Value) (w : va_W) {S : Type} (post : Int32 → S → Prop) (w' : S → va_W) : Prop := ∀ sz : Nat, Met l y (ws_ y cc maxL ret) rm (xPc G av w sz) (va_Qi post (xB G w sz w') (va_A w sz)) rm.cells rm.slots (va_A w sz)
def xCl (l : Launch) (G : xG) (y : MethodName) (cc : ByteArray) (maxL : Nat) (ret : Option FieldType) (rm : Room) (av : List Value) (w : va_W) {S : Type} (post : Int64 → S → Prop) (w' : S → va_W) : Prop := ∀ sz : Nat, Met l y (ws_ y cc maxL ret) rm (xPc G av w sz) (va_Ql post (xB G w sz w') (va_A w sz)) rm.cells rm.slots (va_A w sz)
def xCv (l : Launch) (G : xG) (y : MethodName) (cc : ByteArray) (maxL : Nat) (ret : Option FieldType) (rm : Room) (av : List Value) (w : va_W) {S : Type} (post : S → Prop) (w' : S → va_W) : Prop := ∀ sz : Nat, Met l y (ws_ y cc maxL ret) rm (xPc G av w sz) (va_Qv post (xB G w sz w') (va_A w sz)) rm.cells rm.slots (va_A w sz)
def xCr (l : Launch) (G : xG) (y : MethodName) (cc : ByteArray) (maxL : Nat) (ret : Option FieldType) (rm : Room) (av : List Value) (w : va_W) {S : Type} (post : S → Prop) (ra : S → Nat) (w' : S → va_W) : Prop := ∀ sz : Nat, Met l y (ws_ y cc maxL ret) rm (xPc G av w sz) (va_Qr post (xBr G w sz ra w') (va_A w sz)) rm.cells rm.slots (va_A w sz)

/-- behind a call, the cells of the caller in an order of its own: even 2i: the caller's old cell i, odd 2i+1: the callee's cell i -/
def xlk (ws w1 : va_W) (n : Nat) : Option (Nat × va_E) := match n % 2 with
  | 0 => ws[n / 2]?
  | _ => w1[n / 2]?
def xok (isC pl : List Nat) : Bool := va_nd pl && pl.all (fun n => Nat.beq (n % 2) 1 || isC.all (fun i => !Nat.beq i (n / 2)))
theorem x_merge {A0 : Nat → Prop} {D : va_G} {cl : List vw_C} {ws wc w1 wN : va_W} {H H1 : Heap} (hP : va_P D cl ws H) (hD : va_D A0 ws) (isC pl : List Nat) (hC : isC.map (fun i => ws[i]?) = wc.map some) (hN : pl.map (fun n => xlk ws w1 n) = wN.map some) (hn : xok isC pl = true)
    (hk : ∀ q : Nat, q < H.size → ¬ va_A wc H.size q → H1[q]? = H[q]?) (hF : ∀ q, va_A wc H.size q → A0 q) (hP1 : va_P D cl w1 H1) (hD1 : va_D (va_A wc H.size) w1) : va_P D cl wN H1 ∧ va_D A0 wN := by
  unfold xok at hn
  rw [Bool.and_eq_true] at hn
  obtain ⟨hnd, hdis⟩ := hn
  have atN : ∀ (k : Nat) (q : Nat × va_E), wN[k]? = some q → ∃ n, pl[k]? = some n ∧ xlk ws w1 n = some q := by
    intro k q hq
    have h1 : (pl.map (fun n => xlk ws w1 n))[k]? = some (some q) := by rw [hN, List.getElem?_map, hq]; rfl
    rw [List.getElem?_map] at h1
    cases hi : pl[k]? with
    | none => rw [hi] at h1; cases h1
    | some n => rw [hi] at h1; exact ⟨n, rfl, Option.some.inj h1⟩
  have atC : ∀ (k : Nat) (q : Nat × va_E), wc[k]? = some q → ∃ i, isC[k]? = some i ∧ ws[i]? = some q := by
    intro k q hq
    have h1 : (isC.map (fun i => ws[i]?))[k]? = some (some q) := by rw [hC, List.getElem?_map, hq]; rfl
    rw [List.getElem?_map] at h1
    cases hi : isC[k]? with
    | none => rw [hi] at h1; cases h1
    | some i => rw [hi] at h1; exact ⟨i, rfl, Option.some.inj h1⟩
  have split : ∀ (k : Nat) (q : Nat × va_E), wN[k]? = some q → ∃ n, pl[k]? = some n ∧ ((n % 2 = 0 ∧ ws[n / 2]? = some q ∧ q.1 < H.size ∧ ¬ va_A wc H.size q.1) ∨ (n % 2 = 1 ∧ w1[n / 2]? = some q ∧ va_A wc H.size q.1)) := by
    intro k q hq
    obtain ⟨n, h1, h2⟩ := atN k q hq
    refine ⟨n, h1, ?_⟩
    unfold xlk at h2
    rcases (show n % 2 = 0 ∨ n % 2 = 1 by omega) with e | e
    · rw [e] at h2
      have h2 : ws[n / 2]? = some q := h2
      have hl := (hP _ q h2).lt
      refine Or.inl ⟨e, h2, hl, fun h => ?_⟩
      rcases h with ⟨k2, e2, h⟩ | h
      · obtain ⟨j, h3, h4⟩ := atC k2 (q.1, e2) h
        have hij := hD.1 (n / 2) j q (q.1, e2) h2 h4 rfl
        have hd := List.all_eq_true.mp hdis n (List.mem_of_getElem? h1)
        rw [Bool.or_eq_true] at hd
        rcases hd with hd | hd
        · have := Nat.eq_of_beq_eq_true hd
          omega
        · have h5 := List.all_eq_true.mp hd j (List.mem_of_getElem? h3)
          rw [← hij] at h5
          simp at h5
      · omega
    · rw [e] at h2
      have h2 : w1[n / 2]? = some q := h2
      exact Or.inr ⟨e, h2, hD1.2 _ q h2⟩
  refine ⟨fun k q hq => ?_, fun i j x y hx hy hxy => ?_, fun k q hq => ?_⟩
  · obtain ⟨n, -, ⟨-, h2, h3, h4⟩ | ⟨-, h2, -⟩⟩ := split k q hq
    · exact (hP _ q h2).kept (hk q.1 h3 h4)
    · exact hP1 _ q h2
  · obtain ⟨n, hn1, hn2⟩ := split i x hx
    obtain ⟨n', hm1, hm2⟩ := split j y hy
    have fin : n = n' → i = j := fun e => va_nd_inj pl hnd i j n hn1 (by rw [e]; exact hm1)
    rcases hn2 with ⟨e1, h2, h3, h4⟩ | ⟨e1, h2, h4⟩ <;> rcases hm2 with ⟨e2, g2, g3, g4⟩ | ⟨e2, g2, g4⟩
    · have := hD.1 _ _ x y h2 g2 hxy
      exact fin (by omega)
    · exact absurd (by rw [hxy]; exact g4) h4
    · exact absurd (by rw [← hxy]; exact h4) g4
    · have := hD1.1 _ _ x y h2 g2 hxy
      exact fin (by omega)
  · obtain ⟨n, -, ⟨-, h2, -, -⟩ | ⟨-, h2, h4⟩⟩ := split k q hq
    · exact hD.2 _ q h2
    · exact hF _ h4
theorem x_free {A0 : Nat → Prop} {ws wc : va_W} {H0 H : Heap} {locs : List Loc} (hD : va_D A0 ws) (hS : va_S A0 H0 H locs) (hA : ∀ q, H0.size ≤ q → A0 q) (isC : List Nat) (hC : isC.map (fun i => ws[i]?) = wc.map some) : ∀ q, va_A wc H.size q → A0 q := va_free hD hS hA isC hC

theorem x_openi {S : Type} {l : Launch} {G : xG} {y : MethodName} {cc : ByteArray} {maxL : Nat} {ty : FieldType} {rm : Room} {av : List Value} {w : va_W} {post : Int32 → S → Prop} {w' : S → va_W} (hy : plainName y.cls = true) (hlen : (lg_sl av).length ≤ maxL) (hpos : ∀ v u, post v u → narrow ty (.int v) = .int v)
    (body : ∀ (p : Program) (e : Env) (s : State) (m : MethodId) (args : Array Value) (below : List Frame) (meth : Method) (c : Code) (A : Nat → Prop) (Q : State → Prop) (ls : Array Slot), CallFix p m c cc maxL s args lw_all y.cls → KK G s → va_P G.1 vwCl w s.heap → va_D A w → (∀ q : Nat, s.heap.size ≤ q → A q) → lv_has ls maxL (lv_args 0 av) → (∀ (pc : Nat) (ls : Array Slot) (H : Heap) (locs : List Loc) (k n : Nat) (v : Int32) (u : S), decode cc pc = .ok (.ireturn, 1) → post v u → va_P G.1 vwCl (w' u) H → va_D A (w' u) → va_S A s.heap H locs → k ≤ rm.cells → n ≤ rm.slots → W p l e rm s m args below meth c H locs k n Q (F0 m pc ls [.int v])) → W p l e rm s m args below meth c s.heap [] 0 0 Q (F0 m 0 ls [])) : xCi l G y cc maxL (some ty) rm av w post w' := by
  intro sz
  refine Met.ofW (cc := cc) (maxL := maxL) (ret := some ty) hy rfl ?_
  intro p e s m args below meth c s₁ B hml hv
  obtain ⟨rfl, hsz, hP, hK, hD0⟩ := hv
  subst hsz
  have hts := atoms_spec (ws := ws_ y cc maxL (some ty)) B.pre
  have hl := lv_entry av (n := maxL) hlen
  rw [lg_entry_eq]
  refine body p e s m _ below meth c (va_A w s.heap.size) _ _ ⟨B.exec, B.bytes, hml, findClass_of_methodNamed B.named, fun w h => hts w (List.mem_cons_of_mem _ h)⟩ hK hP hD0.self (fun q h => Or.inr h) hl ?_
  intro pc ls H locs k n v u hd hp hP hD hS hk hn
  refine W.widen hk hn ?_
  exact W.zret (v := v) B.exec B.bytes B.returns (hpos v u hp) (fun t ht hW => ⟨⟨v, u, rfl, hp, by rw [ht]; exact hP, hD⟩, hS.F ht⟩) hS.2.2 hd
theorem x_openl {S : Type} {l : Launch} {G : xG} {y : MethodName} {cc : ByteArray} {maxL : Nat} {rm : Room} {av : List Value} {w : va_W} {post : Int64 → S → Prop} {w' : S → va_W} (hy : plainName y.cls = true) (hlen : (lg_sl av).length ≤ maxL) 
    (body : ∀ (p : Program) (e : Env) (s : State) (m : MethodId) (args : Array Value) (below : List Frame) (meth : Method) (c : Code) (A : Nat → Prop) (Q : State → Prop) (ls : Array Slot), CallFix p m c cc maxL s args lw_all y.cls → KK G s → va_P G.1 vwCl w s.heap → va_D A w → (∀ q : Nat, s.heap.size ≤ q → A q) → lv_has ls maxL (lv_args 0 av) → (∀ (pc : Nat) (ls : Array Slot) (H : Heap) (locs : List Loc) (k n : Nat) (v : Int64) (u : S), decode cc pc = .ok (.lreturn, 1) → post v u → va_P G.1 vwCl (w' u) H → va_D A (w' u) → va_S A s.heap H locs → k ≤ rm.cells → n ≤ rm.slots → W p l e rm s m args below meth c H locs k n Q (F0 m pc ls [.long v])) → W p l e rm s m args below meth c s.heap [] 0 0 Q (F0 m 0 ls [])) : xCl l G y cc maxL (some .long) rm av w post w' := by
  intro sz
  refine Met.ofW (cc := cc) (maxL := maxL) (ret := some .long) hy rfl ?_
  intro p e s m args below meth c s₁ B hml hv
  obtain ⟨rfl, hsz, hP, hK, hD0⟩ := hv
  subst hsz
  have hts := atoms_spec (ws := ws_ y cc maxL (some .long)) B.pre
  have hl := lv_entry av (n := maxL) hlen
  rw [lg_entry_eq]
  refine body p e s m _ below meth c (va_A w s.heap.size) _ _ ⟨B.exec, B.bytes, hml, findClass_of_methodNamed B.named, fun w h => hts w (List.mem_cons_of_mem _ h)⟩ hK hP hD0.self (fun q h => Or.inr h) hl ?_
  intro pc ls H locs k n v u hd hp hP hD hS hk hn
  refine W.widen hk hn ?_
  exact W.lret (v := v) B.exec B.bytes B.returns (fun t ht hW => ⟨⟨v, u, rfl, hp, by rw [ht]; exact hP, hD⟩, hS.F ht⟩) hS.2.2 hd
theorem x_openv {S : Type} {l : Launch} {G : xG} {y : MethodName} {cc : ByteArray} {maxL : Nat} {rm : Room} {av : List Value} {w : va_W} {post : S → Prop} {w' : S → va_W} (hy : plainName y.cls = true) (hlen : (lg_sl av).length ≤ maxL) 
    (body : ∀ (p : Program) (e : Env) (s : State) (m : MethodId) (args : Array Value) (below : List Frame) (meth : Method) (c : Code) (A : Nat → Prop) (Q : State → Prop) (ls : Array Slot), CallFix p m c cc maxL s args lw_all y.cls → KK G s → va_P G.1 vwCl w s.heap → va_D A w → (∀ q : Nat, s.heap.size ≤ q → A q) → lv_has ls maxL (lv_args 0 av) → (∀ (pc : Nat) (ls : Array Slot) (H : Heap) (locs : List Loc) (k n : Nat) (u : S), decode cc pc = .ok (.return_, 1) → post u → va_P G.1 vwCl (w' u) H → va_D A (w' u) → va_S A s.heap H locs → k ≤ rm.cells → n ≤ rm.slots → W p l e rm s m args below meth c H locs k n Q (F0 m pc ls [])) → W p l e rm s m args below meth c s.heap [] 0 0 Q (F0 m 0 ls [])) : xCv l G y cc maxL none rm av w post w' := by
  intro sz
  refine Met.ofW (cc := cc) (maxL := maxL) (ret := none) hy rfl ?_
  intro p e s m args below meth c s₁ B hml hv
  obtain ⟨rfl, hsz, hP, hK, hD0⟩ := hv
  subst hsz
  have hts := atoms_spec (ws := ws_ y cc maxL none) B.pre
  have hl := lv_entry av (n := maxL) hlen
  rw [lg_entry_eq]
  refine body p e s m _ below meth c (va_A w s.heap.size) _ _ ⟨B.exec, B.bytes, hml, findClass_of_methodNamed B.named, fun w h => hts w (List.mem_cons_of_mem _ h)⟩ hK hP hD0.self (fun q h => Or.inr h) hl ?_
  intro pc ls H locs k n u hd hp hP hD hS hk hn
  refine W.widen hk hn ?_
  exact W.vret B.exec B.bytes B.returns (fun t ht hW => ⟨⟨u, rfl, hp, by rw [ht]; exact hP, hD⟩, hS.F ht⟩) hS.2.2 hd
theorem x_openc {S : Type} {l : Launch} {G : xG} {y : MethodName} {cc : ByteArray} {maxL : Nat} {rm : Room} {av : List Value} {w : va_W} {post : S → Prop} {w' : S → va_W} (hy : plainName y.cls = true) (hlen : (lg_sl av).length ≤ maxL) 
    (body : ∀ (p : Program) (e : Env) (s : State) (m : MethodId) (args : Array Value) (below : List Frame) (meth : Method) (c : Code) (A : Nat → Prop) (Q : State → Prop) (ls : Array Slot), CallFix p m c cc maxL s args lw_all y.cls → KK G s → va_P G.1 vwCl w s.heap → va_D A w → (∀ q : Nat, s.heap.size ≤ q → A q) → lv_has ls maxL (lv_args 0 av) → meth.name = y.name → (∀ (pc : Nat) (ls : Array Slot) (H : Heap) (locs : List Loc) (k n : Nat) (u : S), decode cc pc = .ok (.return_, 1) → post u → va_P G.1 vwCl (w' u) H → va_D A (w' u) → va_S A s.heap H locs → k ≤ rm.cells → n ≤ rm.slots → W p l e rm s m args below meth c H locs k n Q (F0 m pc ls [])) → W p l e rm s m args below meth c s.heap [] 0 0 Q (F0 m 0 ls [])) : xCv l G y cc maxL none rm av w post w' := by
  intro sz
  refine Met.ofW (cc := cc) (maxL := maxL) (ret := none) hy rfl ?_
  intro p e s m args below meth c s₁ B hml hv
  obtain ⟨rfl, hsz, hP, hK, hD0⟩ := hv
  subst hsz
  have hts := atoms_spec (ws := ws_ y cc maxL none) B.pre
  have hl := lv_entry av (n := maxL) hlen
  rw [lg_entry_eq]
  refine body p e s m _ below meth c (va_A w s.heap.size) _ _ ⟨B.exec, B.bytes, hml, findClass_of_methodNamed B.named, fun w h => hts w (List.mem_cons_of_mem _ h)⟩ hK hP hD0.self (fun q h => Or.inr h) hl (name_of_methodNamed B.named B.method).1 ?_
  intro pc ls H locs k n u hd hp hP hD hS hk hn
  refine W.widen hk hn ?_
  exact W.vret B.exec B.bytes B.returns (fun t ht hW => ⟨⟨u, rfl, hp, by rw [ht]; exact hP, hD⟩, hS.F ht⟩) hS.2.2 hd
theorem x_openr {S : Type} {l : Launch} {G : xG} {y : MethodName} {cc : ByteArray} {maxL : Nat} {ty : FieldType} {rm : Room} {av : List Value} {w : va_W} {post : S → Prop} {ra : S → Nat} {w' : S → va_W} (hy : plainName y.cls = true) (hlen : (lg_sl av).length ≤ maxL) (hty : (∃ n, ty = .object n) ∨ ∃ t, ty = .array t)
    (body : ∀ (p : Program) (e : Env) (s : State) (m : MethodId) (args : Array Value) (below : List Frame) (meth : Method) (c : Code) (A : Nat → Prop) (Q : State → Prop) (ls : Array Slot), CallFix p m c cc maxL s args lw_all y.cls → KK G s → va_P G.1 vwCl w s.heap → va_D A w → (∀ q : Nat, s.heap.size ≤ q → A q) → lv_has ls maxL (lv_args 0 av) → (∀ (pc : Nat) (ls : Array Slot) (H : Heap) (locs : List Loc) (k n : Nat) (u : S), decode cc pc = .ok (.areturn, 1) → post u → va_P G.1 vwCl (w' u) H → va_D A (w' u) → va_S A s.heap H locs → k ≤ rm.cells → n ≤ rm.slots → W p l e rm s m args below meth c H locs k n Q (F0 m pc ls [.ref (ra u)])) → W p l e rm s m args below meth c s.heap [] 0 0 Q (F0 m 0 ls [])) : xCr l G y cc maxL (some ty) rm av w post ra w' := by
  intro sz
  refine Met.ofW (cc := cc) (maxL := maxL) (ret := some ty) hy rfl ?_
  intro p e s m args below meth c s₁ B hml hv
  obtain ⟨rfl, hsz, hP, hK, hD0⟩ := hv
  subst hsz
  have hts := atoms_spec (ws := ws_ y cc maxL (some ty)) B.pre
  have hl := lv_entry av (n := maxL) hlen
  rw [lg_entry_eq]
  refine body p e s m _ below meth c (va_A w s.heap.size) _ _ ⟨B.exec, B.bytes, hml, findClass_of_methodNamed B.named, fun w h => hts w (List.mem_cons_of_mem _ h)⟩ hK hP hD0.self (fun q h => Or.inr h) hl ?_
  intro pc ls H locs k n u hd hp hP hD hS hk hn
  refine W.widen hk hn ?_
  exact W.aret (v := .ref (ra u)) B.exec B.bytes B.returns hty (Or.inr ⟨_, rfl⟩) (fun t ht hW => ⟨⟨u, ra u, rfl, hp, rfl, by rw [ht]; exact hP, hD⟩, hS.F ht⟩) hS.2.2 hd
section XC
variable {p : Program} {l : Launch} {e : Env} {R : Room} {s : State} {m : MethodId} {args : Array Value} {below : List Frame} {meth : Method} {c : Code} {H : Heap} {locs : List Loc} {cells slots : Nat} {Q : State → Prop} {G : xG} {cc bytes : ByteArray} {nL maxL index pc : Nat} {own : String} {y : MethodName} {rm : Room} {ls : Array Slot} {A : Nat → Prop} {ws wc : va_W} {As rest st0 : List Value} {ret : Option FieldType}
/-- what every call asks of the caller: its code, the tables, its world -/
def xS (G : xG) (p : Program) (m : MethodId) (c : Code) (cc : ByteArray) (nL : Nat) (s : State) (args : Array Value) (own : String) (A : Nat → Prop) (ws : va_W) (H : Heap) (locs : List Loc) : Prop := CallFix p m c cc nL s args lw_all own ∧ KK G s ∧ va_P G.1 vwCl ws H ∧ va_D A ws ∧ va_S A s.heap H locs ∧ (∀ q, s.heap.size ≤ q → A q)
theorem x_pre {av : List Value} (hX : xS G p m c cc nL s args own A ws H locs) (isC : List Nat) (hn : va_nd isC = true) (hC : isC.map (fun i => ws[i]?) = wc.map some) : ∀ U : State, U.heap = H → s.WarmedH U.vm → xPc G av wc H.size av.toArray U := by
  obtain ⟨-, hK, hP, hD, -, -⟩ := hX
  intro U hU hW
  refine ⟨rfl, by rw [hU], ?_, hK.warm hW, (hD.sub isC hn hC).weaken (fun _ _ _ _ => trivial)⟩
  rw [hU]
  intro k q hk
  have h1 : (isC.map (fun i => ws[i]?))[k]? = some (some q) := by rw [hC, List.getElem?_map, hk]; rfl
  rw [List.getElem?_map] at h1
  cases hi : isC[k]? with
  | none => rw [hi] at h1; cases h1
  | some i => rw [hi] at h1; exact hP i q (Option.some.inj h1)
theorem x_backi {S : Type} {post : Int32 → S → Prop} {w' : S → va_W} {wN : S → va_W} {a : Array Value} (hX : xS G p m c cc nL s args own A ws H locs) (isC pl : List Nat) (hC : isC.map (fun i => ws[i]?) = wc.map some) (hN : ∀ u, pl.map (fun n => xlk ws (w' u) n) = (wN u).map some) (hn : xok isC pl = true)
    (hr : va_Run p l e R s m args below meth c H locs cells slots rm.cells rm.slots (F0 m pc ls st0) rest (va_Qi post (xB G wc H.size w') (va_A wc H.size) a) (va_A wc H.size))
    (kk : ∀ (r : Int32) (u : S) (H1 : Heap) (locs1 : List Loc), post r u → va_P G.1 vwCl (wN u) H1 → va_D A (wN u) → va_S A s.heap H1 locs1 → W p l e R s m args below meth c H1 locs1 (cells + rm.cells) (slots + rm.slots) Q (F0 m (pc + 3) ls (.int r :: rest))) : W p l e R s m args below meth c H locs cells slots Q (F0 m pc ls st0) := by
  obtain ⟨hC0, hK, hP, hD, hS, hA⟩ := hX
  have hF := x_free hD hS hA isC hC
  refine va_calli hr hS (fun q _ h => hF q h) hF (fun r u t H1 locs1 ht hvm hw hB hz1 hk1 hS1 => ?_)
  obtain ⟨hP1, hD1⟩ := hB
  rw [ht] at hP1
  obtain ⟨hP2, hD2⟩ := x_merge hP hD isC pl hC (hN u) hn hk1 hF hP1 hD1
  exact kk r u H1 locs1 hw hP2 hD2 hS1
theorem x_Vi {S : Type} {post : Int32 → S → Prop} {w' : S → va_W} {wN : S → va_W} {b : Nat} (hX : xS G p m c cc nL s args own A ws H locs) {C : String} {q9 : vw_C} {fs : List Value} {ci : Nat} (q0 : Nat) (he : ws[q0]? = some (b, .inr (ci, fs))) (hci : vwCl[ci]? = some q9) (hCq : q9.1 = C) (hM : xCi l G y bytes maxL ret rm (.ref b :: As) wc post w') (cw : CallW R s args own C index y bytes maxL ret (ws_ y bytes maxL ret) rm rm.cells rm.slots As.length) (isC pl : List Nat) (hC : isC.map (fun i => ws[i]?) = wc.map some) (hN : ∀ u, pl.map (fun n => xlk ws (w' u) n) = (wN u).map some) (hn : xok isC pl = true) (hnC : va_nd isC = true) (hsize : ls.size = nL) (hstack : st0 = As.reverse ++ .ref b :: rest) (hW : (rest.map fun v => v.category).sum ≤ 8) (hdg : decode cc pc = .ok (.invokevirtual index, 3)) (hf : cells + rm.cells ≤ R.cells ∧ slots + rm.slots ≤ R.slots)
    (kk : ∀ (r : Int32) (u : S) (H1 : Heap) (locs1 : List Loc), post r u → va_P G.1 vwCl (wN u) H1 → va_D A (wN u) → va_S A s.heap H1 locs1 → W p l e R s m args below meth c H1 locs1 (cells + rm.cells) (slots + rm.slots) Q (F0 m (pc + 3) ls (.int r :: rest))) : W p l e R s m args below meth c H locs cells slots Q (F0 m pc ls st0) := by
  have hrec : ∃ cell : Cell, H[b]? = some cell ∧ cell.vm.isStatics = false ∧ s.vm.findClass C = some cell.cls := by rw [← hCq]; exact va_recv hX.2.1.1 hX.2.2.1 hci he
  exact x_backi hX isC pl hC hN hn (va_runV hX.1 (hM H.size) cw ⟨xPc.blind, hrec, x_pre hX isC hnC hC⟩ rfl rfl hsize hstack (lv_room hW) hdg hf) kk
theorem x_Si {S : Type} {post : Int32 → S → Prop} {w' : S → va_W} {wN : S → va_W} (hX : xS G p m c cc nL s args own A ws H locs) (hM : xCi l G y bytes maxL ret rm As wc post w') (cw : CallB R s args own index y bytes maxL ret (ws_ y bytes maxL ret) rm rm.cells rm.slots As.length ∧ (Cond.static y).before args s = true) (isC pl : List Nat) (hC : isC.map (fun i => ws[i]?) = wc.map some) (hN : ∀ u, pl.map (fun n => xlk ws (w' u) n) = (wN u).map some) (hn : xok isC pl = true) (hnC : va_nd isC = true) (hsize : ls.size = nL) (hstack : st0 = As.reverse ++ rest) (hW : (rest.map fun v => v.category).sum ≤ 8) (hdg : decode cc pc = .ok (.invokestatic index, 3)) (hf : cells + rm.cells ≤ R.cells ∧ slots + rm.slots ≤ R.slots)
    (kk : ∀ (r : Int32) (u : S) (H1 : Heap) (locs1 : List Loc), post r u → va_P G.1 vwCl (wN u) H1 → va_D A (wN u) → va_S A s.heap H1 locs1 → W p l e R s m args below meth c H1 locs1 (cells + rm.cells) (slots + rm.slots) Q (F0 m (pc + 3) ls (.int r :: rest))) : W p l e R s m args below meth c H locs cells slots Q (F0 m pc ls st0) := by
  exact x_backi hX isC pl hC hN hn (va_runS hX.1 (hM H.size) cw ⟨xPc.blind, x_pre hX isC hnC hC⟩ rfl rfl hsize hstack (lv_room hW) hdg hf) kk
theorem x_VNi {S : Type} {post : Int32 → S → Prop} {w' : S → va_W} {wN : S → va_W} {b : Nat} {host : String} (hX : xS G p m c cc nL s args own A ws H locs) {C : String} {q9 : vw_C} {fs : List Value} {ci : Nat} (q0 : Nat) (he : ws[q0]? = some (b, .inr (ci, fs))) (hci : vwCl[ci]? = some q9) (hCq : q9.1 = C) (hM : xCi l G y bytes maxL ret rm (.ref b :: As) wc post w') (cw : va_CN R s args own index y host bytes maxL ret (ws_ y bytes maxL ret) rm rm.cells rm.slots As.length ∧ (Cond.instanceMethod y).before args s = true ∧ (Cond.selects C y y).before args s = true) (isC pl : List Nat) (hC : isC.map (fun i => ws[i]?) = wc.map some) (hN : ∀ u, pl.map (fun n => xlk ws (w' u) n) = (wN u).map some) (hn : xok isC pl = true) (hnC : va_nd isC = true) (hsize : ls.size = nL) (hstack : st0 = As.reverse ++ .ref b :: rest) (hW : (rest.map fun v => v.category).sum ≤ 8) (hdg : decode cc pc = .ok (.invokevirtual index, 3)) (hf : cells + rm.cells ≤ R.cells ∧ slots + rm.slots ≤ R.slots)
    (kk : ∀ (r : Int32) (u : S) (H1 : Heap) (locs1 : List Loc), post r u → va_P G.1 vwCl (wN u) H1 → va_D A (wN u) → va_S A s.heap H1 locs1 → W p l e R s m args below meth c H1 locs1 (cells + rm.cells) (slots + rm.slots) Q (F0 m (pc + 3) ls (.int r :: rest))) : W p l e R s m args below meth c H locs cells slots Q (F0 m pc ls st0) := by
  have hrec : ∃ cell : Cell, H[b]? = some cell ∧ cell.vm.isStatics = false ∧ s.vm.findClass C = some cell.cls := by rw [← hCq]; exact va_recv hX.2.1.1 hX.2.2.1 hci he
  exact x_backi hX isC pl hC hN hn (va_runVN hX.1 (hM H.size) cw ⟨xPc.blind, hrec, x_pre hX isC hnC hC⟩ rfl rfl hsize hstack (lv_room hW) hdg hf) kk
theorem x_SNi {S : Type} {post : Int32 → S → Prop} {w' : S → va_W} {wN : S → va_W} {host : String} (hX : xS G p m c cc nL s args own A ws H locs) (hM : xCi l G y bytes maxL ret rm As wc post w') (cw : va_CN R s args own index y host bytes maxL ret (ws_ y bytes maxL ret) rm rm.cells rm.slots As.length ∧ (Cond.static y).before args s = true ∧ True) (isC pl : List Nat) (hC : isC.map (fun i => ws[i]?) = wc.map some) (hN : ∀ u, pl.map (fun n => xlk ws (w' u) n) = (wN u).map some) (hn : xok isC pl = true) (hnC : va_nd isC = true) (hsize : ls.size = nL) (hstack : st0 = As.reverse ++ rest) (hW : (rest.map fun v => v.category).sum ≤ 8) (hdg : decode cc pc = .ok (.invokestatic index, 3)) (hf : cells + rm.cells ≤ R.cells ∧ slots + rm.slots ≤ R.slots)
    (kk : ∀ (r : Int32) (u : S) (H1 : Heap) (locs1 : List Loc), post r u → va_P G.1 vwCl (wN u) H1 → va_D A (wN u) → va_S A s.heap H1 locs1 → W p l e R s m args below meth c H1 locs1 (cells + rm.cells) (slots + rm.slots) Q (F0 m (pc + 3) ls (.int r :: rest))) : W p l e R s m args below meth c H locs cells slots Q (F0 m pc ls st0) := by
  exact x_backi hX isC pl hC hN hn (va_runSN hX.1 (hM H.size) cw ⟨xPc.blind, x_pre hX isC hnC hC⟩ rfl rfl hsize hstack (lv_room hW) hdg hf) kk
theorem x_Ui {S : Type} {post : Int32 → S → Prop} {w' : S → va_W} {wN : S → va_W} {b : Nat} {owner : String} {x0 : MethodName} (hX : xS G p m c cc nL s args own A ws H locs) {C : String} {q9 : vw_C} {fs : List Value} {ci : Nat} (q0 : Nat) (he : ws[q0]? = some (b, .inr (ci, fs))) (hci : vwCl[ci]? = some q9) (hCq : q9.1 = C) (hM : xCi l G y bytes maxL ret rm (.ref b :: As) wc post w') (cw : va_CU R s args own C owner index x0 y bytes maxL ret (ws_ y bytes maxL ret) rm rm.cells rm.slots As.length) (isC pl : List Nat) (hC : isC.map (fun i => ws[i]?) = wc.map some) (hN : ∀ u, pl.map (fun n => xlk ws (w' u) n) = (wN u).map some) (hn : xok isC pl = true) (hnC : va_nd isC = true) (hsize : ls.size = nL) (hstack : st0 = As.reverse ++ .ref b :: rest) (hW : (rest.map fun v => v.category).sum ≤ 8) (hdg : decode cc pc = .ok (.invokevirtual index, 3)) (hf : cells + rm.cells ≤ R.cells ∧ slots + rm.slots ≤ R.slots)
    (kk : ∀ (r : Int32) (u : S) (H1 : Heap) (locs1 : List Loc), post r u → va_P G.1 vwCl (wN u) H1 → va_D A (wN u) → va_S A s.heap H1 locs1 → W p l e R s m args below meth c H1 locs1 (cells + rm.cells) (slots + rm.slots) Q (F0 m (pc + 3) ls (.int r :: rest))) : W p l e R s m args below meth c H locs cells slots Q (F0 m pc ls st0) := by
  have hrec : ∃ cell : Cell, H[b]? = some cell ∧ cell.vm.isStatics = false ∧ s.vm.findClass C = some cell.cls := by rw [← hCq]; exact va_recv hX.2.1.1 hX.2.2.1 hci he
  exact x_backi hX isC pl hC hN hn (va_runU hX.1 (hM H.size) cw ⟨xPc.blind, hrec, x_pre hX isC hnC hC⟩ rfl rfl hsize hstack (lv_room hW) hdg hf) kk
theorem x_SUi {S : Type} {post : Int32 → S → Prop} {w' : S → va_W} {wN : S → va_W} {b : Nat} (hX : xS G p m c cc nL s args own A ws H locs) {C : String} {q9 : vw_C} {fs : List Value} {ci : Nat} (q0 : Nat) (he : ws[q0]? = some (b, .inr (ci, fs))) (hci : vwCl[ci]? = some q9) (hCq : q9.1 = C) (hM : xCi l G y bytes maxL ret rm (.ref b :: As) wc post w') (cw : va_CS R s args own index y bytes maxL ret (ws_ y bytes maxL ret) rm rm.cells rm.slots As.length) (isC pl : List Nat) (hC : isC.map (fun i => ws[i]?) = wc.map some) (hN : ∀ u, pl.map (fun n => xlk ws (w' u) n) = (wN u).map some) (hn : xok isC pl = true) (hnC : va_nd isC = true) (hsize : ls.size = nL) (hstack : st0 = As.reverse ++ .ref b :: rest) (hW : (rest.map fun v => v.category).sum ≤ 8) (hdg : decode cc pc = .ok (.invokespecial index, 3)) (hf : cells + rm.cells ≤ R.cells ∧ slots + rm.slots ≤ R.slots)
    (kk : ∀ (r : Int32) (u : S) (H1 : Heap) (locs1 : List Loc), post r u → va_P G.1 vwCl (wN u) H1 → va_D A (wN u) → va_S A s.heap H1 locs1 → W p l e R s m args below meth c H1 locs1 (cells + rm.cells) (slots + rm.slots) Q (F0 m (pc + 3) ls (.int r :: rest))) : W p l e R s m args below meth c H locs cells slots Q (F0 m pc ls st0) := by
  have hrec : ∃ cell : Cell, H[b]? = some cell ∧ cell.vm.isStatics = false ∧ s.vm.findClass C = some cell.cls := by rw [← hCq]; exact va_recv hX.2.1.1 hX.2.2.1 hci he
  have hat : ClassAt s C (G.1.1 ci) := by rw [← hCq]; exact (hX.2.1.1.1 ci _ hci).2
  exact x_backi hX isC pl hC hN hn (va_runSU hat hX.1 (hM H.size) cw ⟨xPc.blind, hrec, x_pre hX isC hnC hC⟩ rfl rfl hsize hstack (lv_room hW) hdg hf) kk
theorem x_backl {S : Type} {post : Int64 → S → Prop} {w' : S → va_W} {wN : S → va_W} {a : Array Value} (hX : xS G p m c cc nL s args own A ws H locs) (isC pl : List Nat) (hC : isC.map (fun i => ws[i]?) = wc.map some) (hN : ∀ u, pl.map (fun n => xlk ws (w' u) n) = (wN u).map some) (hn : xok isC pl = true)
    (hr : va_Run p l e R s m args below meth c H locs cells slots rm.cells rm.slots (F0 m pc ls st0) rest (va_Ql post (xB G wc H.size w') (va_A wc H.size) a) (va_A wc H.size))
    (kk : ∀ (r : Int64) (u : S) (H1 : Heap) (locs1 : List Loc), post r u → va_P G.1 vwCl (wN u) H1 → va_D A (wN u) → va_S A s.heap H1 locs1 → W p l e R s m args below meth c H1 locs1 (cells + rm.cells) (slots + rm.slots) Q (F0 m (pc + 3) ls (.long r :: rest))) : W p l e R s m args below meth c H locs cells slots Q (F0 m pc ls st0) := by
  obtain ⟨hC0, hK, hP, hD, hS, hA⟩ := hX
  have hF := x_free hD hS hA isC hC
  refine va_calll hr hS (fun q _ h => hF q h) hF (fun r u t H1 locs1 ht hvm hw hB hz1 hk1 hS1 => ?_)
  obtain ⟨hP1, hD1⟩ := hB
  rw [ht] at hP1
  obtain ⟨hP2, hD2⟩ := x_merge hP hD isC pl hC (hN u) hn hk1 hF hP1 hD1
  exact kk r u H1 locs1 hw hP2 hD2 hS1
theorem x_Vl {S : Type} {post : Int64 → S → Prop} {w' : S → va_W} {wN : S → va_W} {b : Nat} (hX : xS G p m c cc nL s args own A ws H locs) {C : String} {q9 : vw_C} {fs : List Value} {ci : Nat} (q0 : Nat) (he : ws[q0]? = some (b, .inr (ci, fs))) (hci : vwCl[ci]? = some q9) (hCq : q9.1 = C) (hM : xCl l G y bytes maxL ret rm (.ref b :: As) wc post w') (cw : CallW R s args own C index y bytes maxL ret (ws_ y bytes maxL ret) rm rm.cells rm.slots As.length) (isC pl : List Nat) (hC : isC.map (fun i => ws[i]?) = wc.map some) (hN : ∀ u, pl.map (fun n => xlk ws (w' u) n) = (wN u).map some) (hn : xok isC pl = true) (hnC : va_nd isC = true) (hsize : ls.size = nL) (hstack : st0 = As.reverse ++ .ref b :: rest) (hW : (rest.map fun v => v.category).sum ≤ 8) (hdg : decode cc pc = .ok (.invokevirtual index, 3)) (hf : cells + rm.cells ≤ R.cells ∧ slots + rm.slots ≤ R.slots)
    (kk : ∀ (r : Int64) (u : S) (H1 : Heap) (locs1 : List Loc), post r u → va_P G.1 vwCl (wN u) H1 → va_D A (wN u) → va_S A s.heap H1 locs1 → W p l e R s m args below meth c H1 locs1 (cells + rm.cells) (slots + rm.slots) Q (F0 m (pc + 3) ls (.long r :: rest))) : W p l e R s m args below meth c H locs cells slots Q (F0 m pc ls st0) := by
  have hrec : ∃ cell : Cell, H[b]? = some cell ∧ cell.vm.isStatics = false ∧ s.vm.findClass C = some cell.cls := by rw [← hCq]; exact va_recv hX.2.1.1 hX.2.2.1 hci he
  exact x_backl hX isC pl hC hN hn (va_runV hX.1 (hM H.size) cw ⟨xPc.blind, hrec, x_pre hX isC hnC hC⟩ rfl rfl hsize hstack (lv_room hW) hdg hf) kk
theorem x_Sl {S : Type} {post : Int64 → S → Prop} {w' : S → va_W} {wN : S → va_W} (hX : xS G p m c cc nL s args own A ws H locs) (hM : xCl l G y bytes maxL ret rm As wc post w') (cw : CallB R s args own index y bytes maxL ret (ws_ y bytes maxL ret) rm rm.cells rm.slots As.length ∧ (Cond.static y).before args s = true) (isC pl : List Nat) (hC : isC.map (fun i => ws[i]?) = wc.map some) (hN : ∀ u, pl.map (fun n => xlk ws (w' u) n) = (wN u).map some) (hn : xok isC pl = true) (hnC : va_nd isC = true) (hsize : ls.size = nL) (hstack : st0 = As.reverse ++ rest) (hW : (rest.map fun v => v.category).sum ≤ 8) (hdg : decode cc pc = .ok (.invokestatic index, 3)) (hf : cells + rm.cells ≤ R.cells ∧ slots + rm.slots ≤ R.slots)
    (kk : ∀ (r : Int64) (u : S) (H1 : Heap) (locs1 : List Loc), post r u → va_P G.1 vwCl (wN u) H1 → va_D A (wN u) → va_S A s.heap H1 locs1 → W p l e R s m args below meth c H1 locs1 (cells + rm.cells) (slots + rm.slots) Q (F0 m (pc + 3) ls (.long r :: rest))) : W p l e R s m args below meth c H locs cells slots Q (F0 m pc ls st0) := by
  exact x_backl hX isC pl hC hN hn (va_runS hX.1 (hM H.size) cw ⟨xPc.blind, x_pre hX isC hnC hC⟩ rfl rfl hsize hstack (lv_room hW) hdg hf) kk
theorem x_VNl {S : Type} {post : Int64 → S → Prop} {w' : S → va_W} {wN : S → va_W} {b : Nat} {host : String} (hX : xS G p m c cc nL s args own A ws H locs) {C : String} {q9 : vw_C} {fs : List Value} {ci : Nat} (q0 : Nat) (he : ws[q0]? = some (b, .inr (ci, fs))) (hci : vwCl[ci]? = some q9) (hCq : q9.1 = C) (hM : xCl l G y bytes maxL ret rm (.ref b :: As) wc post w') (cw : va_CN R s args own index y host bytes maxL ret (ws_ y bytes maxL ret) rm rm.cells rm.slots As.length ∧ (Cond.instanceMethod y).before args s = true ∧ (Cond.selects C y y).before args s = true) (isC pl : List Nat) (hC : isC.map (fun i => ws[i]?) = wc.map some) (hN : ∀ u, pl.map (fun n => xlk ws (w' u) n) = (wN u).map some) (hn : xok isC pl = true) (hnC : va_nd isC = true) (hsize : ls.size = nL) (hstack : st0 = As.reverse ++ .ref b :: rest) (hW : (rest.map fun v => v.category).sum ≤ 8) (hdg : decode cc pc = .ok (.invokevirtual index, 3)) (hf : cells + rm.cells ≤ R.cells ∧ slots + rm.slots ≤ R.slots)
    (kk : ∀ (r : Int64) (u : S) (H1 : Heap) (locs1 : List Loc), post r u → va_P G.1 vwCl (wN u) H1 → va_D A (wN u) → va_S A s.heap H1 locs1 → W p l e R s m args below meth c H1 locs1 (cells + rm.cells) (slots + rm.slots) Q (F0 m (pc + 3) ls (.long r :: rest))) : W p l e R s m args below meth c H locs cells slots Q (F0 m pc ls st0) := by
  have hrec : ∃ cell : Cell, H[b]? = some cell ∧ cell.vm.isStatics = false ∧ s.vm.findClass C = some cell.cls := by rw [← hCq]; exact va_recv hX.2.1.1 hX.2.2.1 hci he
  exact x_backl hX isC pl hC hN hn (va_runVN hX.1 (hM H.size) cw ⟨xPc.blind, hrec, x_pre hX isC hnC hC⟩ rfl rfl hsize hstack (lv_room hW) hdg hf) kk
theorem x_SNl {S : Type} {post : Int64 → S → Prop} {w' : S → va_W} {wN : S → va_W} {host : String} (hX : xS G p m c cc nL s args own A ws H locs) (hM : xCl l G y bytes maxL ret rm As wc post w') (cw : va_CN R s args own index y host bytes maxL ret (ws_ y bytes maxL ret) rm rm.cells rm.slots As.length ∧ (Cond.static y).before args s = true ∧ True) (isC pl : List Nat) (hC : isC.map (fun i => ws[i]?) = wc.map some) (hN : ∀ u, pl.map (fun n => xlk ws (w' u) n) = (wN u).map some) (hn : xok isC pl = true) (hnC : va_nd isC = true) (hsize : ls.size = nL) (hstack : st0 = As.reverse ++ rest) (hW : (rest.map fun v => v.category).sum ≤ 8) (hdg : decode cc pc = .ok (.invokestatic index, 3)) (hf : cells + rm.cells ≤ R.cells ∧ slots + rm.slots ≤ R.slots)
    (kk : ∀ (r : Int64) (u : S) (H1 : Heap) (locs1 : List Loc), post r u → va_P G.1 vwCl (wN u) H1 → va_D A (wN u) → va_S A s.heap H1 locs1 → W p l e R s m args below meth c H1 locs1 (cells + rm.cells) (slots + rm.slots) Q (F0 m (pc + 3) ls (.long r :: rest))) : W p l e R s m args below meth c H locs cells slots Q (F0 m pc ls st0) := by
  exact x_backl hX isC pl hC hN hn (va_runSN hX.1 (hM H.size) cw ⟨xPc.blind, x_pre hX isC hnC hC⟩ rfl rfl hsize hstack (lv_room hW) hdg hf) kk
theorem x_Ul {S : Type} {post : Int64 → S → Prop} {w' : S → va_W} {wN : S → va_W} {b : Nat} {owner : String} {x0 : MethodName} (hX : xS G p m c cc nL s args own A ws H locs) {C : String} {q9 : vw_C} {fs : List Value} {ci : Nat} (q0 : Nat) (he : ws[q0]? = some (b, .inr (ci, fs))) (hci : vwCl[ci]? = some q9) (hCq : q9.1 = C) (hM : xCl l G y bytes maxL ret rm (.ref b :: As) wc post w') (cw : va_CU R s args own C owner index x0 y bytes maxL ret (ws_ y bytes maxL ret) rm rm.cells rm.slots As.length) (isC pl : List Nat) (hC : isC.map (fun i => ws[i]?) = wc.map some) (hN : ∀ u, pl.map (fun n => xlk ws (w' u) n) = (wN u).map some) (hn : xok isC pl = true) (hnC : va_nd isC = true) (hsize : ls.size = nL) (hstack : st0 = As.reverse ++ .ref b :: rest) (hW : (rest.map fun v => v.category).sum ≤ 8) (hdg : decode cc pc = .ok (.invokevirtual index, 3)) (hf : cells + rm.cells ≤ R.cells ∧ slots + rm.slots ≤ R.slots)
    (kk : ∀ (r : Int64) (u : S) (H1 : Heap) (locs1 : List Loc), post r u → va_P G.1 vwCl (wN u) H1 → va_D A (wN u) → va_S A s.heap H1 locs1 → W p l e R s m args below meth c H1 locs1 (cells + rm.cells) (slots + rm.slots) Q (F0 m (pc + 3) ls (.long r :: rest))) : W p l e R s m args below meth c H locs cells slots Q (F0 m pc ls st0) := by
  have hrec : ∃ cell : Cell, H[b]? = some cell ∧ cell.vm.isStatics = false ∧ s.vm.findClass C = some cell.cls := by rw [← hCq]; exact va_recv hX.2.1.1 hX.2.2.1 hci he
  exact x_backl hX isC pl hC hN hn (va_runU hX.1 (hM H.size) cw ⟨xPc.blind, hrec, x_pre hX isC hnC hC⟩ rfl rfl hsize hstack (lv_room hW) hdg hf) kk
theorem x_SUl {S : Type} {post : Int64 → S → Prop} {w' : S → va_W} {wN : S → va_W} {b : Nat} (hX : xS G p m c cc nL s args own A ws H locs) {C : String} {q9 : vw_C} {fs : List Value} {ci : Nat} (q0 : Nat) (he : ws[q0]? = some (b, .inr (ci, fs))) (hci : vwCl[ci]? = some q9) (hCq : q9.1 = C) (hM : xCl l G y bytes maxL ret rm (.ref b :: As) wc post w') (cw : va_CS R s args own index y bytes maxL ret (ws_ y bytes maxL ret) rm rm.cells rm.slots As.length) (isC pl : List Nat) (hC : isC.map (fun i => ws[i]?) = wc.map some) (hN : ∀ u, pl.map (fun n => xlk ws (w' u) n) = (wN u).map some) (hn : xok isC pl = true) (hnC : va_nd isC = true) (hsize : ls.size = nL) (hstack : st0 = As.reverse ++ .ref b :: rest) (hW : (rest.map fun v => v.category).sum ≤ 8) (hdg : decode cc pc = .ok (.invokespecial index, 3)) (hf : cells + rm.cells ≤ R.cells ∧ slots + rm.slots ≤ R.slots)
    (kk : ∀ (r : Int64) (u : S) (H1 : Heap) (locs1 : List Loc), post r u → va_P G.1 vwCl (wN u) H1 → va_D A (wN u) → va_S A s.heap H1 locs1 → W p l e R s m args below meth c H1 locs1 (cells + rm.cells) (slots + rm.slots) Q (F0 m (pc + 3) ls (.long r :: rest))) : W p l e R s m args below meth c H locs cells slots Q (F0 m pc ls st0) := by
  have hrec : ∃ cell : Cell, H[b]? = some cell ∧ cell.vm.isStatics = false ∧ s.vm.findClass C = some cell.cls := by rw [← hCq]; exact va_recv hX.2.1.1 hX.2.2.1 hci he
  have hat : ClassAt s C (G.1.1 ci) := by rw [← hCq]; exact (hX.2.1.1.1 ci _ hci).2
  exact x_backl hX isC pl hC hN hn (va_runSU hat hX.1 (hM H.size) cw ⟨xPc.blind, hrec, x_pre hX isC hnC hC⟩ rfl rfl hsize hstack (lv_room hW) hdg hf) kk
theorem x_backv {S : Type} {post : S → Prop} {w' : S → va_W} {wN : S → va_W} {a : Array Value} (hX : xS G p m c cc nL s args own A ws H locs) (isC pl : List Nat) (hC : isC.map (fun i => ws[i]?) = wc.map some) (hN : ∀ u, pl.map (fun n => xlk ws (w' u) n) = (wN u).map some) (hn : xok isC pl = true)
    (hr : va_Run p l e R s m args below meth c H locs cells slots rm.cells rm.slots (F0 m pc ls st0) rest (va_Qv post (xB G wc H.size w') (va_A wc H.size) a) (va_A wc H.size))
    (kk : ∀ (u : S) (H1 : Heap) (locs1 : List Loc), post u → va_P G.1 vwCl (wN u) H1 → va_D A (wN u) → va_S A s.heap H1 locs1 → W p l e R s m args below meth c H1 locs1 (cells + rm.cells) (slots + rm.slots) Q (F0 m (pc + 3) ls (rest))) : W p l e R s m args below meth c H locs cells slots Q (F0 m pc ls st0) := by
  obtain ⟨hC0, hK, hP, hD, hS, hA⟩ := hX
  have hF := x_free hD hS hA isC hC
  refine va_callv hr hS (fun q _ h => hF q h) hF (fun u t H1 locs1 ht hvm hw hB hz1 hk1 hS1 => ?_)
  obtain ⟨hP1, hD1⟩ := hB
  rw [ht] at hP1
  obtain ⟨hP2, hD2⟩ := x_merge hP hD isC pl hC (hN u) hn hk1 hF hP1 hD1
  exact kk u H1 locs1 hw hP2 hD2 hS1
theorem x_Vv {S : Type} {post : S → Prop} {w' : S → va_W} {wN : S → va_W} {b : Nat} (hX : xS G p m c cc nL s args own A ws H locs) {C : String} {q9 : vw_C} {fs : List Value} {ci : Nat} (q0 : Nat) (he : ws[q0]? = some (b, .inr (ci, fs))) (hci : vwCl[ci]? = some q9) (hCq : q9.1 = C) (hM : xCv l G y bytes maxL ret rm (.ref b :: As) wc post w') (cw : CallW R s args own C index y bytes maxL ret (ws_ y bytes maxL ret) rm rm.cells rm.slots As.length) (isC pl : List Nat) (hC : isC.map (fun i => ws[i]?) = wc.map some) (hN : ∀ u, pl.map (fun n => xlk ws (w' u) n) = (wN u).map some) (hn : xok isC pl = true) (hnC : va_nd isC = true) (hsize : ls.size = nL) (hstack : st0 = As.reverse ++ .ref b :: rest) (hW : (rest.map fun v => v.category).sum ≤ 8) (hdg : decode cc pc = .ok (.invokevirtual index, 3)) (hf : cells + rm.cells ≤ R.cells ∧ slots + rm.slots ≤ R.slots)
    (kk : ∀ (u : S) (H1 : Heap) (locs1 : List Loc), post u → va_P G.1 vwCl (wN u) H1 → va_D A (wN u) → va_S A s.heap H1 locs1 → W p l e R s m args below meth c H1 locs1 (cells + rm.cells) (slots + rm.slots) Q (F0 m (pc + 3) ls (rest))) : W p l e R s m args below meth c H locs cells slots Q (F0 m pc ls st0) := by
  have hrec : ∃ cell : Cell, H[b]? = some cell ∧ cell.vm.isStatics = false ∧ s.vm.findClass C = some cell.cls := by rw [← hCq]; exact va_recv hX.2.1.1 hX.2.2.1 hci he
  exact x_backv hX isC pl hC hN hn (va_runV hX.1 (hM H.size) cw ⟨xPc.blind, hrec, x_pre hX isC hnC hC⟩ rfl rfl hsize hstack (lv_room hW) hdg hf) kk
theorem x_Sv {S : Type} {post : S → Prop} {w' : S → va_W} {wN : S → va_W} (hX : xS G p m c cc nL s args own A ws H locs) (hM : xCv l G y bytes maxL ret rm As wc post w') (cw : CallB R s args own index y bytes maxL ret (ws_ y bytes maxL ret) rm rm.cells rm.slots As.length ∧ (Cond.static y).before args s = true) (isC pl : List Nat) (hC : isC.map (fun i => ws[i]?) = wc.map some) (hN : ∀ u, pl.map (fun n => xlk ws (w' u) n) = (wN u).map some) (hn : xok isC pl = true) (hnC : va_nd isC = true) (hsize : ls.size = nL) (hstack : st0 = As.reverse ++ rest) (hW : (rest.map fun v => v.category).sum ≤ 8) (hdg : decode cc pc = .ok (.invokestatic index, 3)) (hf : cells + rm.cells ≤ R.cells ∧ slots + rm.slots ≤ R.slots)
    (kk : ∀ (u : S) (H1 : Heap) (locs1 : List Loc), post u → va_P G.1 vwCl (wN u) H1 → va_D A (wN u) → va_S A s.heap H1 locs1 → W p l e R s m args below meth c H1 locs1 (cells + rm.cells) (slots + rm.slots) Q (F0 m (pc + 3) ls (rest))) : W p l e R s m args below meth c H locs cells slots Q (F0 m pc ls st0) := by
  exact x_backv hX isC pl hC hN hn (va_runS hX.1 (hM H.size) cw ⟨xPc.blind, x_pre hX isC hnC hC⟩ rfl rfl hsize hstack (lv_room hW) hdg hf) kk
theorem x_Iv {S : Type} {post : S → Prop} {w' : S → va_W} {wN : S → va_W} {b : Nat} (hX : xS G p m c cc nL s args own A ws H locs) (hM : xCv l G y bytes maxL none rm (.ref b :: As) wc post w') (cw : CallB R s args own index y bytes maxL none (ws_ y bytes maxL none) rm rm.cells rm.slots As.length ∧ y.name = "<init>" ∧ (Cond.instanceMethod y).before args s = true) (isC pl : List Nat) (hC : isC.map (fun i => ws[i]?) = wc.map some) (hN : ∀ u, pl.map (fun n => xlk ws (w' u) n) = (wN u).map some) (hn : xok isC pl = true) (hnC : va_nd isC = true) (hsize : ls.size = nL) (hstack : st0 = As.reverse ++ .ref b :: rest) (hW : (rest.map fun v => v.category).sum ≤ 8) (hdg : decode cc pc = .ok (.invokespecial index, 3)) (hf : cells + rm.cells ≤ R.cells ∧ slots + rm.slots ≤ R.slots)
    (kk : ∀ (u : S) (H1 : Heap) (locs1 : List Loc), post u → va_P G.1 vwCl (wN u) H1 → va_D A (wN u) → va_S A s.heap H1 locs1 → W p l e R s m args below meth c H1 locs1 (cells + rm.cells) (slots + rm.slots) Q (F0 m (pc + 3) ls (rest))) : W p l e R s m args below meth c H locs cells slots Q (F0 m pc ls st0) := by
  exact x_backv hX isC pl hC hN hn (va_runI hX.1 (hM H.size) cw ⟨xPc.blind, x_pre hX isC hnC hC⟩ rfl rfl hsize hstack (lv_room hW) hdg hf) kk
theorem x_VNv {S : Type} {post : S → Prop} {w' : S → va_W} {wN : S → va_W} {b : Nat} {host : String} (hX : xS G p m c cc nL s args own A ws H locs) {C : String} {q9 : vw_C} {fs : List Value} {ci : Nat} (q0 : Nat) (he : ws[q0]? = some (b, .inr (ci, fs))) (hci : vwCl[ci]? = some q9) (hCq : q9.1 = C) (hM : xCv l G y bytes maxL ret rm (.ref b :: As) wc post w') (cw : va_CN R s args own index y host bytes maxL ret (ws_ y bytes maxL ret) rm rm.cells rm.slots As.length ∧ (Cond.instanceMethod y).before args s = true ∧ (Cond.selects C y y).before args s = true) (isC pl : List Nat) (hC : isC.map (fun i => ws[i]?) = wc.map some) (hN : ∀ u, pl.map (fun n => xlk ws (w' u) n) = (wN u).map some) (hn : xok isC pl = true) (hnC : va_nd isC = true) (hsize : ls.size = nL) (hstack : st0 = As.reverse ++ .ref b :: rest) (hW : (rest.map fun v => v.category).sum ≤ 8) (hdg : decode cc pc = .ok (.invokevirtual index, 3)) (hf : cells + rm.cells ≤ R.cells ∧ slots + rm.slots ≤ R.slots)
    (kk : ∀ (u : S) (H1 : Heap) (locs1 : List Loc), post u → va_P G.1 vwCl (wN u) H1 → va_D A (wN u) → va_S A s.heap H1 locs1 → W p l e R s m args below meth c H1 locs1 (cells + rm.cells) (slots + rm.slots) Q (F0 m (pc + 3) ls (rest))) : W p l e R s m args below meth c H locs cells slots Q (F0 m pc ls st0) := by
  have hrec : ∃ cell : Cell, H[b]? = some cell ∧ cell.vm.isStatics = false ∧ s.vm.findClass C = some cell.cls := by rw [← hCq]; exact va_recv hX.2.1.1 hX.2.2.1 hci he
  exact x_backv hX isC pl hC hN hn (va_runVN hX.1 (hM H.size) cw ⟨xPc.blind, hrec, x_pre hX isC hnC hC⟩ rfl rfl hsize hstack (lv_room hW) hdg hf) kk
theorem x_SNv {S : Type} {post : S → Prop} {w' : S → va_W} {wN : S → va_W} {host : String} (hX : xS G p m c cc nL s args own A ws H locs) (hM : xCv l G y bytes maxL ret rm As wc post w') (cw : va_CN R s args own index y host bytes maxL ret (ws_ y bytes maxL ret) rm rm.cells rm.slots As.length ∧ (Cond.static y).before args s = true ∧ True) (isC pl : List Nat) (hC : isC.map (fun i => ws[i]?) = wc.map some) (hN : ∀ u, pl.map (fun n => xlk ws (w' u) n) = (wN u).map some) (hn : xok isC pl = true) (hnC : va_nd isC = true) (hsize : ls.size = nL) (hstack : st0 = As.reverse ++ rest) (hW : (rest.map fun v => v.category).sum ≤ 8) (hdg : decode cc pc = .ok (.invokestatic index, 3)) (hf : cells + rm.cells ≤ R.cells ∧ slots + rm.slots ≤ R.slots)
    (kk : ∀ (u : S) (H1 : Heap) (locs1 : List Loc), post u → va_P G.1 vwCl (wN u) H1 → va_D A (wN u) → va_S A s.heap H1 locs1 → W p l e R s m args below meth c H1 locs1 (cells + rm.cells) (slots + rm.slots) Q (F0 m (pc + 3) ls (rest))) : W p l e R s m args below meth c H locs cells slots Q (F0 m pc ls st0) := by
  exact x_backv hX isC pl hC hN hn (va_runSN hX.1 (hM H.size) cw ⟨xPc.blind, x_pre hX isC hnC hC⟩ rfl rfl hsize hstack (lv_room hW) hdg hf) kk
theorem x_INv {S : Type} {post : S → Prop} {w' : S → va_W} {wN : S → va_W} {b : Nat} {host : String} (hX : xS G p m c cc nL s args own A ws H locs) (hM : xCv l G y bytes maxL none rm (.ref b :: As) wc post w') (cw : va_CN R s args own index y host bytes maxL none (ws_ y bytes maxL none) rm rm.cells rm.slots As.length ∧ y.name = "<init>" ∧ (Cond.instanceMethod y).before args s = true) (isC pl : List Nat) (hC : isC.map (fun i => ws[i]?) = wc.map some) (hN : ∀ u, pl.map (fun n => xlk ws (w' u) n) = (wN u).map some) (hn : xok isC pl = true) (hnC : va_nd isC = true) (hsize : ls.size = nL) (hstack : st0 = As.reverse ++ .ref b :: rest) (hW : (rest.map fun v => v.category).sum ≤ 8) (hdg : decode cc pc = .ok (.invokespecial index, 3)) (hf : cells + rm.cells ≤ R.cells ∧ slots + rm.slots ≤ R.slots)
    (kk : ∀ (u : S) (H1 : Heap) (locs1 : List Loc), post u → va_P G.1 vwCl (wN u) H1 → va_D A (wN u) → va_S A s.heap H1 locs1 → W p l e R s m args below meth c H1 locs1 (cells + rm.cells) (slots + rm.slots) Q (F0 m (pc + 3) ls (rest))) : W p l e R s m args below meth c H locs cells slots Q (F0 m pc ls st0) := by
  exact x_backv hX isC pl hC hN hn (va_runIN hX.1 (hM H.size) cw ⟨xPc.blind, x_pre hX isC hnC hC⟩ rfl rfl hsize hstack (lv_room hW) hdg hf) kk
theorem x_Uv {S : Type} {post : S → Prop} {w' : S → va_W} {wN : S → va_W} {b : Nat} {owner : String} {x0 : MethodName} (hX : xS G p m c cc nL s args own A ws H locs) {C : String} {q9 : vw_C} {fs : List Value} {ci : Nat} (q0 : Nat) (he : ws[q0]? = some (b, .inr (ci, fs))) (hci : vwCl[ci]? = some q9) (hCq : q9.1 = C) (hM : xCv l G y bytes maxL ret rm (.ref b :: As) wc post w') (cw : va_CU R s args own C owner index x0 y bytes maxL ret (ws_ y bytes maxL ret) rm rm.cells rm.slots As.length) (isC pl : List Nat) (hC : isC.map (fun i => ws[i]?) = wc.map some) (hN : ∀ u, pl.map (fun n => xlk ws (w' u) n) = (wN u).map some) (hn : xok isC pl = true) (hnC : va_nd isC = true) (hsize : ls.size = nL) (hstack : st0 = As.reverse ++ .ref b :: rest) (hW : (rest.map fun v => v.category).sum ≤ 8) (hdg : decode cc pc = .ok (.invokevirtual index, 3)) (hf : cells + rm.cells ≤ R.cells ∧ slots + rm.slots ≤ R.slots)
    (kk : ∀ (u : S) (H1 : Heap) (locs1 : List Loc), post u → va_P G.1 vwCl (wN u) H1 → va_D A (wN u) → va_S A s.heap H1 locs1 → W p l e R s m args below meth c H1 locs1 (cells + rm.cells) (slots + rm.slots) Q (F0 m (pc + 3) ls (rest))) : W p l e R s m args below meth c H locs cells slots Q (F0 m pc ls st0) := by
  have hrec : ∃ cell : Cell, H[b]? = some cell ∧ cell.vm.isStatics = false ∧ s.vm.findClass C = some cell.cls := by rw [← hCq]; exact va_recv hX.2.1.1 hX.2.2.1 hci he
  exact x_backv hX isC pl hC hN hn (va_runU hX.1 (hM H.size) cw ⟨xPc.blind, hrec, x_pre hX isC hnC hC⟩ rfl rfl hsize hstack (lv_room hW) hdg hf) kk
theorem x_SUv {S : Type} {post : S → Prop} {w' : S → va_W} {wN : S → va_W} {b : Nat} (hX : xS G p m c cc nL s args own A ws H locs) {C : String} {q9 : vw_C} {fs : List Value} {ci : Nat} (q0 : Nat) (he : ws[q0]? = some (b, .inr (ci, fs))) (hci : vwCl[ci]? = some q9) (hCq : q9.1 = C) (hM : xCv l G y bytes maxL ret rm (.ref b :: As) wc post w') (cw : va_CS R s args own index y bytes maxL ret (ws_ y bytes maxL ret) rm rm.cells rm.slots As.length) (isC pl : List Nat) (hC : isC.map (fun i => ws[i]?) = wc.map some) (hN : ∀ u, pl.map (fun n => xlk ws (w' u) n) = (wN u).map some) (hn : xok isC pl = true) (hnC : va_nd isC = true) (hsize : ls.size = nL) (hstack : st0 = As.reverse ++ .ref b :: rest) (hW : (rest.map fun v => v.category).sum ≤ 8) (hdg : decode cc pc = .ok (.invokespecial index, 3)) (hf : cells + rm.cells ≤ R.cells ∧ slots + rm.slots ≤ R.slots)
    (kk : ∀ (u : S) (H1 : Heap) (locs1 : List Loc), post u → va_P G.1 vwCl (wN u) H1 → va_D A (wN u) → va_S A s.heap H1 locs1 → W p l e R s m args below meth c H1 locs1 (cells + rm.cells) (slots + rm.slots) Q (F0 m (pc + 3) ls (rest))) : W p l e R s m args below meth c H locs cells slots Q (F0 m pc ls st0) := by
  have hrec : ∃ cell : Cell, H[b]? = some cell ∧ cell.vm.isStatics = false ∧ s.vm.findClass C = some cell.cls := by rw [← hCq]; exact va_recv hX.2.1.1 hX.2.2.1 hci he
  have hat : ClassAt s C (G.1.1 ci) := by rw [← hCq]; exact (hX.2.1.1.1 ci _ hci).2
  exact x_backv hX isC pl hC hN hn (va_runSU hat hX.1 (hM H.size) cw ⟨xPc.blind, hrec, x_pre hX isC hnC hC⟩ rfl rfl hsize hstack (lv_room hW) hdg hf) kk
theorem x_backr {S : Type} {post : S → Prop} {ra : S → Nat} {w' : S → va_W} {wN : S → va_W} {a : Array Value} (hX : xS G p m c cc nL s args own A ws H locs) (isC pl : List Nat) (hC : isC.map (fun i => ws[i]?) = wc.map some) (hN : ∀ u, pl.map (fun n => xlk ws (w' u) n) = (wN u).map some) (hn : xok isC pl = true)
    (hr : va_Run p l e R s m args below meth c H locs cells slots rm.cells rm.slots (F0 m pc ls st0) rest (va_Qr post (xBr G wc H.size ra w') (va_A wc H.size) a) (va_A wc H.size))
    (kk : ∀ (u : S) (H1 : Heap) (locs1 : List Loc), post u → va_P G.1 vwCl (wN u) H1 → va_D A (wN u) → va_S A s.heap H1 locs1 → W p l e R s m args below meth c H1 locs1 (cells + rm.cells) (slots + rm.slots) Q (F0 m (pc + 3) ls (.ref (ra u) :: rest))) : W p l e R s m args below meth c H locs cells slots Q (F0 m pc ls st0) := by
  obtain ⟨hC0, hK, hP, hD, hS, hA⟩ := hX
  have hF := x_free hD hS hA isC hC
  refine va_callr hr hS (fun q _ h => hF q h) hF (fun u ra2 t H1 locs1 ht hvm hw hB hz1 hk1 hS1 => ?_)
  obtain ⟨rfl, hP1, hD1⟩ := hB
  rw [ht] at hP1
  obtain ⟨hP2, hD2⟩ := x_merge hP hD isC pl hC (hN u) hn hk1 hF hP1 hD1
  exact kk u H1 locs1 hw hP2 hD2 hS1
theorem x_Vr {S : Type} {post : S → Prop} {ra : S → Nat} {w' : S → va_W} {wN : S → va_W} {b : Nat} (hX : xS G p m c cc nL s args own A ws H locs) {C : String} {q9 : vw_C} {fs : List Value} {ci : Nat} (q0 : Nat) (he : ws[q0]? = some (b, .inr (ci, fs))) (hci : vwCl[ci]? = some q9) (hCq : q9.1 = C) (hM : xCr l G y bytes maxL ret rm (.ref b :: As) wc post ra w') (cw : CallW R s args own C index y bytes maxL ret (ws_ y bytes maxL ret) rm rm.cells rm.slots As.length) (isC pl : List Nat) (hC : isC.map (fun i => ws[i]?) = wc.map some) (hN : ∀ u, pl.map (fun n => xlk ws (w' u) n) = (wN u).map some) (hn : xok isC pl = true) (hnC : va_nd isC = true) (hsize : ls.size = nL) (hstack : st0 = As.reverse ++ .ref b :: rest) (hW : (rest.map fun v => v.category).sum ≤ 8) (hdg : decode cc pc = .ok (.invokevirtual index, 3)) (hf : cells + rm.cells ≤ R.cells ∧ slots + rm.slots ≤ R.slots)
    (kk : ∀ (u : S) (H1 : Heap) (locs1 : List Loc), post u → va_P G.1 vwCl (wN u) H1 → va_D A (wN u) → va_S A s.heap H1 locs1 → W p l e R s m args below meth c H1 locs1 (cells + rm.cells) (slots + rm.slots) Q (F0 m (pc + 3) ls (.ref (ra u) :: rest))) : W p l e R s m args below meth c H locs cells slots Q (F0 m pc ls st0) := by
  have hrec : ∃ cell : Cell, H[b]? = some cell ∧ cell.vm.isStatics = false ∧ s.vm.findClass C = some cell.cls := by rw [← hCq]; exact va_recv hX.2.1.1 hX.2.2.1 hci he
  exact x_backr hX isC pl hC hN hn (va_runV hX.1 (hM H.size) cw ⟨xPc.blind, hrec, x_pre hX isC hnC hC⟩ rfl rfl hsize hstack (lv_room hW) hdg hf) kk
theorem x_Sr {S : Type} {post : S → Prop} {ra : S → Nat} {w' : S → va_W} {wN : S → va_W} (hX : xS G p m c cc nL s args own A ws H locs) (hM : xCr l G y bytes maxL ret rm As wc post ra w') (cw : CallB R s args own index y bytes maxL ret (ws_ y bytes maxL ret) rm rm.cells rm.slots As.length ∧ (Cond.static y).before args s = true) (isC pl : List Nat) (hC : isC.map (fun i => ws[i]?) = wc.map some) (hN : ∀ u, pl.map (fun n => xlk ws (w' u) n) = (wN u).map some) (hn : xok isC pl = true) (hnC : va_nd isC = true) (hsize : ls.size = nL) (hstack : st0 = As.reverse ++ rest) (hW : (rest.map fun v => v.category).sum ≤ 8) (hdg : decode cc pc = .ok (.invokestatic index, 3)) (hf : cells + rm.cells ≤ R.cells ∧ slots + rm.slots ≤ R.slots)
    (kk : ∀ (u : S) (H1 : Heap) (locs1 : List Loc), post u → va_P G.1 vwCl (wN u) H1 → va_D A (wN u) → va_S A s.heap H1 locs1 → W p l e R s m args below meth c H1 locs1 (cells + rm.cells) (slots + rm.slots) Q (F0 m (pc + 3) ls (.ref (ra u) :: rest))) : W p l e R s m args below meth c H locs cells slots Q (F0 m pc ls st0) := by
  exact x_backr hX isC pl hC hN hn (va_runS hX.1 (hM H.size) cw ⟨xPc.blind, x_pre hX isC hnC hC⟩ rfl rfl hsize hstack (lv_room hW) hdg hf) kk
theorem x_VNr {S : Type} {post : S → Prop} {ra : S → Nat} {w' : S → va_W} {wN : S → va_W} {b : Nat} {host : String} (hX : xS G p m c cc nL s args own A ws H locs) {C : String} {q9 : vw_C} {fs : List Value} {ci : Nat} (q0 : Nat) (he : ws[q0]? = some (b, .inr (ci, fs))) (hci : vwCl[ci]? = some q9) (hCq : q9.1 = C) (hM : xCr l G y bytes maxL ret rm (.ref b :: As) wc post ra w') (cw : va_CN R s args own index y host bytes maxL ret (ws_ y bytes maxL ret) rm rm.cells rm.slots As.length ∧ (Cond.instanceMethod y).before args s = true ∧ (Cond.selects C y y).before args s = true) (isC pl : List Nat) (hC : isC.map (fun i => ws[i]?) = wc.map some) (hN : ∀ u, pl.map (fun n => xlk ws (w' u) n) = (wN u).map some) (hn : xok isC pl = true) (hnC : va_nd isC = true) (hsize : ls.size = nL) (hstack : st0 = As.reverse ++ .ref b :: rest) (hW : (rest.map fun v => v.category).sum ≤ 8) (hdg : decode cc pc = .ok (.invokevirtual index, 3)) (hf : cells + rm.cells ≤ R.cells ∧ slots + rm.slots ≤ R.slots)
    (kk : ∀ (u : S) (H1 : Heap) (locs1 : List Loc), post u → va_P G.1 vwCl (wN u) H1 → va_D A (wN u) → va_S A s.heap H1 locs1 → W p l e R s m args below meth c H1 locs1 (cells + rm.cells) (slots + rm.slots) Q (F0 m (pc + 3) ls (.ref (ra u) :: rest))) : W p l e R s m args below meth c H locs cells slots Q (F0 m pc ls st0) := by
  have hrec : ∃ cell : Cell, H[b]? = some cell ∧ cell.vm.isStatics = false ∧ s.vm.findClass C = some cell.cls := by rw [← hCq]; exact va_recv hX.2.1.1 hX.2.2.1 hci he
  exact x_backr hX isC pl hC hN hn (va_runVN hX.1 (hM H.size) cw ⟨xPc.blind, hrec, x_pre hX isC hnC hC⟩ rfl rfl hsize hstack (lv_room hW) hdg hf) kk
theorem x_SNr {S : Type} {post : S → Prop} {ra : S → Nat} {w' : S → va_W} {wN : S → va_W} {host : String} (hX : xS G p m c cc nL s args own A ws H locs) (hM : xCr l G y bytes maxL ret rm As wc post ra w') (cw : va_CN R s args own index y host bytes maxL ret (ws_ y bytes maxL ret) rm rm.cells rm.slots As.length ∧ (Cond.static y).before args s = true ∧ True) (isC pl : List Nat) (hC : isC.map (fun i => ws[i]?) = wc.map some) (hN : ∀ u, pl.map (fun n => xlk ws (w' u) n) = (wN u).map some) (hn : xok isC pl = true) (hnC : va_nd isC = true) (hsize : ls.size = nL) (hstack : st0 = As.reverse ++ rest) (hW : (rest.map fun v => v.category).sum ≤ 8) (hdg : decode cc pc = .ok (.invokestatic index, 3)) (hf : cells + rm.cells ≤ R.cells ∧ slots + rm.slots ≤ R.slots)
    (kk : ∀ (u : S) (H1 : Heap) (locs1 : List Loc), post u → va_P G.1 vwCl (wN u) H1 → va_D A (wN u) → va_S A s.heap H1 locs1 → W p l e R s m args below meth c H1 locs1 (cells + rm.cells) (slots + rm.slots) Q (F0 m (pc + 3) ls (.ref (ra u) :: rest))) : W p l e R s m args below meth c H locs cells slots Q (F0 m pc ls st0) := by
  exact x_backr hX isC pl hC hN hn (va_runSN hX.1 (hM H.size) cw ⟨xPc.blind, x_pre hX isC hnC hC⟩ rfl rfl hsize hstack (lv_room hW) hdg hf) kk
theorem x_Ur {S : Type} {post : S → Prop} {ra : S → Nat} {w' : S → va_W} {wN : S → va_W} {b : Nat} {owner : String} {x0 : MethodName} (hX : xS G p m c cc nL s args own A ws H locs) {C : String} {q9 : vw_C} {fs : List Value} {ci : Nat} (q0 : Nat) (he : ws[q0]? = some (b, .inr (ci, fs))) (hci : vwCl[ci]? = some q9) (hCq : q9.1 = C) (hM : xCr l G y bytes maxL ret rm (.ref b :: As) wc post ra w') (cw : va_CU R s args own C owner index x0 y bytes maxL ret (ws_ y bytes maxL ret) rm rm.cells rm.slots As.length) (isC pl : List Nat) (hC : isC.map (fun i => ws[i]?) = wc.map some) (hN : ∀ u, pl.map (fun n => xlk ws (w' u) n) = (wN u).map some) (hn : xok isC pl = true) (hnC : va_nd isC = true) (hsize : ls.size = nL) (hstack : st0 = As.reverse ++ .ref b :: rest) (hW : (rest.map fun v => v.category).sum ≤ 8) (hdg : decode cc pc = .ok (.invokevirtual index, 3)) (hf : cells + rm.cells ≤ R.cells ∧ slots + rm.slots ≤ R.slots)
    (kk : ∀ (u : S) (H1 : Heap) (locs1 : List Loc), post u → va_P G.1 vwCl (wN u) H1 → va_D A (wN u) → va_S A s.heap H1 locs1 → W p l e R s m args below meth c H1 locs1 (cells + rm.cells) (slots + rm.slots) Q (F0 m (pc + 3) ls (.ref (ra u) :: rest))) : W p l e R s m args below meth c H locs cells slots Q (F0 m pc ls st0) := by
  have hrec : ∃ cell : Cell, H[b]? = some cell ∧ cell.vm.isStatics = false ∧ s.vm.findClass C = some cell.cls := by rw [← hCq]; exact va_recv hX.2.1.1 hX.2.2.1 hci he
  exact x_backr hX isC pl hC hN hn (va_runU hX.1 (hM H.size) cw ⟨xPc.blind, hrec, x_pre hX isC hnC hC⟩ rfl rfl hsize hstack (lv_room hW) hdg hf) kk
theorem x_SUr {S : Type} {post : S → Prop} {ra : S → Nat} {w' : S → va_W} {wN : S → va_W} {b : Nat} (hX : xS G p m c cc nL s args own A ws H locs) {C : String} {q9 : vw_C} {fs : List Value} {ci : Nat} (q0 : Nat) (he : ws[q0]? = some (b, .inr (ci, fs))) (hci : vwCl[ci]? = some q9) (hCq : q9.1 = C) (hM : xCr l G y bytes maxL ret rm (.ref b :: As) wc post ra w') (cw : va_CS R s args own index y bytes maxL ret (ws_ y bytes maxL ret) rm rm.cells rm.slots As.length) (isC pl : List Nat) (hC : isC.map (fun i => ws[i]?) = wc.map some) (hN : ∀ u, pl.map (fun n => xlk ws (w' u) n) = (wN u).map some) (hn : xok isC pl = true) (hnC : va_nd isC = true) (hsize : ls.size = nL) (hstack : st0 = As.reverse ++ .ref b :: rest) (hW : (rest.map fun v => v.category).sum ≤ 8) (hdg : decode cc pc = .ok (.invokespecial index, 3)) (hf : cells + rm.cells ≤ R.cells ∧ slots + rm.slots ≤ R.slots)
    (kk : ∀ (u : S) (H1 : Heap) (locs1 : List Loc), post u → va_P G.1 vwCl (wN u) H1 → va_D A (wN u) → va_S A s.heap H1 locs1 → W p l e R s m args below meth c H1 locs1 (cells + rm.cells) (slots + rm.slots) Q (F0 m (pc + 3) ls (.ref (ra u) :: rest))) : W p l e R s m args below meth c H locs cells slots Q (F0 m pc ls st0) := by
  have hrec : ∃ cell : Cell, H[b]? = some cell ∧ cell.vm.isStatics = false ∧ s.vm.findClass C = some cell.cls := by rw [← hCq]; exact va_recv hX.2.1.1 hX.2.2.1 hci he
  have hat : ClassAt s C (G.1.1 ci) := by rw [← hCq]; exact (hX.2.1.1.1 ci _ hci).2
  exact x_backr hX isC pl hC hN hn (va_runSU hat hX.1 (hM H.size) cw ⟨xPc.blind, hrec, x_pre hX isC hnC hC⟩ rfl rfl hsize hstack (lv_room hW) hdg hf) kk
end XC
theorem x_arrext {cA : ClassId} {n : Nat} {f g : Nat → Value} (h : ∀ j, j < n → f j = g j) : arrV cA n f = arrV cA n g := by
  unfold arrV
  congr 1
  apply Array.ext
  · simp
  · intro i h1 h2
    simp only [Array.size_ofFn] at h1
    simp only [Array.getElem_ofFn]
    exact h i h1
/-- a cell of ints by another function of the same values -/
theorem x_ext {D : va_G} {cl : List vw_C} {ws : va_W} {H : Heap} (hP : va_P D cl ws H) (k : Nat) {a n : Nat} {cA : ClassId} {f : Nat → Int32} (he : ws[k]? = some (a, .inl (cA, n, .inl f))) (g : Nat → Int32) (h : ∀ j, j < n → f j = g j) : va_P D cl (ws.set k (a, .inl (cA, n, .inl g))) H := by
  intro i q hq
  by_cases hi : i = k
  · subst hi
    have hl := (List.getElem?_eq_some_iff.mp he).1
    rw [List.getElem?_set_self hl] at hq
    cases hq
    have h1 : H[a]? = some (vp_cell cA (n, .inl f)) := hP i _ he
    show H[a]? = some (vp_cell cA (n, .inl g))
    rw [h1, vp_cell_i, vp_cell_i, x_arrext (f := fun j => .int (f j)) (g := fun j => .int (g j)) (fun j hj => by rw [h j hj])]
  · rw [List.getElem?_set_ne (Ne.symm hi)] at hq
    exact hP i q hq
theorem x_extq {D : va_G} {cl : List vw_C} {ws : va_W} {H : Heap} (hP : va_P D cl ws H) (k : Nat) {a n : Nat} {cA : ClassId} {f : Nat → Option Nat} (he : ws[k]? = some (a, .inl (cA, n, .inr (.inr (.inr (.inr f)))))) (g : Nat → Option Nat) (h : ∀ j, j < n → f j = g j) : va_P D cl (ws.set k (a, .inl (cA, n, .inr (.inr (.inr (.inr g)))))) H := by
  intro i q hq
  by_cases hi : i = k
  · subst hi
    have hl := (List.getElem?_eq_some_iff.mp he).1
    rw [List.getElem?_set_self hl] at hq
    cases hq
    have h1 : H[a]? = some (vp_cell cA (n, .inr (.inr (.inr (.inr f))))) := hP i _ he
    show H[a]? = some (vp_cell cA (n, .inr (.inr (.inr (.inr g)))))
    rw [h1, vp_cell_q, vp_cell_q, x_arrext (f := fun j => va_rf (f j)) (g := fun j => va_rf (g j)) (fun j hj => by rw [h j hj])]
  · rw [List.getElem?_set_ne (Ne.symm hi)] at hq
    exact hP i q hq
theorem x_Dset {A : Nat → Prop} {ws : va_W} (hD : va_D A ws) (k : Nat) {a : Nat} {e0 : va_E} (he : ws[k]? = some (a, e0)) (e : va_E) : va_D A (ws.set k (a, e)) := hD.set he


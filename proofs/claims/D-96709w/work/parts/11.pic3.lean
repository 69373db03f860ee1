/-! towers, counts; new arrays of the known classes -/
theorem pMins_n (r : Rw) : ∀ n, mny (pMins r n) = mny r
  | 0 => rfl
  | n + 1 => pMins_n r n
theorem Ok.mins {r : Rw} (h : Ok r) : ∀ {n : Nat}, Ok (pMins r n)
  | 0 => h
  | n + 1 => Ok.min (Ok.mins h (n := n))
theorem kOk.mins {ka : Nat → Nat} {kd : Nat → Option Nat} {r : Rw} (h : kOk ka kd r) : ∀ {n : Nat}, kOk ka kd (pMins r n)
  | 0 => h
  | n + 1 => kOk.min (kOk.mins h (n := n))
theorem pMins_h (r : Rw) : ∀ n, pMins r n 5 3 = r 5 3
  | 0 => rfl
  | n + 1 => pMins_h r n
theorem pMins_h2 (r : Rw) : ∀ n, pMins r n 5 2 = r 5 2
  | 0 => rfl
  | n + 1 => pMins_h2 r n
theorem pMins_0 (r : Rw) : ∀ n, pMins r n 0 = r 0
  | 0 => rfl
  | n + 1 => pMins_0 r n
theorem pMins_1 (r : Rw) : ∀ n, pMins r n 1 = r 1
  | 0 => rfl
  | n + 1 => pMins_1 r n
theorem pMins_2 (r : Rw) : ∀ n, pMins r n 2 = r 2
  | 0 => rfl
  | n + 1 => pMins_2 r n
theorem pSet_bn {r : Rw} {w : Int32} (h : mny r ≤ 10) : pSet r w = nI (bn (pHow r w) (mny r)) := bs_bn _ _ (by omega)
theorem bn_1024 {P : Nat → Bool} {n : Nat} (h : n ≤ 10) : bn P n < 1024 := by
  have h1 := bn_lt P n
  have h2 : 2 ^ n ≤ 2 ^ 10 := Nat.pow_le_pow_right (by omega) h
  omega
/-- how many bits -/
def pc (b : Nat) : Nat := cn b.testBit 10
theorem pc_le (b : Nat) : pc b ≤ 10 := cn_le _ 10
theorem cn_more {P : Nat → Bool} {n : Nat} : ∀ k, (∀ t, n ≤ t → t < n + k → P t = false) → cn P (n + k) = cn P n
  | 0, _ => rfl
  | k + 1, h => by
    show cn P (n + k) + (if P (n + k) = true then 1 else 0) = _
    rw [cn_more k (fun t h1 h2 => h t h1 (by omega)), h (n + k) (by omega) (by omega)]
    simp
theorem pc_bn {P : Nat → Bool} {n : Nat} (h : n ≤ 10) : pc (bn P n) = cn P n := by
  unfold pc
  have e := cn_more (P := (bn P n).testBit) (n := n) (10 - n) (fun t h1 _ => by rw [bn_bit]; simp; omega)
  rw [show n + (10 - n) = 10 by omega] at e
  rw [e]
  exact cn_congr (fun t ht => by rw [bn_bit]; simp [ht])
theorem pc_step : ∀ b, b < 1024 → 0 < b → pc (b &&& (b - 1)) + 1 = pc b ∧ b &&& (b - 1) < b := by decide +kernel
theorem pc_0 : pc 0 = 0 := by decide
theorem pStN_pc {r : Rw} (h : mny r ≤ 10) : nI (pc (bn (pHow r 0) (mny r))) = pStN r := by rw [pc_bn h]; rfl
/-! towers -/
def pUpN (r : Rw) : Nat → Int32 → Nat
  | 0, _ => 0
  | f + 1, x => if x = -9 then 0 else pUpN r f (r 2 x.toNatClampNeg) + 1
def pHt (r : Rw) (t : Nat) : Nat := pUpN r 11 (r 2 t)
theorem m9_ne {j : Nat} (hj : j < 2 ^ 31) : ¬ nI j = -9 := by
  intro q
  have h1 := nI_toInt hj
  rw [q] at h1
  have h2 : (-9 : Int32).toInt = -9 := by decide
  omega
theorem pUpN_s {r : Rw} {f j : Nat} (hj : j < 2 ^ 31) : pUpN r (f + 1) (nI j) = pUpN r f (r 2 j) + 1 := by
  show (if nI j = -9 then 0 else pUpN r f (r 2 (nI j).toNatClampNeg) + 1) = _
  rw [if_neg (m9_ne hj), nI_clamp hj]
theorem pUpN_9 (r : Rw) (f : Nat) : pUpN r (f + 1) (-9) = 0 := rfl
theorem pUpN_f {r : Rw} (hr : Ok r) : ∀ (f j : Nat), j < f → j < mny r → pUpN r f (nI j) = pUpN r (f + 1) (nI j)
  | 0, j, h, _ => absurd h (Nat.not_lt_zero j)
  | f + 1, j, h, hm => by
    have hN := hr.le
    rw [pUpN_s (by omega), pUpN_s (by omega)]
    rcases hr.on hm with e | ⟨k, hk, e⟩
    · rw [e]
      cases f with
      | zero => rfl
      | succ f => rfl
    · rw [e, pUpN_f hr f k (by omega) (by omega)]
theorem pUpN_11 {r : Rw} (hr : Ok r) {j : Nat} (hm : j < mny r) : pUpN r 11 (nI j) = pUpN r 11 (r 2 j) + 1 := by
  have hN := hr.le
  rw [pUpN_f hr 11 j (by omega) hm, pUpN_s (by omega)]
theorem pUpN_le (r : Rw) : ∀ (f : Nat) (x : Int32), pUpN r f x ≤ f
  | 0, _ => Nat.le_refl 0
  | f + 1, x => by
    show (if x = -9 then 0 else pUpN r f (r 2 x.toNatClampNeg) + 1) ≤ _
    have := pUpN_le r f (r 2 x.toNatClampNeg)
    split <;> omega
def pBot (r : Rw) : Nat → Nat → Nat
  | 0, t => t
  | f + 1, t => if r 2 t = -9 then t else pBot r f (r 2 t).toNatClampNeg
theorem pBot_f {r : Rw} (hr : Ok r) : ∀ (f j : Nat), j < f → j < mny r → pBot r f j = pBot r (f + 1) j
  | 0, j, h, _ => absurd h (Nat.not_lt_zero j)
  | f + 1, j, h, hm => by
    have hN := hr.le
    show (if r 2 j = -9 then j else pBot r f (r 2 j).toNatClampNeg) = (if r 2 j = -9 then j else pBot r (f + 1) (r 2 j).toNatClampNeg)
    rcases hr.on hm with e | ⟨k, hk, e⟩
    · rw [if_pos e, if_pos e]
    · rw [e, if_neg (m9_ne (by omega)), if_neg (m9_ne (by omega)), nI_clamp (by omega), pBot_f hr f k (by omega) (by omega)]
theorem pBot_9 {r : Rw} {f j : Nat} (e : r 2 j = -9) : pBot r (f + 1) j = j := if_pos e
theorem pBot_11 {r : Rw} (hr : Ok r) {j k : Nat} (hm : j < mny r) (hk : k < j) (e : r 2 j = nI k) : pBot r 11 j = pBot r 11 k := by
  have hN := hr.le
  rw [pBot_f hr 11 j (by omega) hm]
  show (if r 2 j = -9 then j else pBot r 11 (r 2 j).toNatClampNeg) = _
  rw [e, if_neg (m9_ne (by omega)), nI_clamp (by omega)]
theorem pBot_lt {r : Rw} (hr : Ok r) : ∀ (f j : Nat), j < mny r → pBot r f j < mny r
  | 0, _, h => h
  | f + 1, j, h => by
    have hN := hr.le
    show (if r 2 j = -9 then j else pBot r f (r 2 j).toNatClampNeg) < _
    rcases hr.on h with e | ⟨k, hk, e⟩
    · rw [if_pos e]; exact h
    · rw [e, if_neg (m9_ne (by omega)), nI_clamp (by omega)]
      exact pBot_lt hr f k (by omega)
/-- whether b is somewhere below a -/
def pAb (r : Rw) (b : Nat) : Nat → Nat → Bool
  | 0, _ => false
  | f + 1, a => if r 2 a = -9 then false else if r 2 a = nI b then true else pAb r b f (r 2 a).toNatClampNeg
theorem pAb_9 {r : Rw} {b f a : Nat} (e : r 2 a = -9) : pAb r b (f + 1) a = false := if_pos e
theorem pAb_f {r : Rw} (hr : Ok r) (b : Nat) : ∀ (f j : Nat), j < f → j < mny r → pAb r b f j = pAb r b (f + 1) j
  | 0, j, h, _ => absurd h (Nat.not_lt_zero j)
  | f + 1, j, h, hm => by
    have hN := hr.le
    show (if r 2 j = -9 then false else if r 2 j = nI b then true else pAb r b f (r 2 j).toNatClampNeg) = (if r 2 j = -9 then false else if r 2 j = nI b then true else pAb r b (f + 1) (r 2 j).toNatClampNeg)
    rcases hr.on hm with e | ⟨k, hk, e⟩
    · rw [if_pos e, if_pos e]
    · rw [e, if_neg (m9_ne (by omega)), if_neg (m9_ne (by omega)), nI_clamp (by omega), pAb_f hr b f k (by omega) (by omega)]
theorem pAb_11 {r : Rw} (hr : Ok r) {b j k : Nat} (hm : j < mny r) (hk : k < j) (e : r 2 j = nI k) (hb : b < 2 ^ 31) : pAb r b 11 j = (decide (k = b) || pAb r b 11 k) := by
  have hN := hr.le
  rw [pAb_f hr b 11 j (by omega) hm]
  show (if r 2 j = -9 then false else if r 2 j = nI b then true else pAb r b 11 (r 2 j).toNatClampNeg) = _
  rw [e, if_neg (m9_ne (by omega)), nI_clamp (by omega)]
  by_cases h : k = b
  · subst h; simp
  · rw [if_neg (fun q => h ((nI_eq (by omega) hb).mp q))]
    simp [h]
theorem pAb_low {r : Rw} (hr : Ok r) {b : Nat} (hb : b < 2 ^ 31) : ∀ (f j : Nat), j ≤ b → j < mny r → pAb r b f j = false
  | 0, _, _, _ => rfl
  | f + 1, j, h, hm => by
    have hN := hr.le
    show (if r 2 j = -9 then false else if r 2 j = nI b then true else pAb r b f (r 2 j).toNatClampNeg) = false
    rcases hr.on hm with e | ⟨k, hk, e⟩
    · rw [if_pos e]
    · rw [e, if_neg (m9_ne (by omega)), if_neg (fun q => by have := (nI_eq (by omega) hb).mp q; omega), nI_clamp (by omega)]
      exact pAb_low hr hb f k (by omega) (by omega)
def pAbv (r : Rw) (b : Nat) : Int32 := bs (pAb r b 11) (mny r)
/-! a thing comes -/
def pCome (r : Rw) (c : Nat) (f u : Int32) : Rw := sf (sf (sf (sf (sf (sf r 5 (upd (r 5) 0 (nI (mny r + 1)))) 0 (upd (r 0) (mny r) (nI c))) 1 (upd (r 1) (mny r) f)) 2 (upd (r 2) (mny r) u)) 3 (upd (r 3) (mny r) 0)) 4 (upd (r 4) (mny r) 0)
theorem pCome_n {r : Rw} {c : Nat} {f u : Int32} (h : mny r < 10) : mny (pCome r c f u) = mny r + 1 := by
  show (nI (mny r + 1)).toNatClampNeg = _
  exact nI_clamp (by omega)
theorem Ok.come {r : Rw} (h : Ok r) {c f : Nat} {u : Int32} (hm : mny r < 10) (hc : c < 6) (hf : f ≤ 9) (hu : u = -9 ∨ ∃ j, j < mny r ∧ u = nI j) : Ok (pCome r c (nI f) u) := by
  have hn := pCome_n (c := c) (f := nI f) (u := u) hm
  refine ⟨⟨by rw [hn]; rfl, by omega⟩, h.2.1, ?_, ?_, ?_⟩
  · intro t ht
    rw [hn] at ht
    show upd (r 2) (mny r) u t = -9 ∨ ∃ j, j < t ∧ upd (r 2) (mny r) u t = nI j
    by_cases e : t = mny r
    · subst e; rw [pk_us]; exact hu
    · rw [pk_un e]; exact h.on (by omega)
  · intro t ht
    rw [hn] at ht
    show ∃ c', c' < 6 ∧ upd (r 0) (mny r) (nI c) t = nI c'
    by_cases e : t = mny r
    · subst e; rw [pk_us]; exact ⟨c, hc, rfl⟩
    · rw [pk_un e]; exact h.kd (by omega)
  · intro t ht
    rw [hn] at ht
    show ∃ f', f' ≤ 9 ∧ upd (r 1) (mny r) (nI f) t = nI f'
    by_cases e : t = mny r
    · subst e; rw [pk_us]; exact ⟨f, hf, rfl⟩
    · rw [pk_un e]; exact h.fg (by omega)
theorem kOk.come {ka : Nat → Nat} {kd : Nat → Option Nat} {r : Rw} (h : kOk ka kd r) {c : Nat} {f u : Int32} (hm : mny r < 10) (hc : c < 6) : kOk ka (va_up kd (mny r) (some (ka c))) (pCome r c f u) := by
  have hn := pCome_n (c := c) (f := f) (u := u) hm
  refine ⟨fun t ht => ?_, fun t y ht hy => ?_⟩
  · rw [hn] at ht
    show va_up kd (mny r) (some (ka c)) t = some (ka (upd (r 0) (mny r) (nI c) t).toNatClampNeg)
    by_cases e : t = mny r
    · subst e; rw [va_up_self, pk_us, nI_clamp (by omega)]
    · rw [va_up_ne _ _ e, pk_un e]; exact h.1 t (by omega)
  · by_cases e : t = mny r
    · subst e; rw [va_up_self] at hy; exact ⟨c, hc, (Option.some.inj hy).symm⟩
    · rw [va_up_ne _ _ e] at hy; exact h.2 t y ht hy
/-- a kind may lie in a row of kinds -/
theorem kAny {G : xG} {s : State} {H : Heap} {ws : va_W} {ka : Nat → Nat} (hK : KK G s) (hP : va_P G.1 vwCl ws H) (b : Nat) (h : ∀ c, c < 6 → ws[b + c]? = some (ka c, .inr (c + 1, []))) {c : Nat} (hc : c < 6) : va_Any RX1 s H (ka c) := by
  have h0 := h c hc
  have hN := hK.2
  have asg : ∀ (i : Nat) (C : String), nwC[i]? = some (C, RX1) → ∀ comp c0 : ClassId, s.vm.findClass RX1 = some comp → s.vm.findClass C = some c0 → s.vm.assignable c0 comp = true := by
    intro i C e comp c0 h1 h2
    obtain ⟨c1, t1, f1, f2, f3⟩ := Cond.castable_spec (va_Nw.use (A := #[]) rfl (hN.C i e))
    cases f1.symm.trans h2
    cases f2.symm.trans h1
    exact f3
  rcases (show c = 0 ∨ c = 1 ∨ c = 2 ∨ c = 3 ∨ c = 4 ∨ c = 5 by omega) with rfl | rfl | rfl | rfl | rfl | rfl
  · exact va_rAny hK.1 hP h0 rfl (asg 4 RX2 rfl)
  · exact va_rAny hK.1 hP h0 rfl (asg 5 RX3 rfl)
  · exact va_rAny hK.1 hP h0 rfl (asg 6 RX4 rfl)
  · exact va_rAny hK.1 hP h0 rfl (asg 7 RX5 rfl)
  · exact va_rAny hK.1 hP h0 rfl (asg 8 RX6 rfl)
  · exact va_rAny hK.1 hP h0 rfl (asg 9 RX7 rfl)
theorem va_RA_inj {U : State} {c c' : ClassId} {ty : FieldType} (h : va_RA U c ty) (h' : va_RA U c' ty) : c = c' := by
  cases ty with
  | object C =>
    obtain ⟨_, _, _, _, _, h4⟩ := h
    obtain ⟨_, _, _, _, _, h4'⟩ := h'
    exact Option.some.inj (h4.symm.trans h4')
  | _ => exact Option.some.inj (h.symm.trans h')
section XN
variable {p : Program} {l : Launch} {e : Env} {R : Room} {s : State} {m : MethodId} {args : Array Value} {below : List Frame} {meth : Method} {c : Code} {H : Heap} {locs : List Loc} {cells slots : Nat} {Q : State → Prop}
variable {cc : ByteArray} {pc : Nat} {ls : Array Slot} {rest : List Value} {D : va_G} {cl : List vw_C} {A : Nat → Prop} {a : Nat} {tys : List (ClassId × FieldType)} {ws : va_W} {H0 : Heap}
theorem x_newa (hexec : p.tables.exec = Jvm.exec) (hb : c.code = cc) {atype : ArrayType} (harr : (Cond.arrayClass (newarray.typeOf atype)).before args s = true) {ty : FieldType} (hty : newarray.typeOf atype = ty) (hK : va_K D cl tys s) (hP : va_P D cl ws H) (hD : va_D A ws) (hS : va_S A H0 H locs) (hA : ∀ q, H0.size ≤ q → A q) (t0 : Nat) {c1 : ClassId} (ht : tys[t0]? = some (c1, ty))
    {n : Int32} {N' : Nat} {a0 : vp_A} (ha : ∀ cA : ClassId, vp_cell cA a0 = arrV cA N' (fun _ => defaultValue ty)) (hn : ¬ n < 0) (hN : n.toNatClampNeg = N') (hbytes : N' * componentBytes ty ≤ 536870912) (hcells : cells + 1 ≤ R.cells) (hslots : slots + N' ≤ R.slots) (hdg : decode cc pc = .ok (.newarray atype, 2))
    (kk : ∀ (q : Nat) (H1 : Heap), va_P D cl (ws ++ [(q, .inl (c1, a0))]) H1 → va_D A (ws ++ [(q, .inl (c1, a0))]) → va_S A H0 H1 locs →
      W p l e R s m args below meth c H1 locs (cells + 1) (slots + N') Q (F0 m (pc + 2) ls (.ref q :: rest))) : W p l e R s m args below meth c H locs cells slots Q (F0 m pc ls (.int n :: rest)) := by
  refine va_newa hexec hb harr hty hK hP hD hS hA ha hn hN hbytes hcells hslots hdg (fun q cA H1 hK1 hP1 hD1 hS1 => ?_)
  have h1 : (tys ++ [(cA, ty)])[tys.length]? = some (cA, ty) := by rw [List.getElem?_append_right (Nat.le_refl _)]; simp
  have e : cA = c1 := va_RA_inj (hK1.2 _ _ h1).2 (hK.2 _ _ ht).2
  subst e
  exact kk q H1 hP1 hD1 hS1
theorem x_newq (hexec : p.tables.exec = Jvm.exec) (hb : c.code = cc) {own C : String} {index : Nat} (hown : s.vm.findClass own = some m.cls) (hclink : (Cond.classLink own index C).before args s = true) (hover : va_AO C s) (hK : va_K D cl tys s) (hP : va_P D cl ws H) (hD : va_D A ws) (hS : va_S A H0 H locs) (hA : ∀ q, H0.size ≤ q → A q) (t0 : Nat) {c1 : ClassId} (ht : tys[t0]? = some (c1, .object C))
    {n : Int32} {N' : Nat} (hn : ¬ n < 0) (hN : n.toNatClampNeg = N') (hbytes : N' * 4 ≤ 536870912) (hcells : cells + 1 ≤ R.cells) (hslots : slots + N' ≤ R.slots) (hdg : decode cc pc = .ok (.anewarray index, 3))
    (kk : ∀ (q : Nat) (H1 : Heap), va_P D cl (ws ++ [(q, .inl (c1, N', .inr (.inr (.inr (.inr (fun _ => none))))))]) H1 → va_D A (ws ++ [(q, .inl (c1, N', .inr (.inr (.inr (.inr (fun _ => none))))))]) → va_S A H0 H1 locs →
      W p l e R s m args below meth c H1 locs (cells + 1) (slots + N') Q (F0 m (pc + 3) ls (.ref q :: rest))) : W p l e R s m args below meth c H locs cells slots Q (F0 m pc ls (.int n :: rest)) := by
  refine va_newq hexec hb hown hclink hover hK hP hD hS hA hn hN hbytes hcells hslots hdg (fun q cA H1 hK1 hP1 hD1 hS1 => ?_)
  have h1 : (tys ++ [(cA, FieldType.object C)])[tys.length]? = some (cA, .object C) := by rw [List.getElem?_append_right (Nat.le_refl _)]; simp
  have e : cA = c1 := va_RA_inj (hK1.2 _ _ h1).2 (hK.2 _ _ ht).2
  subst e
  exact kk q H1 hP1 hD1 hS1
end XN
theorem bI_ft (b : Bool) : fits .boolean (.int (bI b)) = true := by cases b <;> rfl
theorem pMins_r0 {r : Rw} (h : Ok r) {n : Nat} : pMins r n 5 0 = nI (mny r) := by rw [(h.mins (n := n)).n, pMins_n]
theorem set_any {G : xG} {s : State} {H : Heap} {ws : va_W} {ka : Nat → Nat} {kd : Nat → Option Nat} (hK : KK G s) (hP : va_P G.1 vwCl ws H) (b : Nat) (h : ∀ c, c < 6 → ws[b + c]? = some (ka c, .inr (c + 1, []))) (hk2 : ∀ t y, t < 10 → kd t = some y → ∃ c, c < 6 ∧ y = ka c) : ∀ i : Nat, i < (10 : Int32).toNatClampNeg → ∀ y : Nat, kd ((0 : Int32).toNatClampNeg + i) = some y → va_Any RX1 s H y := by
  intro i hi y hy
  have e0 : (0 : Int32).toNatClampNeg = 0 := by decide
  have e1 : (10 : Int32).toNatClampNeg = 10 := by decide
  rw [e0, Nat.zero_add] at hy
  rw [e1] at hi
  obtain ⟨c, hc, rfl⟩ := hk2 i y hi hy
  exact kAny hK hP b h hc
/-- a new room -/
def pInit : Rw := fun f j => if f = 5 ∧ j = 2 then 1 else 0

/-! lots, judging, told falls, fractions: what they answer -/
def dS (x : Int32) : Int32 := x * 1664525 + 1013904223
def dJ (x : Int32) (n : Nat) : Nat := x.toBitVec.toNat % 2 ^ 31 / 256 % n
theorem dA_i (x : Int32) : x &&& 2147483647 = nI (x.toBitVec.toNat % 2 ^ 31) := pk_and x 31 (by decide)
theorem dB_i (x : Int32) : (x &&& 2147483647) / 256 = nI (x.toBitVec.toNat % 2 ^ 31 / 256) := by
  rw [dA_i]
  exact pk_div (d := 256) (by omega) (by omega) (by omega)
theorem dJ_i (x : Int32) {n : Nat} (h0 : 0 < n) (hn : n < 2 ^ 31) : nI (x.toBitVec.toNat % 2 ^ 31 / 256) - nI (x.toBitVec.toNat % 2 ^ 31 / 256) / nI n * nI n = nI (dJ x n) := pk_rem (by omega) h0 hn
theorem dJ_lt (x : Int32) {n : Nat} (h0 : 0 < n) : dJ x n < n := Nat.mod_lt _ h0
theorem nI_n0 {n : Nat} (h0 : 0 < n) (hn : n < 2 ^ 31) : ¬ nI n = 0 := fun q => by
  have := (nI_eq hn (show 0 < 2 ^ 31 by omega)).mp q
  omega
def lStep (z : Int32 × Rw) (n : Nat) : Int32 × Rw := (dS (dS z.1), pMin (if pSt z.2 (dJ (dS z.1) n) = true then pPull z.2 (dJ (dS z.1) n) (nI (dJ (dS (dS z.1)) 10)) else z.2) 0)
def lRun (r : Rw) (z : Int32) : Nat → Int32 × Rw
  | 0 => (z, r)
  | i + 1 => lStep (lRun r z i) (mny r)
theorem lStep_y {z : Int32} {q : Rw} {n : Nat} (h : pSt q (dJ (dS z) n) = true) : lStep (z, q) n = (dS (dS z), pMin (pPull q (dJ (dS z) n) (nI (dJ (dS (dS z)) 10))) 0) := by
  unfold lStep
  rw [if_pos h]
theorem lStep_n {z : Int32} {q : Rw} {n : Nat} (h : pSt q (dJ (dS z) n) = false) : lStep (z, q) n = (dS (dS z), pMin q 0) := by
  unfold lStep
  rw [if_neg (by rw [h]; decide)]
def lVal (w : Int32) (q : Rw) : Nat := cn (pHow q (if w = 0 then 0 else 1)) (mny q)
def lSum (r : Rw) (w z : Int32) : Nat → Int32 × Int32
  | 0 => (z, 0)
  | k + 1 => ((lRun r (lSum r w z k).1 5).1, (lSum r w z k).2 + nI (lVal w (lRun r (lSum r w z k).1 5).2))
theorem lSum_1 {r q : Rw} {w z sd : Int32} {k : Nat} (h : lRun r (lSum r w z k).1 5 = (sd, q)) : sd = (lSum r w z (k + 1)).1 := by
  show _ = (lRun r (lSum r w z k).1 5).1
  rw [h]
theorem lSum_2 {r q : Rw} {w z sd v : Int32} {k : Nat} (h : lRun r (lSum r w z k).1 5 = (sd, q)) (hN : mny q ≤ 10) (hv : (if w = 0 then 0 else 1) = v) : (lSum r w z k).2 + nI (pc (bn (pHow q v) (mny q))) = (lSum r w z (k + 1)).2 := by
  show _ = (lSum r w z k).2 + nI (lVal w (lRun r (lSum r w z k).1 5).2)
  rw [h, pc_bn hN]
  unfold lVal
  rw [hv]
/-! judging a row of numbers -/
def jdP (r : Rw) (ro : Nat → Int32) (k : Nat) : Bool := decide (pStN (pMins r k) ≠ ro k)
def jdN (r : Rw) (ro : Nat → Int32) (n : Nat) : Int32 := if fs (jdP r ro) n < n then nI (fs (jdP r ro) n) else -9
theorem jdN_at {r : Rw} {ro : Nat → Int32} {n k : Nat} (hk : k < n) (h : ∀ j, j < k → jdP r ro j = false) (h2 : ¬ pStN (pMins r k) = ro k) : nI k = jdN r ro n := by
  have e : fs (jdP r ro) n = k := fs_eq (by omega) h (fun _ => decide_eq_true h2)
  unfold jdN
  rw [e, if_pos hk]
theorem jdN_no {r : Rw} {ro : Nat → Int32} {n : Nat} (h : ∀ j, j < n → jdP r ro j = false) : -9 = jdN r ro n := by
  have e : fs (jdP r ro) n = n := fs_eq (by omega) h (fun q => absurd q (by omega))
  unfold jdN
  rw [e, if_neg (by omega)]
theorem pMins_k0 {r : Rw} {k : Nat} (h : k = 0) : pMins (pMins r (k - 1)) 0 = pMins r k := by subst h; rfl
theorem pMins_k1 {r : Rw} {k : Nat} (h : ¬ k = 0) : pMins (pMins r (k - 1)) 1 = pMins r k := by
  obtain ⟨j, rfl⟩ : ∃ j, k = j + 1 := ⟨k - 1, by omega⟩
  rfl
/-! when things lie -/
def wnP (r : Rw) (t n : Nat) : Bool := decide (pMins r n 3 t = 1)
def wA (r : Rw) (n t : Nat) : Int32 := if fs (wnP r t) n < n then nI (fs (wnP r t) n) else 99
theorem fs_y {P : Nat → Bool} {n : Nat} (h : fs P n < n) : fs P (n + 1) = fs P n := if_pos h
theorem fs_s {P : Nat → Bool} {n : Nat} (h : ¬ fs P n < n) (hP : P n = true) : fs P (n + 1) = n := by
  show (if fs P n < n then fs P n else if P n = true then n else n + 1) = n
  rw [if_neg h, if_pos hP]
theorem fs_n {P : Nat → Bool} {n : Nat} (h : ¬ fs P n < n) (hP : P n = false) : fs P (n + 1) = n + 1 := by
  show (if fs P n < n then fs P n else if P n = true then n else n + 1) = n + 1
  rw [if_neg h, if_neg (by rw [hP]; decide)]
theorem wA_y {r : Rw} {n t : Nat} (hn : n < 99) (h : pMins r n 3 t = 1) : (if nI n < wA r n t then nI n else wA r n t) = wA r (n + 1) t := by
  have hP : wnP r t n = true := decide_eq_true h
  unfold wA
  by_cases q : fs (wnP r t) n < n
  · rw [if_pos q, fs_y q, if_pos (show fs (wnP r t) n < n + 1 by omega), if_neg]
    intro z
    have := (nI_ltI (by omega) (by omega)).mp z
    omega
  · rw [if_neg q, fs_s q hP, if_pos (show n < n + 1 by omega), if_pos]
    exact (nI_ltI (b := 99) (by omega) (by omega)).mpr hn
theorem wA_n {r : Rw} {n t : Nat} (h : ¬ pMins r n 3 t = 1) : wA r n t = wA r (n + 1) t := by
  have hP : wnP r t n = false := decide_eq_false h
  unfold wA
  by_cases q : fs (wnP r t) n < n
  · rw [if_pos q, fs_y q, if_pos (show fs (wnP r t) n < n + 1 by omega)]
  · rw [if_neg q, fs_n q hP, if_neg (by omega)]
def wI (n : Nat) : Nat → Int32 := fun j => if j < n then 99 else 0
def wG (r : Rw) (n : Nat) : Nat → Int32 := fun j => if j < mny r then wA r n j else 0
def wF (r : Rw) (n t : Nat) : Nat → Int32 := fun j => if j < t then wA r (n + 1) j else if j < mny r then wA r n j else 0
theorem wI_s (n : Nat) : upd (wI n) n 99 = wI (n + 1) := by
  funext j
  by_cases e : j = n
  · subst e; rw [pk_us]; exact (if_pos (by omega)).symm
  · rw [pk_un e]
    unfold wI
    by_cases h : j < n
    · rw [if_pos h, if_pos (by omega)]
    · rw [if_neg h, if_neg (by omega)]
theorem wI_0 : wI 0 = fun _ => 0 := by
  funext j
  exact if_neg (Nat.not_lt_zero j)
theorem wI_G (r : Rw) : wI (mny r) = wG r 0 := by
  funext j
  unfold wI wG
  by_cases h : j < mny r
  · rw [if_pos h, if_pos h]; rfl
  · rw [if_neg h, if_neg h]
theorem wF_0 (r : Rw) (n : Nat) : wF r n 0 = wG r n := by
  funext j
  exact if_neg (Nat.not_lt_zero j)
theorem wF_m (r : Rw) (n : Nat) : wF r n (mny r) = wG r (n + 1) := by
  funext j
  unfold wF wG
  by_cases h : j < mny r
  · rw [if_pos h, if_pos h]
  · rw [if_neg h, if_neg h, if_neg h]
theorem wF_at {r : Rw} {n t : Nat} (h : t < mny r) : wF r n t t = wA r n t := by
  unfold wF
  rw [if_neg (by omega), if_pos h]
theorem wF_s {r : Rw} {n t : Nat} : upd (wF r n t) t (wA r (n + 1) t) = wF r n (t + 1) := by
  funext j
  by_cases e : j = t
  · subst e; rw [pk_us]; exact (if_pos (by omega)).symm
  · rw [pk_un e]
    unfold wF
    by_cases h : j < t
    · rw [if_pos h, if_pos (by omega)]
    · rw [if_neg h, if_neg (show ¬ j < t + 1 by omega)]
def rwP (ro : Nat → Int32) (r : Rw) (t : Nat) : Bool := decide (ro t = wA r 99 t)
def isRw (ro : Nat → Int32) (r : Rw) : Bool := pAll (rwP ro r) (mny r)
/-- a thing turned to another kind (0) or figure -/
def pFit (r : Rw) (t : Nat) (w : Int32) (k : Nat) : Rw := if w = 0 then sf r 0 (upd (r 0) t (nI k)) else sf r 1 (upd (r 1) t (nI k))
def pFiN (w : Int32) : Nat := if w = 0 then 6 else 10
def pFits (r : Rw) (ro : Nat → Int32) (t : Nat) (w : Int32) : Int32 := bs (fun k => isRw ro (pFit r t w k)) (pFiN w)
theorem upd_id (f : Nat → Int32) (t : Nat) : upd f t (f t) = f := by
  funext j
  by_cases e : j = t
  · subst e; rw [pk_us]
  · rw [pk_un e]
theorem Ok.turn0 {r : Rw} (h : Ok r) {t k : Nat} (hk : k < 6) : Ok (sf r 0 (upd (r 0) t (nI k))) := by
  refine ⟨h.1, h.2.1, h.2.2.1, fun j hj => ?_, h.2.2.2.2⟩
  show ∃ c, c < 6 ∧ upd (r 0) t (nI k) j = nI c
  by_cases e : j = t
  · subst e; rw [pk_us]; exact ⟨k, hk, rfl⟩
  · rw [pk_un e]; exact h.kd hj
theorem Ok.turn1 {r : Rw} (h : Ok r) {t k : Nat} (hk : k ≤ 9) : Ok (sf r 1 (upd (r 1) t (nI k))) := by
  refine ⟨h.1, h.2.1, h.2.2.1, h.2.2.2.1, fun j hj => ?_⟩
  show ∃ c, c ≤ 9 ∧ upd (r 1) t (nI k) j = nI c
  by_cases e : j = t
  · subst e; rw [pk_us]; exact ⟨k, hk, rfl⟩
  · rw [pk_un e]; exact h.fg hj
theorem kOk.turn0 {ka : Nat → Nat} {kd : Nat → Option Nat} {r : Rw} (h : kOk ka kd r) {t k : Nat} (hk : k < 6) : kOk ka (va_up kd t (some (ka k))) (sf r 0 (upd (r 0) t (nI k))) := by
  refine ⟨fun j hj => ?_, fun j y hj hy => ?_⟩
  · show va_up kd t (some (ka k)) j = some (ka (upd (r 0) t (nI k) j).toNatClampNeg)
    by_cases e : j = t
    · subst e; rw [va_up_self, pk_us, nI_clamp (by omega)]
    · rw [va_up_ne _ _ e, pk_un e]; exact h.1 j hj
  · by_cases e : j = t
    · subst e; rw [va_up_self] at hy; exact ⟨k, hk, (Option.some.inj hy).symm⟩
    · rw [va_up_ne _ _ e] at hy; exact h.2 j y hj hy
theorem kOk.turn1 {ka : Nat → Nat} {kd : Nat → Option Nat} {r : Rw} (h : kOk ka kd r) {t k : Nat} (hk : k < 6) (e0 : r 0 t = nI k) {g : Nat → Int32} : kOk ka (va_up kd t (some (ka k))) (sf r 1 g) := by
  have h1 := h.turn0 (t := t) hk
  rw [← e0, upd_id] at h1
  exact h1
/-! fractions -/
def pDrR (r : Rw) (x : Nat) : Nat → Rw
  | 0 => r
  | k + 1 => pMin (pDrR r x k) (bI (hs (nI x) k))
def pDrO (t x : Nat) : Nat → Nat
  | 0 => 1
  | k + 1 => pDrO t x k * (if hs (nI x) k = true then 1 else t - 1)
def pDrA (r : Rw) (th n t : Nat) : Nat → Nat
  | 0 => 0
  | x + 1 => pDrA r th n t x + (if pSt (pDrR r x n) th = true then pDrO t x n else 0)
def pDrF (a b : Nat) (part : Int32) : Int64 := if a = 0 then part.toInt64 else if part = 0 then lN (a / Nat.gcd a b) else lN (b / Nat.gcd a b)
def pDr (r : Rw) (th n t : Nat) (part : Int32) : Int64 := pDrF (pDrA r th n t (2 ^ n)) (t ^ n) part
theorem pDrO_le {t : Nat} (ht : 1 ≤ t) (x : Nat) : ∀ k, pDrO t x k ≤ t ^ k
  | 0 => Nat.le_refl 1
  | k + 1 => by
    show pDrO t x k * (if hs (nI x) k = true then 1 else t - 1) ≤ t ^ (k + 1)
    rw [Nat.pow_succ]
    refine Nat.mul_le_mul (pDrO_le ht x k) ?_
    split <;> omega
theorem pDrA_le {r : Rw} {th n t : Nat} (ht : 1 ≤ t) : ∀ x, pDrA r th n t x ≤ x * t ^ n
  | 0 => Nat.zero_le _
  | x + 1 => by
    show pDrA r th n t x + (if pSt (pDrR r x n) th = true then pDrO t x n else 0) ≤ (x + 1) * t ^ n
    have h1 := pDrA_le (r := r) (th := th) (n := n) ht x
    have h2 := pDrO_le ht x n
    rw [Nat.add_mul, Nat.one_mul]
    split <;> omega
theorem tn_le {t n : Nat} (ht : t ≤ 20) (h1 : 1 ≤ t) (hn : n ≤ 7) : t ^ n ≤ 1280000000 := by
  have a1 : t ^ n ≤ 20 ^ n := Nat.pow_le_pow_left ht n
  have a2 : 20 ^ n ≤ 20 ^ 7 := Nat.pow_le_pow_right (by omega) hn
  omega
theorem pDrA_63 {r : Rw} {th n t x : Nat} (ht : t ≤ 20) (h1 : 1 ≤ t) (hn : n ≤ 7) (hx : x ≤ 2 ^ n) : pDrA r th n t x < 2 ^ 62 := by
  have a1 := pDrA_le (r := r) (th := th) (n := n) h1 x
  have a2 := tn_le ht h1 hn
  have a3 : 2 ^ n ≤ 2 ^ 7 := Nat.pow_le_pow_right (by omega) hn
  have a4 : x * t ^ n ≤ 128 * 1280000000 := Nat.mul_le_mul (by omega) a2
  omega
theorem lO_y {t x k : Nat} (h : hs (nI x) k = true) : lN (pDrO t x k) * 1 = lN (pDrO t x (k + 1)) := by
  show lN (pDrO t x k) * lN 1 = lN (pDrO t x k * (if hs (nI x) k = true then 1 else t - 1))
  rw [if_pos h, lN_mul]
theorem lO_n {t x k : Nat} (h : hs (nI x) k = false) : lN (pDrO t x k) * lN (t - 1) = lN (pDrO t x (k + 1)) := by
  show _ = lN (pDrO t x k * (if hs (nI x) k = true then 1 else t - 1))
  rw [if_neg (by rw [h]; decide), lN_mul]
theorem lA_y {r : Rw} {th n t x : Nat} (h : pSt (pDrR r x n) th = true) : lN (pDrA r th n t x) + lN (pDrO t x n) = lN (pDrA r th n t (x + 1)) := by
  show _ = lN (pDrA r th n t x + (if pSt (pDrR r x n) th = true then pDrO t x n else 0))
  rw [if_pos h, lN_add]
theorem lA_n {r : Rw} {th n t x : Nat} (h : pSt (pDrR r x n) th = false) : lN (pDrA r th n t x) + 0 = lN (pDrA r th n t (x + 1)) := by
  show lN (pDrA r th n t x) + lN 0 = lN (pDrA r th n t x + (if pSt (pDrR r x n) th = true then pDrO t x n else 0))
  rw [if_neg (by rw [h]; decide), lN_add]
theorem lT_s (t k : Nat) : lN (t ^ k) * lN t = lN (t ^ (k + 1)) := by rw [lN_mul, Nat.pow_succ]
theorem lN_z {a : Nat} (ha : a < 2 ^ 63) : lg_cmp (lN a) 0 = 0 ↔ a = 0 := by
  rw [show lg_cmp (lN a) 0 = 0 ↔ lN a = 0 from lg_cmp_eq _ _]
  exact pk_lEQ (b := 0) ha (by omega)
section XR2
variable {p : Program} {l : Launch} {e : Env} {R : Room} {s : State} {m : MethodId} {args : Array Value} {below : List Frame} {meth : Method} {c : Code} {H : Heap} {locs : List Loc} {cells slots : Nat} {Q : State → Prop}
variable {cc : ByteArray} {pc : Nat} {ls : Array Slot} {rest : List Value} {D : va_G} {cl : List vw_C} {A : Nat → Prop} {a : Nat} {tys : List (ClassId × FieldType)} {ws : va_W} {H0 : Heap}
theorem x_bastn (hexec : p.tables.exec = Jvm.exec) (hb : c.code = cc) (hK : va_K D cl tys s) (hP : va_P D cl ws H) (hD : va_D A ws) (hS : va_S A H0 H locs) (q0 t0 : Nat) {cA : ClassId} {n k : Nat} {f g : Nat → Int32} (ha : ws[q0]? = some (a, .inl (cA, n, .inl f))) (ht : tys[t0]? = some (cA, .byte)) {x : Int32} (hk : k < n) (hn : n < 2 ^ 31) (hv : vp_nar .byte x = x) (hg : upd f k x = g) (hdg : decode cc pc = .ok (.bastore, 1))
    (kk : ∀ (H1 : Heap) (locs1 : List Loc), va_P D cl (ws.set q0 (a, .inl (cA, n, .inl g))) H1 → va_D A (ws.set q0 (a, .inl (cA, n, .inl g))) → va_S A H0 H1 locs1 → W p l e R s m args below meth c H1 locs1 cells slots Q (F0 m (pc + 1) ls rest)) : W p l e R s m args below meth c H locs cells slots Q (F0 m pc ls (.int x :: .int (nI k) :: .ref a :: rest)) := by
  subst hg
  refine va_bast hexec hb hK hP hD hS q0 t0 ha ht (vp_in_nI hk hn) hdg ?_
  rw [nI_clamp (show k < 2 ^ 31 by omega), hv]
  exact kk
theorem x_castn (hexec : p.tables.exec = Jvm.exec) (hb : c.code = cc) (hK : va_K D cl tys s) (hP : va_P D cl ws H) (hD : va_D A ws) (hS : va_S A H0 H locs) (q0 t0 : Nat) {cA : ClassId} {n k : Nat} {f g : Nat → Int32} (ha : ws[q0]? = some (a, .inl (cA, n, .inl f))) (ht : tys[t0]? = some (cA, .char)) {x : Int32} (hk : k < n) (hn : n < 2 ^ 31) (hv : vp_nar .char x = x) (hg : upd f k x = g) (hdg : decode cc pc = .ok (.castore, 1))
    (kk : ∀ (H1 : Heap) (locs1 : List Loc), va_P D cl (ws.set q0 (a, .inl (cA, n, .inl g))) H1 → va_D A (ws.set q0 (a, .inl (cA, n, .inl g))) → va_S A H0 H1 locs1 → W p l e R s m args below meth c H1 locs1 cells slots Q (F0 m (pc + 1) ls rest)) : W p l e R s m args below meth c H locs cells slots Q (F0 m pc ls (.int x :: .int (nI k) :: .ref a :: rest)) := by
  subst hg
  refine va_cast hexec hb hK hP hD hS q0 t0 ha ht (vp_in_nI hk hn) hdg ?_
  rw [nI_clamp (show k < 2 ^ 31 by omega), hv]
  exact kk
end XR2
theorem nar_b : ∀ k, k < 128 → vp_nar .byte (nI k) = nI k := by decide +kernel
theorem nar_c : ∀ k, k < 256 → vp_nar .char (nI k) = nI k := by decide +kernel
theorem i2b_k : ∀ k, k < 128 → (nI k).toInt8.toInt32 = nI k := by decide +kernel
theorem i2c_k : ∀ k, k < 256 → ((nI k).toUInt32 % 65536).toInt32 = nI k := by decide +kernel

/-! THE PICTURE: a room as a table of numbers. r 0: kinds, r 1: figures, r 2: what each stands on, r 3: how it is, r 4: its air; r 5: 0 how many, 1 minute, 2 floor, 3 props -/
abbrev Rw : Type := Nat → Nat → Int32
def sf (r : Rw) (f : Nat) (g : Nat → Int32) : Rw := fun k => cond (Nat.beq k f) g (r k)
theorem sf_s (r : Rw) (f : Nat) (g : Nat → Int32) : sf r f g f = g := by simp [sf]
theorem sf_n (r : Rw) {f k : Nat} (g : Nat → Int32) (h : k ≠ f) : sf r f g k = r k := by
  have e : Nat.beq k f = false := by
    cases e : Nat.beq k f with
    | false => rfl
    | true => exact absurd (Nat.eq_of_beq_eq_true e) h
  unfold sf
  rw [e]
  rfl
def mny (r : Rw) : Nat := (r 5 0).toNatClampNeg
/-- what always holds of a room -/
def Ok (r : Rw) : Prop := (r 5 0 = nI (mny r) ∧ mny r ≤ 10) ∧ (r 5 2 = 0 ∨ r 5 2 = 1) ∧ (∀ t, t < mny r → (r 2 t = -9 ∨ ∃ j, j < t ∧ r 2 t = nI j)) ∧ (∀ t, t < mny r → ∃ c, c < 6 ∧ r 0 t = nI c) ∧ (∀ t, t < mny r → ∃ f, f ≤ 9 ∧ r 1 t = nI f)
theorem Ok.n {r : Rw} (h : Ok r) : r 5 0 = nI (mny r) := h.1.1
theorem Ok.le {r : Rw} (h : Ok r) : mny r ≤ 10 := h.1.2
theorem Ok.s3 {r : Rw} (h : Ok r) {g : Nat → Int32} : Ok (sf r 3 g) := h
theorem Ok.s4 {r : Rw} (h : Ok r) {g : Nat → Int32} : Ok (sf r 4 g) := h
theorem Ok.h1 {r : Rw} (h : Ok r) {v : Int32} : Ok (sf r 5 (upd (r 5) 1 v)) := h
theorem Ok.h3 {r : Rw} (h : Ok r) {v : Int32} : Ok (sf r 5 (upd (r 5) 3 v)) := h
/-- the kinds' row of a room object: a kind's address is ka of its number -/
def kOk (ka : Nat → Nat) (kd : Nat → Option Nat) (r : Rw) : Prop := (∀ t, t < mny r → kd t = some (ka (r 0 t).toNatClampNeg)) ∧ ∀ t y, t < 10 → kd t = some y → ∃ c, c < 6 ∧ y = ka c
theorem kOk.s3 {ka : Nat → Nat} {kd : Nat → Option Nat} {r : Rw} (h : kOk ka kd r) {g : Nat → Int32} : kOk ka kd (sf r 3 g) := h
theorem kOk.s4 {ka : Nat → Nat} {kd : Nat → Option Nat} {r : Rw} (h : kOk ka kd r) {g : Nat → Int32} : kOk ka kd (sf r 4 g) := h
theorem kOk.h1 {ka : Nat → Nat} {kd : Nat → Option Nat} {r : Rw} (h : kOk ka kd r) {v : Int32} : kOk ka kd (sf r 5 (upd (r 5) 1 v)) := h
theorem kOk.h3 {ka : Nat → Nat} {kd : Nat → Option Nat} {r : Rw} (h : kOk ka kd r) {v : Int32} : kOk ka kd (sf r 5 (upd (r 5) 3 v)) := h
def wR (G : xG) (a : Nat → Nat) (kd : Nat → Option Nat) (r : Rw) : va_W := [(a 0, .inr (7, [.int (r 5 0), .ref (a 1), .ref (a 2), .ref (a 3), .ref (a 4), .ref (a 5), .int (r 5 2), .int (r 5 1), .int (r 5 3)])), (a 1, .inl (G.2 3, 10, .inr (.inr (.inr (.inr kd))))), (a 2, .inl (G.2 0, 10, .inl (r 1))), (a 3, .inl (G.2 0, 10, .inl (r 2))), (a 4, .inl (G.2 0, 10, .inl (r 3))), (a 5, .inl (G.2 0, 10, .inl (r 4)))]
def wK (ka : Nat → Nat) : va_W := [(ka 0, .inr (1, [])), (ka 1, .inr (2, [])), (ka 2, .inr (3, [])), (ka 3, .inr (4, [])), (ka 4, .inr (5, [])), (ka 5, .inr (6, []))]
/-- the model's row of 54 ints -/
def row (r : Rw) : Nat → Int32 := fun j => if j < 4 then r 5 j else r ((j - 4) % 5) ((j - 4) / 5)
theorem row_at (r : Rw) {a w : Nat} (h : w < 5) : row r (4 + 5 * a + w) = r w a := by
  unfold row
  rw [if_neg (by omega), show (4 + 5 * a + w - 4) % 5 = w by omega, show (4 + 5 * a + w - 4) / 5 = a by omega]
theorem row_h (r : Rw) {j : Nat} (h : j < 4) : row r j = r 5 j := if_pos h
theorem row_up (r : Rw) {a w : Nat} (h : w < 5) (v : Int32) : upd (row r) (4 + 5 * a + w) v = row (sf r w (upd (r w) a v)) := by
  funext j
  unfold row
  by_cases hj : j = 4 + 5 * a + w
  · subst hj
    rw [pk_us, if_neg (by omega), show (4 + 5 * a + w - 4) % 5 = w by omega, show (4 + 5 * a + w - 4) / 5 = a by omega, sf_s, pk_us]
  · rw [pk_un hj]
    by_cases h4 : j < 4
    · rw [if_pos h4, if_pos h4, sf_n _ _ (by omega)]
    · rw [if_neg h4, if_neg h4]
      by_cases hw : (j - 4) % 5 = w
      · rw [hw, sf_s, pk_un (by omega)]
      · rw [sf_n _ _ hw]
theorem row_uph (r : Rw) {j : Nat} (h : j < 4) (v : Int32) : upd (row r) j v = row (sf r 5 (upd (r 5) j v)) := by
  funext i
  unfold row
  by_cases hj : i = j
  · subst hj
    rw [pk_us, if_pos h, sf_s, pk_us]
  · rw [pk_un hj]
    by_cases h4 : i < 4
    · rw [if_pos h4, if_pos h4, sf_s, pk_un hj]
    · rw [if_neg h4, if_neg h4, sf_n _ _ (by omega)]
/-! sets as ints -/
def bI (b : Bool) : Int32 := if b = true then 1 else 0
theorem bI_t : bI true = 1 := rfl
theorem bI_f : bI false = 0 := rfl
theorem bI_0 {b : Bool} : bI b = 0 ↔ b = false := by cases b <;> simp [bI]
theorem bI_n {b : Bool} : ¬ bI b = 0 ↔ b = true := by cases b <;> simp [bI]
theorem bI_z (b : Bool) : narrow .boolean (.int (bI b)) = .int (bI b) := by cases b <;> decide
def b1 (k : Nat) : Int32 := (1 : Int32) <<< (nI k &&& 31)
def hs (x : Int32) (k : Nat) : Bool := decide ((x >>> (nI k &&& 31)) &&& 1 = 1)
def bs (P : Nat → Bool) : Nat → Int32
  | 0 => 0
  | n + 1 => bs P n ||| (if P n = true then b1 n else 0)
theorem bs_t {P : Nat → Bool} {n : Nat} (h : P n = true) : bs P n ||| b1 n = bs P (n + 1) := by
  show _ = bs P n ||| (if P n = true then b1 n else 0)
  rw [if_pos h]
theorem bs_f {P : Nat → Bool} {n : Nat} (h : P n = false) : bs P n ||| 0 = bs P (n + 1) := by
  show _ = bs P n ||| (if P n = true then b1 n else 0)
  rw [if_neg (by rw [h]; decide)]
theorem bs_congr {P P' : Nat → Bool} : ∀ {n : Nat}, (∀ t, t < n → P t = P' t) → bs P n = bs P' n
  | 0, _ => rfl
  | n + 1, h => by
    show bs P n ||| (if P n = true then b1 n else 0) = bs P' n ||| (if P' n = true then b1 n else 0)
    rw [bs_congr (fun t ht => h t (by omega)), h n (by omega)]
def cn (P : Nat → Bool) : Nat → Nat
  | 0 => 0
  | n + 1 => cn P n + (if P n = true then 1 else 0)
theorem cn_t {P : Nat → Bool} {n : Nat} (h : P n = true) : cn P (n + 1) = cn P n + 1 := by
  show cn P n + (if P n = true then 1 else 0) = _
  rw [if_pos h]
theorem cn_f {P : Nat → Bool} {n : Nat} (h : P n = false) : cn P (n + 1) = cn P n := by
  show cn P n + (if P n = true then 1 else 0) = _
  rw [if_neg (by rw [h]; decide)]; omega
theorem cn_le (P : Nat → Bool) : ∀ n, cn P n ≤ n
  | 0 => Nat.le_refl 0
  | n + 1 => by
    show cn P n + (if P n = true then 1 else 0) ≤ _
    have := cn_le P n
    split <;> omega
theorem cn_congr {P P' : Nat → Bool} : ∀ {n : Nat}, (∀ t, t < n → P t = P' t) → cn P n = cn P' n
  | 0, _ => rfl
  | n + 1, h => by
    show cn P n + (if P n = true then 1 else 0) = cn P' n + (if P' n = true then 1 else 0)
    rw [cn_congr (fun t ht => h t (by omega)), h n (by omega)]
/-- the numbers behind the sets -/
def bn (P : Nat → Bool) : Nat → Nat
  | 0 => 0
  | n + 1 => bn P n + (if P n = true then 2 ^ n else 0)
theorem bn_lt (P : Nat → Bool) : ∀ n, bn P n < 2 ^ n
  | 0 => Nat.one_pos
  | n + 1 => by
    show bn P n + (if P n = true then 2 ^ n else 0) < _
    have h1 := bn_lt P n
    have h2 : 2 ^ (n + 1) = 2 ^ n + 2 ^ n := by rw [Nat.pow_succ]; omega
    split <;> omega
theorem b1_nI : ∀ n, n < 31 → b1 n = nI (2 ^ n) := by decide +kernel
theorem nI_or (a b : Nat) : nI a ||| nI b = nI (a ||| b) := by
  unfold nI
  apply Int32.toBitVec_inj.mp
  simp only [Int32.toBitVec_or]
  apply BitVec.eq_of_getLsbD_eq
  intro i hi
  simp
theorem or_pow {x n : Nat} (h : x < 2 ^ n) : x ||| 2 ^ n = x + 2 ^ n := by
  have h1 := Nat.two_pow_add_eq_or_of_lt h 1
  rw [Nat.mul_one] at h1
  rw [Nat.or_comm, ← h1, Nat.add_comm]
theorem bs_bn (P : Nat → Bool) : ∀ n, n ≤ 31 → bs P n = nI (bn P n)
  | 0, _ => rfl
  | n + 1, h => by
    show bs P n ||| (if P n = true then b1 n else 0) = nI (bn P n + (if P n = true then 2 ^ n else 0))
    rw [bs_bn P n (by omega)]
    split
    · rw [b1_nI n (by omega), nI_or, or_pow (bn_lt P n)]
    · show nI (bn P n) ||| nI 0 = _
      rw [nI_or, Nat.or_zero, Nat.add_zero]
theorem bn_bit (P : Nat → Bool) : ∀ n k, (bn P n).testBit k = (decide (k < n) && P k)
  | 0, k => by simp [bn]
  | n + 1, k => by
    show (bn P n + (if P n = true then 2 ^ n else 0)).testBit k = _
    have ih := bn_bit P n k
    have h1 := bn_lt P n
    by_cases hP : P n = true
    · rw [if_pos hP, ← or_pow h1, Nat.testBit_or, ih, Nat.testBit_two_pow]
      by_cases hk : k = n
      · subst hk; simp [hP]
      · have : (n = k) = False := by simp; omega
        simp only [this, decide_false, Bool.or_false]
        congr 1
        simp only [decide_eq_decide]
        omega
    · rw [if_neg hP, Nat.add_zero, ih]
      by_cases hk : k = n
      · subst hk; simp [hP]
      · congr 1
        simp only [decide_eq_decide]
        omega
theorem s_k : ∀ n, n < 32 → ((nI n &&& 31).toBitVec.smod 32).toNat = n := by decide +kernel
theorem sh_nI {a k : Nat} (ha : a < 2 ^ 31) (hk : k < 32) : nI a >>> (nI k &&& 31) = nI (a / 2 ^ k) := pk_shrN ha _ k (s_k k hk)
theorem nI_and (a b : Nat) : nI a &&& nI b = nI (a &&& b) := by
  unfold nI
  apply Int32.toBitVec_inj.mp
  simp only [Int32.toBitVec_and]
  apply BitVec.eq_of_getLsbD_eq
  intro i hi
  simp
theorem hs_nI {a k : Nat} (ha : a < 2 ^ 31) (hk : k < 32) : hs (nI a) k = a.testBit k := by
  unfold hs
  rw [sh_nI ha hk, show (1 : Int32) = nI 1 from rfl, nI_and, Nat.and_one_is_mod, Nat.testBit_eq_decide_div_mod_eq]
  have h1 : a / 2 ^ k % 2 < 2 ^ 31 := by omega
  simp only [decide_eq_decide]
  exact nI_eq h1 (by omega)
theorem hs_bs {P : Nat → Bool} {n k : Nat} (hn : n ≤ 30) (hk : k < 32) : hs (bs P n) k = (decide (k < n) && P k) := by
  have h1 := bn_lt P n
  have h2 : 2 ^ n ≤ 2 ^ 30 := Nat.pow_le_pow_right (by omega) hn
  rw [bs_bn P n (by omega), hs_nI (by omega) hk, bn_bit]
theorem bs_0 {P : Nat → Bool} {n : Nat} (hn : n ≤ 30) : bs P n = 0 ↔ ∀ t, t < n → P t = false := by
  have h1 := bn_lt P n
  have h2 : 2 ^ n ≤ 2 ^ 30 := Nat.pow_le_pow_right (by omega) hn
  rw [bs_bn P n (by omega), show (0 : Int32) = nI 0 from rfl, nI_eq (by omega) (by omega)]
  constructor
  · intro h t ht
    have := bn_bit P n t
    rw [h] at this
    simpa [ht] using this.symm
  · intro h
    apply Nat.eq_of_testBit_eq
    intro i
    rw [bn_bit]
    by_cases hi : i < n
    · simp [h i hi]
    · simp [hi]
theorem hs_0 (k : Nat) (hk : k < 32) : hs 0 k = false := by
  have := hs_nI (a := 0) (by omega) hk
  rw [show (0 : Int32) = nI 0 from rfl, this]
  simp
/-! what a room's methods answer -/
def pSt (r : Rw) (t : Nat) : Bool := decide (r 3 t = 0)
def pHow (r : Rw) (h : Int32) (t : Nat) : Bool := decide (r 3 t = h)
def pSet (r : Rw) (h : Int32) : Int32 := bs (pHow r h) (mny r)
def pHu (r : Rw) (t : Nat) : Bool := if r 2 t = -9 then decide (r 5 2 = 1) else pSt r (r 2 t).toNatClampNeg
def pHl (r : Rw) (t : Nat) : Bool := hs (r 5 3) t || pHu r t
def pGrip (k f : Int32) : Int32 := if k = 1 then 9 - f else if k = 2 ∨ k = 4 then f / 2 else if k = 3 then 0 else if k = 5 then 10 - f else f
def pHabit (k f : Int32) (b : Bool) : Int32 := if k = 1 then (if f / 3 - 1 < 0 then 0 else f / 3 - 1) else if k = 2 then f / 3 + f else if k = 3 then f / 3 + f + 20 else if k = 4 then (if b = true then 0 else f / 3 + f) else if k = 5 then (if f / 3 - 1 < 0 then 0 else f / 3 - 1) + 2 else f / 3
def pShk (r : Rw) (u sp : Int32) (t : Nat) : Bool := pSt r t && decide (r 2 t = u) && decide (sp < pGrip (r 0 t) (r 1 t))
def pFallTo (r : Rw) (u sp : Int32) (i : Nat) : Rw := sf r 3 (fun t => if (decide (t < i) && pShk r u sp t) = true then 1 else r 3 t)
def pFall (r : Rw) (u sp : Int32) : Rw := pFallTo r u sp (mny r)
def pFallN (r : Rw) (u sp : Int32) : Int32 := nI (cn (pShk r u sp) (mny r))
def pGone (r : Rw) (t : Nat) : Rw := sf r 3 (upd (r 3) t 2)
def pPull (r : Rw) (t : Nat) (sp : Int32) : Rw := pFall (pGone r t) (nI t) sp
def pPullN (r : Rw) (t : Nat) (sp : Int32) : Int32 := pFallN (pGone r t) (nI t) sp
def pNoFl (r : Rw) : Rw := sf r 5 (upd (r 5) 2 0)
def pPullF (r : Rw) (sp : Int32) : Rw := pFall (pNoFl r) (-9) sp
def pPullFN (r : Rw) (sp : Int32) : Int32 := pFallN (pNoFl r) (-9) sp
def pSetUp (r : Rw) (t : Nat) : Rw := sf (sf r 3 (upd (r 3) t 0)) 4 (upd (r 4) t 0)
def pLie (r : Rw) : Bool := decide (pSet r 1 ≠ 0)
def pAir (r : Rw) (d : Int32) (t : Nat) : Int32 := if pSt r t = true then (if pHl r t = true then 0 else r 4 t + 1 + d) else r 4 t
def pDrop (r : Rw) (d : Int32) (t : Nat) : Bool := pSt r t && decide (pHabit (r 0 t) (r 1 t) (pLie r) < pAir r d t)
def pMin (r : Rw) (d : Int32) : Rw := sf (sf (sf r 5 (upd (r 5) 1 (r 5 1 + 1))) 4 (fun t => if t < mny r then pAir r d t else r 4 t)) 3 (fun t => if (decide (t < mny r) && pDrop r d t) = true then 1 else r 3 t)
def pMins (r : Rw) : Nat → Rw
  | 0 => r
  | n + 1 => pMin (pMins r n) 0
def pStN (r : Rw) : Int32 := nI (cn (pHow r 0) (mny r))

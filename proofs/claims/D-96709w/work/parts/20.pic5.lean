/-! what the methods in mind answer -/
def pFallIn (r : Rw) (t : Nat) : Nat := fs (fun n => decide (pMins r n 3 t = 1)) 100
def pNow (r : Rw) (n t : Nat) : Bool := pHow (pMins r n) 1 t && pHow r 0 t
def pFFn (r : Rw) : Nat := fs (fun n => decide (fs (pNow r n) (mny r) < mny r)) 100
def pFF (r : Rw) (w : Int32) : Int32 := if pFFn r < 100 then (if w = 0 then nI (fs (pNow r (pFFn r)) (mny r)) else nI (pFFn r)) else -9
theorem bs_now (r : Rw) (n : Nat) (h : mny r ≤ 10) : pSet (pMins r n) 1 &&& pSet r 0 = bs (pNow r n) (mny r) := by
  unfold pSet
  rw [pMins_n, bs_and _ _ (by omega)]
  rfl
theorem pNow_0 (r : Rw) (t : Nat) : pNow r 0 t = false := by
  show (decide (r 3 t = 1) && decide (r 3 t = 0)) = false
  by_cases h : r 3 t = 1
  · rw [h]; rfl
  · simp [h]
theorem pFF_none {r : Rw} {w : Int32} (h : ∀ j, j ≤ 99 → ¬ fs (pNow r j) (mny r) < mny r) : -9 = pFF r w := by
  have e : pFFn r = 100 := fs_eq (Nat.le_refl _) (fun j hj => decide_eq_false (h j (by omega))) (fun q => absurd q (by omega))
  unfold pFF
  rw [e, if_neg (by omega)]
theorem pFF_at {r : Rw} {n t : Nat} (h : ∀ j, j < n → ¬ fs (pNow r j) (mny r) < mny r) (hn : n < 100) (ht : t < mny r) (h1 : ∀ j, j < t → pNow r n j = false) (h2 : pNow r n t = true) : pFFn r = n ∧ fs (pNow r n) (mny r) = t := by
  have e : fs (pNow r n) (mny r) = t := fs_eq (by omega) h1 (fun _ => h2)
  exact ⟨fs_eq (by omega) (fun j hj => decide_eq_false (h j hj)) (fun _ => decide_eq_true (by rw [e]; exact ht)), e⟩
def pSF (r : Rw) : Int32 := nI (pFFn r - 1)
theorem pFFn_1 (r : Rw) : 1 ≤ pFFn r := by
  obtain ⟨a1, a2⟩ := fs_spec (fun n => decide (fs (pNow r n) (mny r) < mny r)) 100
  rcases Nat.eq_zero_or_pos (pFFn r) with h | h
  · exfalso
    unfold pFFn at h
    have h1 := of_decide_eq_true (a2 (by omega))
    rw [h] at h1
    have h2 := (fs_spec (pNow r 0) (mny r)).2 h1
    rw [pNow_0] at h2
    cases h2
  · exact h
theorem pFFn_le (r : Rw) : pFFn r ≤ 100 := fs_le _ _
theorem pSF_99 {r : Rw} (h : pFF r 1 = -9) : 99 = pSF r := by
  unfold pFF at h
  have h1 := pFFn_le r
  split at h
  · rw [if_neg (by decide)] at h
    exact absurd h (m9_ne (by omega))
  · unfold pSF
    rw [show pFFn r = 100 by omega]
    rfl
theorem pSF_n {r : Rw} (h : ¬ pFF r 1 = -9) : pFF r 1 - 1 = pSF r := by
  unfold pFF at h ⊢
  have h1 := pFFn_1 r
  split
  · rw [if_neg (by decide)]
    exact pk_sub (b := 1) h1
  · rename_i q
    rw [if_neg q] at h
    exact absurd rfl h
def pSlN (r : Rw) (t : Nat) : Nat := fs (fun v => decide (pPullN r t (nI v) = 0)) 10
def pSlow (r : Rw) (t : Nat) : Int32 := if pSlN r t < 10 then nI (pSlN r t) else -9
theorem pSlow_at {r : Rw} {t v : Nat} (hv : v < 10) (h : ∀ j, j < v → ¬ pPullN r t (nI j) = 0) (h2 : pPullN r t (nI v) = 0) : nI v = pSlow r t := by
  have e : pSlN r t = v := fs_eq (by omega) (fun j hj => decide_eq_false (h j hj)) (fun _ => decide_eq_true h2)
  unfold pSlow
  rw [e, if_pos hv]
theorem pSlow_no {r : Rw} {t : Nat} (h : ∀ j, j < 10 → ¬ pPullN r t (nI j) = 0) : -9 = pSlow r t := by
  have e : pSlN r t = 10 := fs_eq (by omega) (fun j hj => decide_eq_false (h j hj)) (fun q => absurd q (by omega))
  unfold pSlow
  rw [e, if_neg (by omega)]
def pFB (r : Rw) (t : Nat) (sp : Int32) : Int32 := pSet (pPull r t sp) 1 &&& (pSet r 1 ^^^ -1)
def pFL (r : Rw) (t : Nat) (sp : Int32) (n : Nat) : Int32 := pSet (pMins (pPull r t sp) n) 1 &&& (pSet (pMins r n) 1 ^^^ -1) &&& (pFB r t sp ^^^ -1)
/-! some pulled one behind the other -/
def pPS (r : Rw) (x : Int32) : Nat → Option Rw
  | 0 => some r
  | n + 1 => match pPS r x n with
    | none => none
    | some q => if hs x n = true then (if pSt q n = true then some (pPull q n 9) else none) else some q
theorem pPS_s {r q : Rw} {x : Int32} {n : Nat} (h : pPS r x n = some q) : pPS r x (n + 1) = if hs x n = true then (if pSt q n = true then some (pPull q n 9) else none) else some q := by
  show (match pPS r x n with
    | none => none
    | some q => if hs x n = true then (if pSt q n = true then some (pPull q n 9) else none) else some q) = _
  rw [h]
theorem pPS_n {r : Rw} {x : Int32} {n : Nat} (h : pPS r x n = none) : ∀ k, pPS r x (n + k) = none
  | 0 => h
  | k + 1 => by
    have ih := pPS_n h k
    show (match pPS r x (n + k) with
      | none => none
      | some q => if hs x (n + k) = true then (if pSt q (n + k) = true then some (pPull q (n + k) 9) else none) else some q) = none
    rw [ih]
def pEn (r : Rw) (x : Int32) (t n : Nat) : Bool := match pPS r x (mny r) with
  | none => false
  | some q => pSt (pMins q n) t
theorem pEn_s {r q : Rw} {x : Int32} {t n : Nat} (h : pPS r x (mny r) = some q) : pEn r x t n = pSt (pMins q n) t := by
  unfold pEn
  rw [h]
theorem pEn_f {r q : Rw} {x : Int32} {t n i : Nat} (h : pPS r x i = some q) (hi : i < mny r) (h1 : hs x i = true) (h2 : pSt q i = false) : pEn r x t n = false := by
  have e : pPS r x (i + 1) = none := by rw [pPS_s h, if_pos h1, if_neg (by rw [h2]; decide)]
  have e2 := pPS_n e (mny r - (i + 1))
  rw [show i + 1 + (mny r - (i + 1)) = mny r by omega] at e2
  unfold pEn
  rw [e2]
/-! the best of some sets -/
def IsB (w : Nat → Nat) (P : Nat → Bool) (S : Nat → Prop) : Option Nat → Prop
  | none => ∀ k, S k → P k = false
  | some x => S x ∧ P x = true ∧ ∀ k, S k → P k = true → w k < w x ∨ (w k = w x ∧ x ≤ k)
theorem IsB.uniq {w : Nat → Nat} {P : Nat → Bool} {S : Nat → Prop} : ∀ {a b : Option Nat}, IsB w P S a → IsB w P S b → a = b
  | none, none, _, _ => rfl
  | none, some y, h1, h2 => by have h3 := h2.2.1; rw [h1 y h2.1] at h3; cases h3
  | some x, none, h1, h2 => by have h3 := h1.2.1; rw [h2 x h1.1] at h3; cases h3
  | some x, some y, h1, h2 => by
    have a1 := h1.2.2 y h2.1 h2.2.1
    have a2 := h2.2.2 x h1.1 h1.2.1
    congr 1
    omega
theorem IsB.congr {w : Nat → Nat} {P P' : Nat → Bool} {S S' : Nat → Prop} (h : ∀ k, (S k ∧ P k = true) ↔ (S' k ∧ P' k = true)) : ∀ {a : Option Nat}, IsB w P S a → IsB w P' S' a
  | none, h1 => fun k hk => by
    cases e : P' k with
    | false => rfl
    | true => obtain ⟨b1, b2⟩ := (h k).mpr ⟨hk, e⟩; rw [h1 k b1] at b2; cases b2
  | some x, h1 => by
    obtain ⟨b1, b2⟩ := (h x).mp ⟨h1.1, h1.2.1⟩
    refine ⟨b1, b2, fun k hk hp => ?_⟩
    obtain ⟨c1, c2⟩ := (h k).mpr ⟨hk, hp⟩
    exact h1.2.2 k c1 c2
/-- the best in going up -/
def bst (w : Nat → Nat) (P : Nat → Bool) : Nat → Option Nat
  | 0 => none
  | n + 1 => match bst w P n with
    | none => if P n = true then some n else none
    | some x => if P n = true ∧ w x < w n then some n else some x
theorem bst_lt {w : Nat → Nat} {P : Nat → Bool} : ∀ {n x : Nat}, bst w P n = some x → x < n
  | 0, x, h => by cases h
  | n + 1, x, h => by
    have h' : (match bst w P n with
      | none => if P n = true then some n else none
      | some x => if P n = true ∧ w x < w n then some n else some x) = some x := h
    cases e : bst w P n with
    | none =>
      rw [e] at h'
      by_cases q : P n = true
      · have h' : (if P n = true then some n else none) = some x := h'
        rw [if_pos q] at h'; cases h'; omega
      · have h' : (if P n = true then some n else none) = some x := h'
        rw [if_neg q] at h'; cases h'
    | some y =>
      rw [e] at h'
      have ih := bst_lt e
      have h' : (if P n = true ∧ w y < w n then some n else some y) = some x := h'
      by_cases q : P n = true ∧ w y < w n
      · rw [if_pos q] at h'; cases h'; omega
      · rw [if_neg q] at h'; cases h'; omega
theorem bst_is (w : Nat → Nat) (P : Nat → Bool) : ∀ n, IsB w P (fun k => k < n) (bst w P n)
  | 0 => fun k hk => absurd hk (Nat.not_lt_zero k)
  | n + 1 => by
    have ih := bst_is w P n
    show IsB w P (fun k => k < n + 1) (match bst w P n with
      | none => if P n = true then some n else none
      | some x => if P n = true ∧ w x < w n then some n else some x)
    cases e : bst w P n with
    | none =>
      rw [e] at ih
      show IsB w P (fun k => k < n + 1) (if P n = true then some n else none)
      by_cases q : P n = true
      · rw [if_pos q]
        refine ⟨by show n < n + 1; omega, q, fun k hk hp => ?_⟩
        have hk : k < n + 1 := hk
        by_cases hkn : k = n
        · subst hkn; exact Or.inr ⟨rfl, Nat.le_refl _⟩
        · rw [ih k (by show k < n; omega)] at hp; cases hp
      · rw [if_neg q]
        intro k hk
        have hk : k < n + 1 := hk
        by_cases hkn : k = n
        · subst hkn; simpa using q
        · exact ih k (by show k < n; omega)
    | some x =>
      rw [e] at ih
      obtain ⟨i1, i2, i3⟩ := ih
      have i1 : x < n := i1
      show IsB w P (fun k => k < n + 1) (if P n = true ∧ w x < w n then some n else some x)
      by_cases q : P n = true ∧ w x < w n
      · rw [if_pos q]
        refine ⟨by show n < n + 1; omega, q.1, fun k hk hp => ?_⟩
        have hk : k < n + 1 := hk
        by_cases hkn : k = n
        · subst hkn; exact Or.inr ⟨rfl, Nat.le_refl _⟩
        · have := i3 k (by show k < n; omega) hp
          omega
      · rw [if_neg q]
        refine ⟨by show x < n + 1; omega, i2, fun k hk hp => ?_⟩
        have hk : k < n + 1 := hk
        by_cases hkn : k = n
        · subst hkn
          have : ¬ w x < w k := fun z => q ⟨hp, z⟩
          omega
        · exact i3 k (by show k < n; omega) hp
/-- going down -/
theorem IsB.down {w : Nat → Nat} {P : Nat → Bool} {k O : Nat} (hk : k ≤ O) : ∀ {b : Option Nat}, IsB w P (fun j => k + 1 ≤ j ∧ j ≤ O) b → ∀ {b' : Option Nat}, (b' = (if P k = true ∧ (∀ x, b = some x → w x ≤ w k) then some k else b)) → IsB w P (fun j => k ≤ j ∧ j ≤ O) b'
  | none, h, b', e => by
    by_cases q : P k = true
    · rw [if_pos ⟨q, fun x hx => by cases hx⟩] at e
      subst e
      refine ⟨⟨Nat.le_refl _, hk⟩, q, fun j hj hp => ?_⟩
      have hj : k ≤ j ∧ j ≤ O := hj
      by_cases hjk : j = k
      · subst hjk; exact Or.inr ⟨rfl, Nat.le_refl _⟩
      · rw [h j ⟨by omega, hj.2⟩] at hp; cases hp
    · rw [if_neg (fun z => q z.1)] at e
      subst e
      intro j hj
      have hj : k ≤ j ∧ j ≤ O := hj
      by_cases hjk : j = k
      · subst hjk; simpa using q
      · exact h j ⟨by omega, hj.2⟩
  | some x, h, b', e => by
    obtain ⟨i1, i2, i3⟩ := h
    have i1 : k + 1 ≤ x ∧ x ≤ O := i1
    by_cases q : P k = true ∧ (∀ y, some x = some y → w y ≤ w k)
    · rw [if_pos q] at e
      subst e
      have q2 := q.2 x rfl
      refine ⟨⟨Nat.le_refl _, hk⟩, q.1, fun j hj hp => ?_⟩
      have hj : k ≤ j ∧ j ≤ O := hj
      by_cases hjk : j = k
      · subst hjk; exact Or.inr ⟨rfl, Nat.le_refl _⟩
      · have := i3 j ⟨by omega, hj.2⟩ hp
        omega
    · rw [if_neg q] at e
      subst e
      refine ⟨⟨by omega, i1.2⟩, i2, fun j hj hp => ?_⟩
      have hj : k ≤ j ∧ j ≤ O := hj
      by_cases hjk : j = k
      · subst hjk
        have : ¬ w x ≤ w j := fun z => q ⟨hp, fun y hy => by cases hy; exact z⟩
        omega
      · exact i3 j ⟨by omega, hj.2⟩ hp
def enc : Option Nat → Int32
  | none => -9
  | some x => nI x
theorem xor_m1 (x : Int32) : x ^^^ -1 = ~~~x := by
  apply Int32.toBitVec_inj.mp
  simp only [Int32.toBitVec_xor, Int32.toBitVec_not]
  show x.toBitVec ^^^ (-1 : Int32).toBitVec = _
  have e : (-1 : Int32).toBitVec = BitVec.allOnes 32 := by decide
  rw [e, BitVec.xor_allOnes]
theorem and_not {a b : Nat} (ha : a < 1024) : nI a &&& (nI b ^^^ -1) = nI (a &&& (1023 ^^^ b)) := by
  rw [xor_m1]
  unfold nI
  apply Int32.toBitVec_inj.mp
  simp only [Int32.toBitVec_and, Int32.toBitVec_not]
  apply BitVec.eq_of_getLsbD_eq
  intro i hi
  simp only [BitVec.getLsbD_and, BitVec.getLsbD_not, Int32.toBitVec_ofNat', BitVec.getLsbD_ofNat, Nat.testBit_and, Nat.testBit_xor, hi, decide_true, Bool.true_and]
  by_cases h10 : i < 10
  · have e : Nat.testBit 1023 i = true := by
      have := Nat.testBit_two_pow_sub_one 10 i
      simpa [h10] using this
    rw [e]
    simp
  · have e : a.testBit i = false := Nat.testBit_lt_two_pow (Nat.lt_of_lt_of_le ha (Nat.pow_le_pow_right (n := 2) (i := 10) (by omega) (by omega)))
    rw [e]
    simp
/-- whether a set lies in another -/
def sub (a b : Nat) : Bool := decide (a &&& (1023 ^^^ b) = 0)
theorem sub_i {a b : Nat} (ha : a < 1024) : nI a &&& (nI b ^^^ -1) = 0 ↔ sub a b = true := by
  rw [and_not ha]
  unfold sub
  rw [show (0 : Int32) = nI 0 from rfl, nI_eq (by have := Nat.and_le_left (n := a) (m := 1023 ^^^ b); omega) (by omega)]
  simp
theorem x_dec (j : Nat) : nI j + Int32.ofInt (-1) = nI j - 1 := by
  have e : Int32.ofInt (-1) = -1 := by decide
  rw [e, Int32.sub_eq_add_neg]
theorem nI_prd (j : Nat) : nI (j + 1) - 1 = nI j := pk_sub (b := 1) (by omega)
theorem m1_neg : nI 0 - 1 < 0 := by decide
theorem nI_nn {j : Nat} (h : j < 2 ^ 31) : ¬ nI j < 0 := by
  intro q
  have := (nI_ltI h (show 0 < 2 ^ 31 by omega)).mp q
  omega
theorem k_zero {k : Nat} (hk : k < 2 ^ 31) (h : nI k - 1 < 0) : k = 0 := by
  rcases Nat.eq_zero_or_pos k with e | e
  · exact e
  · exfalso
    obtain ⟨j, rfl⟩ : ∃ j, k = j + 1 := ⟨k - 1, by omega⟩
    rw [nI_prd] at h
    exact nI_nn (by omega) h
theorem k_succ {k : Nat} (h : ¬ nI k - 1 < 0) : ∃ j, k = j + 1 := by
  rcases Nat.eq_zero_or_pos k with e | e
  · subst e; exact absurd m1_neg h
  · exact ⟨k - 1, by omega⟩

/-! keys, the most that can be pulled, props, orders, what lies, rebuilding, two: what they answer -/
theorem x_dropP {D : va_G} {cl : List vw_C} {w1 w2 : va_W} {H : Heap} (h : va_P D cl (w1 ++ w2) H) : va_P D cl w1 H := fun k q hk => h k q (by
  rw [List.getElem?_append_left]
  · exact hk
  · exact (List.getElem?_eq_some_iff.mp hk).1)
theorem x_dropD {A : Nat → Prop} {w1 w2 : va_W} (h : va_D A (w1 ++ w2)) : va_D A w1 := by
  have e : ∀ (k : Nat) (q : Nat × va_E), w1[k]? = some q → (w1 ++ w2)[k]? = some q := fun k q hk => by
    rw [List.getElem?_append_left]
    · exact hk
    · exact (List.getElem?_eq_some_iff.mp hk).1
  exact ⟨fun i j p q hp hq => h.1 i j p q (e _ _ hp) (e _ _ hq), fun k q hk => h.2 k q (e _ _ hk)⟩
def pKyV (r : Rw) (n i : Nat) : Int32 := pStN (pMins (pPull r i 9) n)
def pKy (r : Rw) (n : Nat) : Nat → Int32 × Int32
  | 0 => (-9, 11)
  | i + 1 => if pSt r i = true then ((if pKyV r n i < (pKy r n i).2 then nI i else (pKy r n i).1), (if pKyV r n i < (pKy r n i).2 then pKyV r n i else (pKy r n i).2)) else pKy r n i
theorem pKy_n {r : Rw} {n i : Nat} (h : pSt r i = false) : pKy r n (i + 1) = pKy r n i := if_neg (by rw [h]; decide)
theorem pKy_y {r : Rw} {n i : Nat} (h : pSt r i = true) : pKy r n (i + 1) = ((if pKyV r n i < (pKy r n i).2 then nI i else (pKy r n i).1), (if pKyV r n i < (pKy r n i).2 then pKyV r n i else (pKy r n i).2)) := if_pos h
theorem pKy_1 {r : Rw} {n i : Nat} (h : pSt r i = true) : (pKy r n (i + 1)).1 = (if pKyV r n i < (pKy r n i).2 then nI i else (pKy r n i).1) := by rw [pKy_y h]
theorem pKy_2 {r : Rw} {n i : Nat} (h : pSt r i = true) : (pKy r n (i + 1)).2 = (if pKyV r n i < (pKy r n i).2 then pKyV r n i else (pKy r n i).2) := by rw [pKy_y h]
/-! sets below others -/
theorem t1023 {i : Nat} (h : i < 10) : Nat.testBit 1023 i = true := by
  have := Nat.testBit_two_pow_sub_one 10 i
  simpa [h] using this
theorem tb_hi {a i : Nat} (ha : a < 1024) (h : ¬ i < 10) : a.testBit i = false := Nat.testBit_lt_two_pow (Nat.lt_of_lt_of_le ha (Nat.pow_le_pow_right (n := 2) (i := 10) (by omega) (by omega)))
theorem sub_iff {a b : Nat} (ha : a < 1024) : sub a b = true ↔ ∀ i, a.testBit i = true → b.testBit i = true := by
  unfold sub
  rw [decide_eq_true_iff]
  constructor
  · intro h i hi
    have h1 := congrArg (fun x => x.testBit i) h
    simp only [Nat.testBit_and, Nat.testBit_xor, Nat.zero_testBit, hi, Bool.true_and] at h1
    by_cases h10 : i < 10
    · rw [t1023 h10] at h1; simpa using h1
    · rw [tb_hi ha h10] at hi; cases hi
  · intro h
    apply Nat.eq_of_testBit_eq
    intro i
    rw [Nat.testBit_and, Nat.testBit_xor, Nat.zero_testBit]
    cases e : a.testBit i with
    | false => rfl
    | true =>
      rw [h i e]
      by_cases h10 : i < 10
      · rw [t1023 h10]; rfl
      · rw [tb_hi ha h10] at e; cases e
theorem sub_le {a b : Nat} (ha : a < 1024) (h : sub a b = true) : a ≤ b := by
  have h1 := (sub_iff ha).mp h
  have e : a &&& b = a := by
    apply Nat.eq_of_testBit_eq
    intro i
    rw [Nat.testBit_and]
    cases e : a.testBit i with
    | false => rfl
    | true => rw [h1 i e]; rfl
  rw [← e]
  exact Nat.and_le_right
theorem cn_mono {P P' : Nat → Bool} : ∀ n, (∀ t, t < n → P t = true → P' t = true) → cn P n ≤ cn P' n
  | 0, _ => Nat.le_refl 0
  | n + 1, h => by
    have ih := cn_mono n (fun t ht => h t (by omega))
    show cn P n + (if P n = true then 1 else 0) ≤ cn P' n + (if P' n = true then 1 else 0)
    by_cases hP : P n = true
    · rw [if_pos hP, if_pos (h n (by omega) hP)]; omega
    · rw [if_neg hP]; omega
theorem cn_smono {P P' : Nat → Bool} : ∀ n, (∀ t, t < n → P t = true → P' t = true) → (∃ t, t < n ∧ P t = false ∧ P' t = true) → cn P n < cn P' n
  | 0, _, ⟨t, ht, _⟩ => absurd ht (Nat.not_lt_zero t)
  | n + 1, h, ⟨t, ht, h1, h2⟩ => by
    have ih := cn_mono n (fun t ht => h t (by omega))
    show cn P n + (if P n = true then 1 else 0) < cn P' n + (if P' n = true then 1 else 0)
    by_cases htn : t = n
    · subst htn
      rw [if_neg (by rw [h1]; decide), if_pos h2]
      omega
    · have ih2 := cn_smono n (fun t ht => h t (by omega)) ⟨t, by omega, h1, h2⟩
      by_cases hP : P n = true
      · rw [if_pos hP, if_pos (h n (by omega) hP)]; omega
      · rw [if_neg hP]; omega
theorem pc_sub {a b : Nat} (ha : a < 1024) (h : sub a b = true) : pc a ≤ pc b := cn_mono 10 (fun t _ hp => (sub_iff ha).mp h t hp)
theorem pc_ssub {a b : Nat} (ha : a < 1024) (hb : b < 1024) (h : sub a b = true) (hne : a ≠ b) : pc a < pc b := by
  have h1 := (sub_iff ha).mp h
  refine cn_smono 10 (fun t _ hp => h1 t hp) ?_
  apply Classical.byContradiction
  intro hn
  apply hne
  apply Nat.eq_of_testBit_eq
  intro i
  by_cases h10 : i < 10
  · cases e : a.testBit i with
    | true => rw [h1 i e]
    | false =>
      cases e2 : b.testBit i with
      | false => rfl
      | true => exact absurd ⟨i, h10, e, e2⟩ hn
  · rw [tb_hi ha h10, tb_hi hb h10]
/-- those that stand, but one -/
def pOth (r : Rw) (t : Nat) : Nat := bn (pHow r 0) (mny r) &&& (1023 ^^^ 2 ^ t)
theorem pOth_lt {r : Rw} {t : Nat} (h : mny r ≤ 10) : pOth r t < 1024 := Nat.lt_of_le_of_lt Nat.and_le_left (bn_1024 h)
theorem pOth_i {r : Rw} {t : Nat} (h : mny r ≤ 10) (ht : t < 31) : nI (bn (pHow r 0) (mny r)) &&& (b1 t ^^^ -1) = nI (pOth r t) := by
  rw [b1_nI t ht]
  exact and_not (bn_1024 h)
theorem pOth_bit {r : Rw} {t i : Nat} (h : mny r ≤ 10) : (pOth r t).testBit i = (decide (i < mny r) && pHow r 0 i && !decide (i = t)) := by
  unfold pOth
  rw [Nat.testBit_and, Nat.testBit_xor, bn_bit, Nat.testBit_two_pow]
  by_cases h10 : i < 10
  · rw [t1023 h10]
    by_cases e : t = i
    · subst e; simp
    · have e' : ¬ i = t := fun q => e q.symm
      simp [e, e']
  · have : ¬ i < mny r := by omega
    simp [this]
theorem pPull_3 {r : Rw} {n i : Nat} {sp : Int32} (h : pPull r n sp 3 i = 0) : i ≠ n ∧ r 3 i = 0 := by
  have h1 : (if (decide (i < mny r) && pShk (pGone r n) (nI n) sp i) = true then (1 : Int32) else upd (r 3) n 2 i) = 0 := h
  split at h1
  · exact absurd h1 (by decide)
  · by_cases e : i = n
    · subst e; rw [pk_us] at h1; exact absurd h1 (by decide)
    · rw [pk_un e] at h1; exact ⟨e, h1⟩
/-- what can be pulled stood; what stands stood -/
theorem pPS_all {r : Rw} {x : Int32} : ∀ (n : Nat) (q : Rw), pPS r x n = some q → (∀ i, i < n → hs x i = true → r 3 i = 0) ∧ (∀ i, q 3 i = 0 → r 3 i = 0 ∧ (i < n → hs x i = false))
  | 0, q, h => by
    have e : r = q := Option.some.inj h
    subst e
    exact ⟨fun i hi => absurd hi (Nat.not_lt_zero i), fun i hi => ⟨hi, fun z => absurd z (Nat.not_lt_zero i)⟩⟩
  | n + 1, q, h => by
    cases e : pPS r x n with
    | none =>
      have := pPS_n e 1
      rw [this] at h; cases h
    | some q0 =>
      obtain ⟨a1, a2⟩ := pPS_all n q0 e
      rw [pPS_s e] at h
      by_cases hx : hs x n = true
      · rw [if_pos hx] at h
        by_cases hq : pSt q0 n = true
        · rw [if_pos hq] at h
          have e2 := Option.some.inj h
          subst e2
          have hq0 : q0 3 n = 0 := of_decide_eq_true hq
          refine ⟨fun i hi hxi => ?_, fun i hi => ?_⟩
          · by_cases hin : i = n
            · subst hin; exact (a2 i hq0).1
            · exact a1 i (by omega) hxi
          · obtain ⟨b1, b2⟩ := pPull_3 hi
            exact ⟨(a2 i b2).1, fun z => (a2 i b2).2 (by omega)⟩
        · rw [if_neg hq] at h; cases h
      · rw [if_neg hx] at h
        have e2 := Option.some.inj h
        subst e2
        have hx0 : hs x n = false := by simpa using hx
        refine ⟨fun i hi hxi => ?_, fun i hi => ⟨(a2 i hi).1, fun z => ?_⟩⟩
        · by_cases hin : i = n
          · subst hin; rw [hx0] at hxi; cases hxi
          · exact a1 i (by omega) hxi
        · by_cases hin : i = n
          · subst hin; exact hx0
          · exact (a2 i hi).2 (by omega)
def pMoP (r : Rw) (t n : Nat) (k : Nat) : Bool := pEn r (nI k) t n && !k.testBit t
def pMo (r : Rw) (t n : Nat) : Option Nat := bst pc (pMoP r t n) (2 ^ mny r)
def moA (w : Int32) : Option Nat → Int32
  | none => -9
  | some x => if w = 1 then nI x else nI (pc x)
def pMost (r : Rw) (t n : Nat) (w : Int32) : Int32 := moA w (pMo r t n)
def pMoC (r : Rw) (t n : Nat) (k : Nat) : Bool := sub k (pOth r t) && pEn r (nI k) t n
theorem pMo_eq {r : Rw} {t n : Nat} {b : Option Nat} (hN : mny r ≤ 10) (ht : t < mny r) (h : IsB pc (pMoC r t n) (fun j => 0 ≤ j ∧ j ≤ pOth r t) b) : pMo r t n = b := by
  refine IsB.uniq (bst_is _ _ _) (IsB.congr (fun k => ?_) h)
  have h2 : 2 ^ mny r ≤ 1024 := Nat.pow_le_pow_right (n := 2) (j := 10) (by omega) hN
  have hOl : pOth r t < 2 ^ mny r := Nat.lt_of_le_of_lt Nat.and_le_left (bn_lt _ _)
  have hOt : (pOth r t).testBit t = false := by rw [pOth_bit hN]; simp
  show ((0 ≤ k ∧ k ≤ pOth r t) ∧ (sub k (pOth r t) && pEn r (nI k) t n) = true) ↔ (k < 2 ^ mny r ∧ (pEn r (nI k) t n && !k.testBit t) = true)
  rw [Bool.and_eq_true, Bool.and_eq_true]
  constructor
  · rintro ⟨⟨-, h3⟩, h4, h5⟩
    refine ⟨by omega, h5, ?_⟩
    cases e : k.testBit t with
    | false => rfl
    | true => rw [(sub_iff (by omega)).mp h4 t e] at hOt; cases hOt
  · rintro ⟨h3, h4, h5⟩
    have hk : k < 1024 := by omega
    have hs0 : sub k (pOth r t) = true := by
      rw [sub_iff hk]
      intro i hi
      rw [pOth_bit hN]
      have hi1 : i < mny r := by
        apply Classical.byContradiction
        intro hn
        rw [Nat.testBit_lt_two_pow (Nat.lt_of_lt_of_le h3 (Nat.pow_le_pow_right (by omega) (by omega)))] at hi
        cases hi
      have hit : ¬ i = t := fun q => by subst q; rw [hi] at h5; cases h5
      have hr0 : pHow r 0 i = true := by
        unfold pEn at h4
        cases e : pPS r (nI k) (mny r) with
        | none => rw [e] at h4; cases h4
        | some q => exact decide_eq_true ((pPS_all _ q e).1 i hi1 (by rw [hs_nI (by omega) (by omega)]; exact hi))
      simp [hi1, hit, hr0]
    exact ⟨⟨Nat.zero_le _, sub_le hk hs0⟩, hs0, h4⟩
theorem mo_eq {r : Rw} {t n : Nat} {b : Option Nat} {w : Int32} (hN : mny r ≤ 10) (ht : t < mny r) (h : IsB pc (pMoC r t n) (fun j => 0 ≤ j ∧ j ≤ pOth r t) b) : pMost r t n w = moA w b := by
  unfold pMost
  rw [pMo_eq hN ht h]
/-! props -/
def pW (r : Rw) : Nat := bn (pHow r 0) (mny r)
def pPrS (r : Rw) (k : Nat) : Rw := sf r 5 (upd (r 5) 3 (nI k))
def pPrP (r : Rw) (n k : Nat) : Bool := sub k (pW r) && decide (pSet (pMins (pPrS r k) n) 0 = nI (pW r))
def wP (k : Nat) : Nat := 10 - pc k
def pProp (r : Rw) (n : Nat) : Nat := (bst wP (pPrP r n) (pW r)).getD (pW r)
theorem FP_y {j W : Nat} {b : Option Nat} (h : pc j ≤ pc (b.getD W)) : ∀ x, b = some x → wP x ≤ wP j := by
  intro x hx
  subst hx
  have h : pc j ≤ pc x := h
  unfold wP
  omega
theorem FP_n {j W : Nat} {b : Option Nat} (hj : j < 1024) (h : ¬ pc j ≤ pc (b.getD W)) (hs : sub j W = true) : ¬ ∀ x, b = some x → wP x ≤ wP j := by
  intro q
  cases b with
  | none => exact h (pc_sub hj hs)
  | some x =>
    have h : ¬ pc j ≤ pc x := h
    have := q x rfl
    have h1 := pc_le j
    have h2 := pc_le x
    unfold wP at this
    omega
theorem pProp_eq {r : Rw} {n : Nat} {b : Option Nat} (hN : mny r ≤ 10) (h : IsB wP (pPrP r n) (fun j => 0 ≤ j ∧ j ≤ pW r) b) : b.getD (pW r) = pProp r n := by
  have hW : pW r < 1024 := bn_1024 hN
  have h0 := bst_is wP (pPrP r n) (pW r)
  unfold pProp
  cases hP : pPrP r n (pW r) with
  | false =>
    have e : b = bst wP (pPrP r n) (pW r) := by
      refine IsB.uniq h (IsB.congr (fun k => ?_) h0)
      show (k < pW r ∧ pPrP r n k = true) ↔ ((0 ≤ k ∧ k ≤ pW r) ∧ pPrP r n k = true)
      constructor
      · rintro ⟨a1, a2⟩; exact ⟨by omega, a2⟩
      · rintro ⟨a1, a2⟩
        refine ⟨?_, a2⟩
        by_cases e : k = pW r
        · subst e; rw [hP] at a2; cases a2
        · omega
    rw [e]
  | true =>
    cases e0 : bst wP (pPrP r n) (pW r) with
    | none =>
      rw [e0] at h0
      have e : b = some (pW r) := by
        refine IsB.uniq h ⟨⟨Nat.zero_le _, Nat.le_refl _⟩, hP, fun k hk hp => ?_⟩
        have hk : 0 ≤ k ∧ k ≤ pW r := hk
        by_cases e : k = pW r
        · subst e; exact Or.inr ⟨rfl, Nat.le_refl _⟩
        · rw [h0 k (by show k < pW r; omega)] at hp; cases hp
      rw [e]
      rfl
    | some x =>
      rw [e0] at h0
      obtain ⟨i1, i2, i3⟩ := h0
      have i1 : x < pW r := i1
      have e : b = some x := by
        refine IsB.uniq h ⟨⟨Nat.zero_le _, by omega⟩, i2, fun k hk hp => ?_⟩
        have hk : 0 ≤ k ∧ k ≤ pW r := hk
        by_cases e : k = pW r
        · subst e
          left
          have hsx : sub x (pW r) = true := by
            unfold pPrP at i2
            rw [Bool.and_eq_true] at i2
            exact i2.1
          have := pc_ssub (show x < 1024 by omega) hW hsx (by omega)
          have h2 := pc_le (pW r)
          unfold wP
          omega
        · exact i3 k (by show k < pW r; omega) hp
      rw [e]
/-! orders -/
def isOrd (k : Nat) : Bool := decide (k / 100 < 3 ∧ k / 10 % 10 < 3 ∧ k % 10 < 3 ∧ k / 100 ≠ k / 10 % 10 ∧ k / 100 ≠ k % 10 ∧ k / 10 % 10 ≠ k % 10)
def dig (k j : Nat) : Nat := if j = 0 then k / 100 else if j = 1 then k / 10 % 10 else k % 10
def pOS (q : Rw) (f : Nat → Nat) (sp : Int32) (i : Nat) : Rw := pMin (if i < 3 ∧ pSt q (f i) = true then pPull q (f i) sp else q) 0
def pOR (r : Rw) (f : Nat → Nat) (sp : Int32) : Nat → Rw
  | 0 => r
  | i + 1 => pOS (pOR r f sp i) f sp i
def pOV (r : Rw) (ix : Nat → Nat) (sp : Int32) (k : Nat) : Int32 := pStN (pOR r (fun j => ix (dig k j)) sp 10)
def pOB (r : Rw) (ix : Nat → Nat) (sp : Int32) : Nat → Int32 × Int32
  | 0 => (-9, -1)
  | i + 1 => if isOrd i = true then ((if (pOB r ix sp i).2 < pOV r ix sp i then nI i else (pOB r ix sp i).1), (if (pOB r ix sp i).2 < pOV r ix sp i then pOV r ix sp i else (pOB r ix sp i).2)) else pOB r ix sp i
theorem pOB_n {r : Rw} {ix : Nat → Nat} {sp : Int32} {i : Nat} (h : isOrd i = false) : pOB r ix sp (i + 1) = pOB r ix sp i := if_neg (by rw [h]; decide)
theorem pOB_y {r : Rw} {ix : Nat → Nat} {sp : Int32} {i : Nat} (h : isOrd i = true) : pOB r ix sp (i + 1) = ((if (pOB r ix sp i).2 < pOV r ix sp i then nI i else (pOB r ix sp i).1), (if (pOB r ix sp i).2 < pOV r ix sp i then pOV r ix sp i else (pOB r ix sp i).2)) := if_pos h
theorem pOB_1 {r : Rw} {ix : Nat → Nat} {sp : Int32} {i : Nat} (h : isOrd i = true) : (pOB r ix sp (i + 1)).1 = (if (pOB r ix sp i).2 < pOV r ix sp i then nI i else (pOB r ix sp i).1) := by rw [pOB_y h]
theorem pOB_2 {r : Rw} {ix : Nat → Nat} {sp : Int32} {i : Nat} (h : isOrd i = true) : (pOB r ix sp (i + 1)).2 = (if (pOB r ix sp i).2 < pOV r ix sp i then pOV r ix sp i else (pOB r ix sp i).2) := by rw [pOB_y h]
def pOrd (r : Rw) (ix : Nat → Nat) (sp w : Int32) : Int32 := if w = 0 then (pOB r ix sp 300).1 else (pOB r ix sp 300).2
theorem pOS_y {q : Rw} {f : Nat → Nat} {sp : Int32} {i : Nat} (h3 : i < 3) (h : pSt q (f i) = true) : pOS q f sp i = pMin (pPull q (f i) sp) 0 := by
  unfold pOS
  rw [if_pos ⟨h3, h⟩]
theorem pOS_n {q : Rw} {f : Nat → Nat} {sp : Int32} {i : Nat} (h : i < 3 → pSt q (f i) = false) : pOS q f sp i = pMin q 0 := by
  unfold pOS
  rw [if_neg (fun z => by rw [h z.1] at z; cases z.2)]
theorem pl_neg : ∀ i, i < 10 → 3 ≤ i → (2 : Int32) - nI i < 0 := by decide
/-! what lies; sure; rebuilding -/
def pWt (r : Rw) (t : Nat) : Bool := pLie r && pSt r t && decide (r 0 t = nI 4)
def pAll (P : Nat → Bool) : Nat → Bool
  | 0 => true
  | n + 1 => pAll P n && P n
theorem bI_and (a b : Bool) : bI a &&& bI b = bI (a && b) := by cases a <;> cases b <;> rfl
theorem pAll_t {P : Nat → Bool} {n : Nat} (h : P n = true) : bI (pAll P n) &&& 1 = bI (pAll P (n + 1)) := by
  rw [show (1 : Int32) = bI true from rfl, bI_and]
  show _ = bI (pAll P n && P n)
  rw [h]
theorem pAll_f {P : Nat → Bool} {n : Nat} (h : P n = false) : bI (pAll P n) &&& 0 = bI (pAll P (n + 1)) := by
  rw [show (0 : Int32) = bI false from rfl, bI_and]
  show _ = bI (pAll P n && P n)
  rw [h]
theorem pAll_spec {P : Nat → Bool} : ∀ {n : Nat}, pAll P n = true ↔ ∀ t, t < n → P t = true
  | 0 => ⟨fun _ t ht => absurd ht (Nat.not_lt_zero t), fun _ => rfl⟩
  | n + 1 => by
    show (pAll P n && P n) = true ↔ _
    rw [Bool.and_eq_true, pAll_spec]
    constructor
    · rintro ⟨h1, h2⟩ t ht
      by_cases e : t = n
      · subst e; exact h2
      · exact h1 t (by omega)
    · intro h
      exact ⟨fun t ht => h t (by omega), h n (by omega)⟩
theorem cnI_t {P : Nat → Bool} {n : Nat} (h : P n = true) : nI (cn P n) + 1 = nI (cn P (n + 1)) := by rw [cn_t h]; exact nI_1 _
theorem cnI_f {P : Nat → Bool} {n : Nat} (h : P n = false) : nI (cn P n) + 0 = nI (cn P (n + 1)) := by rw [cn_f h, Int32.add_zero]
def pSuP (r : Rw) (t : Nat) : Bool := !pSt r t || pHeld r t
def pLsP (r : Rw) (t : Nat) : Bool := pHow r 1 t && pHu r t
def pLsN (r : Rw) : Nat := fs (pLsP r) (mny r)
def pLs (r : Rw) : Int32 := if pLsN r < mny r then nI (pLsN r) else -9
theorem pLs_at {r : Rw} {t : Nat} (ht : t < mny r) (h : ∀ j, j < t → pLsP r j = false) (h2 : pLsP r t = true) : nI t = pLs r := by
  have e : pLsN r = t := fs_eq (by omega) h (fun _ => h2)
  unfold pLs
  rw [e, if_pos ht]
theorem pLs_no {r : Rw} (h : ∀ j, j < mny r → pLsP r j = false) : -9 = pLs r := by
  have e : pLsN r = mny r := fs_eq (by omega) h (fun q => absurd q (by omega))
  unfold pLs
  rw [e, if_neg (by omega)]
def pLyN (r : Rw) : Nat := cn (pHow r 1) (mny r)
def pReN : Nat → Rw → Nat
  | 0, _ => 0
  | f + 1, q => if pLsN q < mny q then pReN f (pSetUp q (pLsN q)) + 1 else 0
theorem pLyN_s {q : Rw} (h : pLsN q < mny q) : pLyN (pSetUp q (pLsN q)) < pLyN q := by
  have h1 := (fs_spec (pLsP q) (mny q)).2 h
  have h2 : pLsP q (pLsN q) = true := h1
  unfold pLsP at h2
  rw [Bool.and_eq_true] at h2
  refine cn_smono (mny q) (fun t _ hp => ?_) ⟨pLsN q, h, ?_, h2.1⟩
  · have hp : decide (upd (q 3) (pLsN q) 0 t = 1) = true := hp
    by_cases e : t = pLsN q
    · rw [e, pk_us] at hp; exact absurd hp (by decide)
    · rw [pk_un e] at hp; exact hp
  · show decide (upd (q 3) (pLsN q) 0 (pLsN q) = 1) = false
    rw [pk_us]; rfl
def pReb (r : Rw) (w : Int32) : Int32 := if w = 0 then pLs r else nI (pReN 11 r)
/-! two -/
def pTwQ (r : Rw) (t : Nat) (b : Bool) : Rw := if b = true ∧ pSt r t = true then pPull r t 9 else r
def pTwV (r : Rw) (t1 t2 n k : Nat) : Int32 := pStN (pMins (pTwQ (pTwQ r t1 (decide (k / 2 = 1))) t2 (decide (k % 2 = 1))) n)
theorem pTwQ_y {r : Rw} {t : Nat} {b : Bool} (hb : b = true) (h : pSt r t = true) : pTwQ r t b = pPull r t 9 := if_pos ⟨hb, h⟩
theorem pTwQ_n {r : Rw} {t : Nat} {b : Bool} (h : b = true → pSt r t = false) : pTwQ r t b = r := if_neg (fun z => by rw [h z.1] at z; cases z.2)
def pTwP (r : Rw) (t1 t2 n k : Nat) : Bool := decide (pTwV r t1 t2 n (k ^^^ 2) ≤ pTwV r t1 t2 n k ∧ pTwV r t1 t2 n k ≤ pTwV r t1 t2 n (k ^^^ 1))
def pTwo (r : Rw) (t1 t2 n : Nat) : Int32 := if fs (pTwP r t1 t2 n) 4 < 4 then nI (10 * (fs (pTwP r t1 t2 n) 4 / 2) + fs (pTwP r t1 t2 n) 4 % 2) else -9
theorem pTwo_at {r : Rw} {t1 t2 n k : Nat} (hk : k < 4) (h : ∀ j, j < k → pTwP r t1 t2 n j = false) (h2 : pTwP r t1 t2 n k = true) : nI (10 * (k / 2) + k % 2) = pTwo r t1 t2 n := by
  have e : fs (pTwP r t1 t2 n) 4 = k := fs_eq (by omega) h (fun _ => h2)
  unfold pTwo
  rw [e, if_pos hk]
theorem pTwo_no {r : Rw} {t1 t2 n : Nat} (h : ∀ j, j < 4 → pTwP r t1 t2 n j = false) : -9 = pTwo r t1 t2 n := by
  have e : fs (pTwP r t1 t2 n) 4 = 4 := fs_eq (by omega) h (fun q => absurd q (by omega))
  unfold pTwo
  rw [e, if_neg (by omega)]

/-! small laws for the walks of orders, rebuilding, two -/
theorem isOrd_d {k : Nat} (h : isOrd k = true) : k / 100 < 3 ∧ k / 10 % 10 < 3 ∧ k % 10 < 3 := by
  have := of_decide_eq_true h
  exact ⟨this.1, this.2.1, this.2.2.1⟩
theorem pLs_y {q : Rw} (h : ¬ pLs q = -9) : pLsN q < mny q ∧ pLs q = nI (pLsN q) := by
  unfold pLs at h ⊢
  split
  · rename_i z; exact ⟨z, rfl⟩
  · rename_i z; rw [if_neg z] at h; exact absurd rfl h
theorem pLs_n {q : Rw} (hN : mny q ≤ 10) (h : pLs q = -9) : ¬ pLsN q < mny q := by
  intro z
  unfold pLs at h
  rw [if_pos z] at h
  exact m9_ne (by omega) h
def pTwS (r : Rw) (t1 t2 n : Nat) (sb : Nat → Int32) (k : Nat) : Nat → Int32 := fun j => if j < k then pTwV r t1 t2 n j else sb j
theorem pTwS_0 (r : Rw) (t1 t2 n : Nat) (sb : Nat → Int32) : pTwS r t1 t2 n sb 0 = sb := by
  funext j
  exact if_neg (Nat.not_lt_zero j)
theorem pTwS_s (r : Rw) (t1 t2 n : Nat) (sb : Nat → Int32) (k : Nat) : upd (pTwS r t1 t2 n sb k) k (pTwV r t1 t2 n k) = pTwS r t1 t2 n sb (k + 1) := by
  funext j
  by_cases e : j = k
  · subst e
    rw [pk_us]
    exact (if_pos (by omega)).symm
  · rw [pk_un e]
    unfold pTwS
    by_cases h : j < k
    · rw [if_pos h, if_pos (by omega)]
    · rw [if_neg h, if_neg (by omega)]
theorem x_x2 : ∀ k, k < 4 → nI k ^^^ 2 = nI (k ^^^ 2) := by decide
theorem x_x1 : ∀ k, k < 4 → nI k ^^^ 1 = nI (k ^^^ 1) := by decide
theorem x_l2 : ∀ k, k < 4 → k ^^^ 2 < 4 := by decide
theorem x_l1 : ∀ k, k < 4 → k ^^^ 1 < 4 := by decide
theorem x_t2 : ∀ k, k < 4 → 10 * nI (k / 2) + nI (k % 2) = nI (10 * (k / 2) + k % 2) := by decide

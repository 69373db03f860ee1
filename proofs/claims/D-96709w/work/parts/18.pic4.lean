/-! the system's world; the checks; first places -/
/-- the system's object (its addresses: ad 0), its arrays; ad 1, ad 2, ad 3: the rooms (room0, mind, imaged), ad 4: the kinds -/
def wX (G : xG) (ad : Nat → Nat → Nat) (ho rn ln dr : Int32) (ro lt rf th sb : Nat → Int32) : va_W := [(ad 0 0, .inr (0, [.ref (ad 0 1), .ref ((ad 1) 0), .ref ((ad 2) 0), .ref ((ad 3) 0), .int ho, .ref (ad 0 2), .int rn, .ref (ad 0 3), .int ln, .ref (ad 0 4), .ref (ad 0 5), .ref (ad 0 6), .int dr])), (ad 0 1, .inl (G.2 3, 6, .inr (.inr (.inr (.inr (fun j => some (ad 4 j))))))), (ad 0 2, .inl (G.2 1, 16, .inl ro)), (ad 0 3, .inl (G.2 2, 96, .inl lt)), (ad 0 4, .inl (G.2 0, 7, .inl rf)), (ad 0 5, .inl (G.2 0, 3, .inl th)), (ad 0 6, .inl (G.2 0, 4, .inl sb))]
/-- the first place below N where P holds, or N -/
def fs (P : Nat → Bool) : Nat → Nat
  | 0 => 0
  | n + 1 => if fs P n < n then fs P n else if P n = true then n else n + 1
theorem fs_le (P : Nat → Bool) : ∀ n, fs P n ≤ n
  | 0 => Nat.le_refl 0
  | n + 1 => by
    show (if fs P n < n then fs P n else if P n = true then n else n + 1) ≤ n + 1
    have := fs_le P n
    split
    · omega
    · split <;> omega
theorem fs_spec (P : Nat → Bool) : ∀ n, (∀ j, j < fs P n → P j = false) ∧ (fs P n < n → P (fs P n) = true)
  | 0 => ⟨fun j h => absurd h (Nat.not_lt_zero j), fun h => absurd h (Nat.not_lt_zero _)⟩
  | n + 1 => by
    obtain ⟨h1, h2⟩ := fs_spec P n
    have h3 := fs_le P n
    show (∀ j, j < (if fs P n < n then fs P n else if P n = true then n else n + 1) → P j = false) ∧ ((if fs P n < n then fs P n else if P n = true then n else n + 1) < n + 1 → P (if fs P n < n then fs P n else if P n = true then n else n + 1) = true)
    by_cases h : fs P n < n
    · rw [if_pos h]
      exact ⟨h1, fun _ => h2 h⟩
    · rw [if_neg h]
      have e : fs P n = n := by omega
      rw [e] at h1
      by_cases hP : P n = true
      · rw [if_pos hP]
        exact ⟨h1, fun _ => hP⟩
      · rw [if_neg hP]
        refine ⟨fun j hj => ?_, fun q => absurd q (by omega)⟩
        by_cases hj2 : j = n
        · subst hj2
          simpa using hP
        · exact h1 j (by omega)
theorem fs_eq {P : Nat → Bool} {n k : Nat} (hk : k ≤ n) (h1 : ∀ j, j < k → P j = false) (h2 : k < n → P k = true) : fs P n = k := by
  obtain ⟨a1, a2⟩ := fs_spec P n
  have a3 := fs_le P n
  rcases Nat.lt_trichotomy (fs P n) k with h | h | h
  · have := a2 (by omega)
    rw [h1 _ h] at this
    cases this
  · exact h
  · have h4 := a1 k h
    rw [h2 (by omega)] at h4
    cases h4
theorem fs_congr {P P' : Nat → Bool} {n : Nat} (h : ∀ j, j < n → P j = P' j) : fs P n = fs P' n := by
  obtain ⟨a1, a2⟩ := fs_spec P' n
  have a3 := fs_le P' n
  exact fs_eq a3 (fun j hj => by rw [h j (by omega)]; exact a1 j hj) (fun q => by rw [h _ q]; exact a2 q)
theorem bs_and (P P' : Nat → Bool) {n : Nat} (hn : n ≤ 30) : bs P n &&& bs P' n = bs (fun t => P t && P' t) n := by
  rw [bs_bn _ _ (by omega), bs_bn _ _ (by omega), bs_bn _ _ (by omega), nI_and]
  congr 1
  apply Nat.eq_of_testBit_eq
  intro i
  rw [Nat.testBit_and, bn_bit, bn_bit, bn_bit]
  cases decide (i < n) <;> cases P i <;> cases P' i <;> rfl
/-! numbers that are in a range -/
def inR (x : Int32) (lo hi : Int) : Bool := decide (lo ≤ x.toInt ∧ x.toInt ≤ hi)
def inL (x lo hi : Int64) : Bool := decide (lo.toInt ≤ x.toInt ∧ x.toInt ≤ hi.toInt)
def wBy (v lo hi : Int) : Int32 := if v < lo then -4 else if hi < v then -6 else 0
theorem i2l_toInt (x : Int32) : x.toInt64.toInt = x.toInt := Int32.toInt_toInt64 x
theorem inL_inR {x : Int32} {lo hi : Int64} {a b : Int} (ha : lo.toInt = a) (hb : hi.toInt = b) : inL x.toInt64 lo hi = inR x a b := by
  unfold inL inR
  rw [i2l_toInt, ha, hb]
theorem inR_nI {x : Int32} {n : Nat} (h : inR x 0 ((n : Int) - 1) = true) : ∃ j, j < n ∧ x = nI j := by
  have h1 := of_decide_eq_true h
  refine ⟨x.toInt.toNat, by omega, ?_⟩
  apply Int32.toInt_inj.mp
  have h2 := Int32.toInt_lt x
  rw [nI_toInt (by omega)]
  omega
theorem inR_of {j n : Nat} (h : j < n) (hn : n < 2 ^ 31) : inR (nI j) 0 ((n : Int) - 1) = true := by
  unfold inR
  rw [nI_toInt (by omega)]
  exact decide_eq_true (by omega)
theorem nI_m1 {n : Nat} (h : n < 2 ^ 30) : (nI n - 1).toInt = (n : Int) - 1 := pk_sub_toInt (b := 1) (by omega) (by omega)
theorem wBy_0 {x : Int32} {n : Nat} (h : wBy x.toInt 0 n = 0) : ∃ j, j ≤ n ∧ x = nI j := by
  unfold wBy at h
  split at h
  · exact absurd h (by decide)
  · split at h
    · exact absurd h (by decide)
    · refine ⟨x.toInt.toNat, by omega, ?_⟩
      apply Int32.toInt_inj.mp
      have h2 := Int32.toInt_lt x
      rw [nI_toInt (by omega)]
      omega
/-- a thing of the room -/
def tB (r : Rw) (t : Int32) : Bool := inR t 0 ((mny r : Int) - 1)
theorem tB_nI {r : Rw} {t : Int32} (h : tB r t = true) : ∃ j, j < mny r ∧ t = nI j := inR_nI h

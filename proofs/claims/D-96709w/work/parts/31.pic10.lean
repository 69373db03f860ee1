/-! chains of checks: the first that fails gives its number, 0 is none; a given int as a number -/
def eS (b : Bool) (n k : Int32) : Int32 := if b = true then k else n
def eW (n k : Int32) : Int32 := if n = 0 then k else n
theorem eS_t {b : Bool} {n k : Int32} (h : b = true) : eS b n k = k := if_pos h
theorem eS_f {b : Bool} {n k : Int32} (h : b = false) : eS b n k = n := if_neg (by rw [h]; decide)
theorem eW_0 {n k : Int32} (h : n = 0) : eW n k = k := if_pos h
theorem eW_n {n k : Int32} (h : n ≠ 0) : eW n k = n := if_neg h
def ix (x : Int32) : Nat := x.toNatClampNeg
theorem ix_nI {j : Nat} (h : j < 2 ^ 31) : ix (nI j) = j := nI_clamp h
theorem tB_ix {r : Rw} {t : Int32} (hN : mny r ≤ 10) (h : tB r t = true) : ix t < mny r ∧ t = nI (ix t) := by
  obtain ⟨j, hj, rfl⟩ := tB_nI h
  rw [ix_nI (by omega)]
  exact ⟨hj, rfl⟩
theorem wB_ix {x : Int32} {n : Nat} (hn : n < 2 ^ 31) (h : wBy x.toInt 0 n = 0) : ix x ≤ n ∧ x = nI (ix x) := by
  obtain ⟨j, hj, rfl⟩ := wBy_0 h
  rw [ix_nI (by omega)]
  exact ⟨hj, rfl⟩
theorem wB1_ix {x : Int32} {n : Nat} (hn : n < 2 ^ 31) (h : wBy x.toInt 1 n = 0) : 1 ≤ ix x ∧ ix x ≤ n ∧ x = nI (ix x) := by
  unfold wBy at h
  split at h
  · exact absurd h (by decide)
  · split at h
    · exact absurd h (by decide)
    · have h2 := Int32.toInt_lt x
      have e : x = nI x.toInt.toNat := by
        apply Int32.toInt_inj.mp
        rw [nI_toInt (by omega)]
        omega
      have e2 : ix x = x.toInt.toNat := by
        rw [e, ix_nI (by omega), nI_toInt (by omega)]
        rfl
      rw [e2]
      exact ⟨by omega, by omega, e⟩
theorem iR_ix {x : Int32} {n : Nat} (hn : n < 2 ^ 31) (h : inR x 0 n = true) : ix x ≤ n ∧ x = nI (ix x) := by
  have h1 := of_decide_eq_true h
  have h2 := Int32.toInt_lt x
  have e : x = nI x.toInt.toNat := by
    apply Int32.toInt_inj.mp
    rw [nI_toInt (by omega)]
    omega
  have e2 : ix x = x.toInt.toNat := by
    rw [e, ix_nI (by omega), nI_toInt (by omega)]
    rfl
  rw [e2]
  exact ⟨by omega, e⟩
theorem iR_bit {x : Int32} (h : inR x 0 1 = true) : x = 0 ∨ x = 1 := by
  obtain ⟨h1, h2⟩ := iR_ix (n := 1) (by omega) h
  rcases (show ix x = 0 ∨ ix x = 1 by omega) with e | e <;> rw [e] at h2
  · exact Or.inl h2
  · exact Or.inr h2
/-- by whether it was refused -/
def sel {α : Type} (x : Int32) (a b : α) : α := if x = 0 then a else b
theorem sel_0 {α : Type} {x : Int32} {a b : α} (h : x = 0) : sel x a b = a := if_pos h
theorem sel_n {α : Type} {x : Int32} {a b : α} (h : x ≠ 0) : sel x a b = b := if_neg h
def pLay (r : Rw) : Rw := sf r 5 (upd (r 5) 2 1)
def pLyP (r : Rw) (t : Nat) : Bool := pSt r t && decide (r 2 t = -9)
theorem Ok.lay {r : Rw} (h : Ok r) : Ok (pLay r) := ⟨h.1, Or.inr rfl, h.2.2.1, h.2.2.2.1, h.2.2.2.2⟩
theorem kOk.lay {ka : Nat → Nat} {kd : Nat → Option Nat} {r : Rw} (h : kOk ka kd r) : kOk ka kd (pLay r) := h
def bB (r : Rw) : Bool := decide (r 5 2 = 1)
def pBeh (r : Rw) (t k : Nat) (w : Int32) : Int32 := if w = 0 then pMins r k 3 t else if w = 1 then pMins r k 4 t else pStN (pMins r k)
def pFls (r : Rw) (t : Nat) : Int32 := if pFallIn r t = 100 then -9 else nI (pFallIn r t)
def pTow (r : Rw) (t : Nat) (w : Int32) : Int32 := if w = 0 then nI (pHt r t) else if w = 1 then pAbv r t else nI (pBot r 11 t)
def pFlo (r : Rw) (sp : Int32) : Int32 := if r 5 2 = 0 then -9 else pPullFN r sp
def pWat (r : Rw) (w : Int32) : Int32 := if w = 0 then nI (cn (pWt r) (mny r)) else bI (pAll (pSuP r) (mny r))

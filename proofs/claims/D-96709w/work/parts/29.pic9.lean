/-! small laws for fitting, fractions, refusing, switches -/
theorem Ok.fit0 {r : Rw} (h : Ok r) {t k : Nat} (hk : k < 6) : Ok (pFit r t 0 k) := h.turn0 hk
theorem kOk.fit0 {ka : Nat → Nat} {kd : Nat → Option Nat} {r : Rw} (h : kOk ka kd r) {t k : Nat} (hk : k < 6) : kOk ka (va_up kd t (some (ka k))) (pFit r t 0 k) := h.turn0 hk
theorem pFit_1 (r : Rw) (t k : Nat) : pFit r t 1 k = sf r 1 (upd (r 1) t (nI k)) := if_neg (by decide)
theorem pFit_0 (r : Rw) (t k : Nat) : pFit r t 0 k = sf r 0 (upd (r 0) t (nI k)) := if_pos rfl
theorem Ok.fit1 {r : Rw} (h : Ok r) {t k : Nat} (hk : k ≤ 9) : Ok (pFit r t 1 k) := by rw [pFit_1]; exact h.turn1 hk
theorem kOk.fit1 {ka : Nat → Nat} {kd : Nat → Option Nat} {r : Rw} (h : kOk ka kd r) {t k c : Nat} (hk : c < 6) (e0 : r 0 t = nI c) : kOk ka (va_up kd t (some (ka c))) (pFit r t 1 k) := by rw [pFit_1]; exact h.turn1 hk e0
theorem wR_0 (G : xG) (a : Nat → Nat) (kd : Nat → Option Nat) (r : Rw) (t k : Nat) : wR G a kd (sf r 1 (upd (r 1) t (r 1 t))) = wR G a kd (pFit r t 0 k) := by
  rw [upd_id, pFit_0]
  rfl
theorem pFits_0 (r : Rw) (ro : Nat → Int32) (t : Nat) : bs (fun j => isRw ro (pFit r t 0 j)) 6 = pFits r ro t 0 := rfl
theorem pFits_1 (r : Rw) (ro : Nat → Int32) (t : Nat) : bs (fun j => isRw ro (pFit r t 1 j)) 10 = pFits r ro t 1 := by
  unfold pFits pFiN
  rw [if_neg (by decide)]
theorem Ok.dr {r : Rw} (h : Ok r) {x : Nat} : ∀ {k : Nat}, Ok (pDrR r x k)
  | 0 => h
  | k + 1 => Ok.min (Ok.dr h (k := k))
theorem kOk.dr {ka : Nat → Nat} {kd : Nat → Option Nat} {r : Rw} (h : kOk ka kd r) {x : Nat} : ∀ {k : Nat}, kOk ka kd (pDrR r x k)
  | 0 => h
  | k + 1 => kOk.min (kOk.dr h (k := k))
theorem pDr_y {r : Rw} {x k : Nat} (h : hs (nI x) k = true) : pMin (pDrR r x k) 1 = pDrR r x (k + 1) := by
  show _ = pMin (pDrR r x k) (bI (hs (nI x) k))
  rw [h]
  rfl
theorem pDr_n {r : Rw} {x k : Nat} (h : hs (nI x) k = false) : pMin (pDrR r x k) 0 = pDrR r x (k + 1) := by
  show _ = pMin (pDrR r x k) (bI (hs (nI x) k))
  rw [h]
  rfl
theorem p7_le {n : Nat} (h : n ≤ 7) : 2 ^ n ≤ 128 := by
  have := Nat.pow_le_pow_right (n := 2) (by omega) h
  omega
/-- the refusals counted -/
def rfU (rf : Nat → Int32) (x : Int32) : Nat → Int32 := if -20 < x then upd rf (-x).toNatClampNeg (rf (-x).toNatClampNeg + 1) else rf
/-- the numbers that are refused -/
def rfOk (x : Int32) : Prop := -20 < x → ∃ k, k < 7 ∧ -x = nI k
theorem rfU_y {rf : Nat → Int32} {x : Int32} {k : Nat} (h : -20 < x) (hk : k < 7) (e : -x = nI k) : upd rf k (rf k + 1) = rfU rf x := by
  unfold rfU
  rw [if_pos h, e, nI_clamp (by omega)]
theorem rfU_n {rf : Nat → Int32} {x : Int32} (h : ¬ -20 < x) : rf = rfU rf x := (if_neg h).symm
theorem sw (x : Int32) (n : Nat) : (∃ k, k ≤ n ∧ x = nI k) ∨ (x.toInt < 0 ∨ (n : Int) < x.toInt) := by
  by_cases h : x.toInt < 0
  · exact Or.inr (Or.inl h)
  · by_cases h2 : (n : Int) < x.toInt
    · exact Or.inr (Or.inr h2)
    · refine Or.inl ⟨x.toInt.toNat, by omega, ?_⟩
      apply Int32.toInt_inj.mp
      have h3 := Int32.toInt_lt x
      rw [nI_toInt (by omega)]
      omega

/-! laws of the picture that the walks of a room need -/
theorem bI_T {b : Bool} (h : b = true) : (1 : Int32) = bI b := by rw [h]; rfl
theorem bI_F {b : Bool} (h : b = false) : (0 : Int32) = bI b := by rw [h]; rfl
theorem Ok.on {r : Rw} (h : Ok r) {t : Nat} (ht : t < mny r) : r 2 t = -9 ∨ ∃ j, j < t ∧ r 2 t = nI j := h.2.2.1 t ht
theorem Ok.kd {r : Rw} (h : Ok r) {t : Nat} (ht : t < mny r) : ∃ c, c < 6 ∧ r 0 t = nI c := h.2.2.2.1 t ht
theorem Ok.fg {r : Rw} (h : Ok r) {t : Nat} (ht : t < mny r) : ∃ f, f ≤ 9 ∧ r 1 t = nI f := h.2.2.2.2 t ht
theorem Ok.fl {r : Rw} (h : Ok r) : r 5 2 = bI (decide (r 5 2 = 1)) := by
  rcases h.2.1 with e | e <;> rw [e] <;> rfl
theorem Ok.fallTo {r : Rw} (h : Ok r) {u sp : Int32} {i : Nat} : Ok (pFallTo r u sp i) := h
theorem kOk.fallTo {ka : Nat → Nat} {kd : Nat → Option Nat} {r : Rw} (h : kOk ka kd r) {u sp : Int32} {i : Nat} : kOk ka kd (pFallTo r u sp i) := h
theorem Ok.noFl {r : Rw} (h : Ok r) : Ok (sf r 5 (upd (r 5) 2 0)) := ⟨h.1, Or.inl rfl, h.2.2.1, h.2.2.2.1, h.2.2.2.2⟩
theorem kOk.noFl {ka : Nat → Nat} {kd : Nat → Option Nat} {r : Rw} (h : kOk ka kd r) {v : Int32} : kOk ka kd (sf r 5 (upd (r 5) 2 v)) := h
theorem kOk.at {ka : Nat → Nat} {kd : Nat → Option Nat} {r : Rw} (h : kOk ka kd r) {t c : Nat} (ht : t < mny r) (h1 : t < 2 ^ 31) (e : r 0 t = nI c) (hc : c < 6) : kd (nI t).toNatClampNeg = some (ka c) := by
  rw [nI_clamp h1, h.1 t ht, e, nI_clamp (by omega)]
theorem pHu_n {r : Rw} {k j : Nat} (e : r 2 k = nI j) (hj : j < 2 ^ 31) : pHu r k = pSt r j := by
  have h : ¬ r 2 k = -9 := by
    rw [e]
    intro q
    have h1 := nI_toInt hj
    rw [q] at h1
    have h2 : (-9 : Int32).toInt = -9 := by decide
    omega
  unfold pHu
  rw [if_neg h, e, nI_clamp hj]
theorem pHu_f {r : Rw} {k : Nat} (hr : Ok r) (e : r 2 k = -9) : r 5 2 = bI (pHu r k) := by
  unfold pHu
  rw [if_pos e]
  exact hr.fl
theorem pGrip_0 (f : Int32) : f = pGrip (nI 0) f := rfl
theorem pGrip_1 (f : Int32) : 9 - f = pGrip (nI 1) f := rfl
theorem pGrip_2 (f : Int32) : f / 2 = pGrip (nI 2) f := rfl
theorem pGrip_3 (f : Int32) : 0 = pGrip (nI 3) f := rfl
theorem pGrip_4 (f : Int32) : f / 2 = pGrip (nI 4) f := rfl
theorem pGrip_5 (f : Int32) : 9 - f + 1 = pGrip (nI 5) f := by
  show 9 - f + 1 = 10 - f
  rw [Int32.sub_eq_add_neg, Int32.sub_eq_add_neg, Int32.add_assoc, Int32.add_comm (-f) 1, ← Int32.add_assoc]
  rfl
def pG (f : Int32) : Int32 := if 0 < f / 3 - 1 then f / 3 - 1 else 0
theorem pG_eq (f : Int32) : (if f / 3 - 1 < 0 then 0 else f / 3 - 1) = pG f := by
  unfold pG
  by_cases h : 0 < f / 3 - 1
  · rw [if_pos h, if_neg]
    rw [Int32.lt_iff_toInt_lt] at h ⊢
    omega
  · rw [if_neg h]
    by_cases h2 : f / 3 - 1 < 0
    · rw [if_pos h2]
    · rw [if_neg h2]
      apply Int32.toInt_inj.mp
      rw [Int32.lt_iff_toInt_lt] at h h2
      omega
theorem pHabit_0 (f : Int32) (b : Bool) : f / 3 = pHabit (nI 0) f b := rfl
theorem pHabit_1 (f : Int32) (b : Bool) : pG f = pHabit (nI 1) f b := (pG_eq f).symm
theorem pHabit_2 (f : Int32) (b : Bool) : f / 3 + f = pHabit (nI 2) f b := rfl
theorem pHabit_3 (f : Int32) (b : Bool) : f / 3 + f + 20 = pHabit (nI 3) f b := rfl
theorem pHabit_4 (f : Int32) (b : Bool) : (if b = true then 0 else f / 3 + f) = pHabit (nI 4) f b := rfl
theorem pHabit_5 (f : Int32) (b : Bool) : pG f + 2 = pHabit (nI 5) f b := by
  rw [← pG_eq f]
  rfl
theorem pHabit_nn : ∀ c, c < 6 → ∀ f, f ≤ 9 → ∀ b : Bool, ¬ pHabit (nI c) (nI f) b < 0 := by
  intro c hc f hf b
  have h1 : ∀ c, c < 6 → ∀ f, f < 10 → ¬ pHabit (nI c) (nI f) true < 0 := by decide +kernel
  have h2 : ∀ c, c < 6 → ∀ f, f < 10 → ¬ pHabit (nI c) (nI f) false < 0 := by decide +kernel
  cases b
  · exact h2 c hc f (by omega)
  · exact h1 c hc f (by omega)
theorem Ok.hab {r : Rw} (h : Ok r) {t : Nat} (ht : t < mny r) (b : Bool) : ¬ pHabit (r 0 t) (r 1 t) b < 0 := by
  obtain ⟨c, hc, e⟩ := h.kd ht
  obtain ⟨f, hf, e2⟩ := h.fg ht
  rw [e, e2]
  exact pHabit_nn c hc f hf b
theorem pFallTo_0 (r : Rw) (u sp : Int32) : pFallTo r u sp 0 = r := by
  funext f t
  unfold pFallTo
  by_cases hf : f = 3
  · subst hf
    rw [sf_s]
    simp
  · rw [sf_n _ _ hf]
theorem pFallTo_y {r : Rw} {u sp : Int32} {i : Nat} (h : pShk r u sp i = true) : sf (pFallTo r u sp i) 3 (upd (pFallTo r u sp i 3) i 1) = pFallTo r u sp (i + 1) := by
  funext f t
  unfold pFallTo
  by_cases hf : f = 3
  · subst hf
    simp only [sf_s]
    by_cases ht : t = i
    · subst ht
      rw [pk_us, if_pos]
      simp [h]
    · rw [pk_un ht]
      have : decide (t < i) = decide (t < i + 1) := by simp only [decide_eq_decide]; omega
      rw [this]
  · rw [sf_n _ _ hf, sf_n _ _ hf, sf_n _ _ hf]
theorem pFallTo_n {r : Rw} {u sp : Int32} {i : Nat} (h : pShk r u sp i = false) : pFallTo r u sp i = pFallTo r u sp (i + 1) := by
  funext f t
  unfold pFallTo
  by_cases hf : f = 3
  · subst hf
    simp only [sf_s]
    by_cases ht : t = i
    · subst ht
      simp [h]
    · have : decide (t < i) = decide (t < i + 1) := by simp only [decide_eq_decide]; omega
      rw [this]
  · rw [sf_n _ _ hf, sf_n _ _ hf]
theorem pSt_fallTo (r : Rw) (u sp : Int32) (i : Nat) : pSt (pFallTo r u sp i) i = pSt r i := by
  show decide ((if (decide (i < i) && pShk r u sp i) = true then 1 else r 3 i) = 0) = decide (r 3 i = 0)
  simp
/-! a minute -/
def pHeld (r : Rw) (t : Nat) : Bool := pSt r t && pHl r t
def pMinA (r : Rw) (d : Int32) (i : Nat) : Rw := sf (sf r 5 (upd (r 5) 1 (r 5 1 + 1))) 4 (fun t => if t < i then pAir r d t else r 4 t)
def pMinH (r : Rw) (d : Int32) (i : Nat) : Rw := sf (pMinA r d (mny r)) 3 (fun t => if (decide (t < i) && pDrop r d t) = true then 1 else r 3 t)
theorem pMinH_e (r : Rw) (d : Int32) : pMinH r d (mny r) = pMin r d := rfl
theorem Ok.minA {r : Rw} (h : Ok r) {d : Int32} {i : Nat} : Ok (pMinA r d i) := h
theorem kOk.minA {ka : Nat → Nat} {kd : Nat → Option Nat} {r : Rw} (h : kOk ka kd r) {d : Int32} {i : Nat} : kOk ka kd (pMinA r d i) := h
theorem Ok.minH {r : Rw} (h : Ok r) {d : Int32} {i : Nat} : Ok (pMinH r d i) := h
theorem kOk.minH {ka : Nat → Nat} {kd : Nat → Option Nat} {r : Rw} (h : kOk ka kd r) {d : Int32} {i : Nat} : kOk ka kd (pMinH r d i) := h
theorem Ok.min {r : Rw} (h : Ok r) {d : Int32} : Ok (pMin r d) := h
theorem kOk.min {ka : Nat → Nat} {kd : Nat → Option Nat} {r : Rw} (h : kOk ka kd r) {d : Int32} : kOk ka kd (pMin r d) := h
theorem sf_congr {r : Rw} {f : Nat} {g g' : Nat → Int32} (h : ∀ t, g t = g' t) : sf r f g = sf r f g' := by rw [funext h]
theorem sf_sf (r : Rw) (f : Nat) (g g' : Nat → Int32) : sf (sf r f g) f g' = sf r f g' := by
  funext k
  by_cases hk : k = f
  · subst hk; rw [sf_s, sf_s]
  · rw [sf_n _ _ hk, sf_n _ _ hk, sf_n _ _ hk]
theorem sf_id (r : Rw) (f : Nat) {g : Nat → Int32} (h : ∀ t, g t = r f t) : sf r f g = r := by
  funext k
  by_cases hk : k = f
  · subst hk; rw [sf_s]; exact funext h
  · rw [sf_n _ _ hk]
theorem pMinA_0 (r : Rw) (d : Int32) : pMinA r d 0 = sf r 5 (upd (r 5) 1 (r 5 1 + 1)) := by
  unfold pMinA
  exact sf_id _ _ (fun t => by simp; rfl)
theorem pMinA_n {r : Rw} {d : Int32} {i : Nat} (h : pSt r i = false) : pMinA r d i = pMinA r d (i + 1) := by
  unfold pMinA
  refine sf_congr (fun t => ?_)
  by_cases ht : t = i
  · subst ht
    rw [if_neg (by omega), if_pos (by omega)]
    unfold pAir
    rw [h]
    simp
  · by_cases h2 : t < i
    · rw [if_pos h2, if_pos (by omega)]
    · rw [if_neg h2, if_neg (by omega)]
theorem pMinA_y {r : Rw} {d v : Int32} {i : Nat} (h : pAir r d i = v) : sf (pMinA r d i) 4 (upd (pMinA r d i 4) i v) = pMinA r d (i + 1) := by
  unfold pMinA
  rw [sf_sf]
  refine sf_congr (fun t => ?_)
  rw [sf_s]
  by_cases ht : t = i
  · subst ht
    rw [pk_us, if_pos (by omega), h]
  · rw [pk_un ht]
    by_cases h2 : t < i
    · rw [if_pos h2, if_pos (by omega)]
    · rw [if_neg h2, if_neg (by omega)]
theorem pMinA_at (r : Rw) (d : Int32) (i : Nat) : pMinA r d i 4 i = r 4 i := by
  show (if i < i then pAir r d i else r 4 i) = r 4 i
  rw [if_neg (by omega)]
theorem pMinH_0 (r : Rw) (d : Int32) : pMinH r d 0 = pMinA r d (mny r) := by
  unfold pMinH
  exact sf_id _ _ (fun t => by simp; rfl)
theorem pMinH_at (r : Rw) (d : Int32) (i : Nat) : pMinH r d i 3 i = r 3 i := by
  show (if (decide (i < i) && pDrop r d i) = true then 1 else r 3 i) = r 3 i
  simp
theorem pMinH_s {r : Rw} {d v : Int32} {i : Nat} (h : (if pDrop r d i = true then 1 else r 3 i) = v) : sf (pMinH r d i) 3 (upd (pMinH r d i 3) i v) = pMinH r d (i + 1) := by
  unfold pMinH
  rw [sf_sf]
  refine sf_congr (fun t => ?_)
  rw [sf_s]
  by_cases ht : t = i
  · subst ht
    rw [pk_us, ← h]
    simp
  · rw [pk_un ht]
    have : decide (t < i) = decide (t < i + 1) := by simp only [decide_eq_decide]; omega
    rw [this]
theorem and_not_tab : ∀ i, i < 10 → ∀ a, a < 1024 → a.testBit i = false → nI a &&& (b1 i ^^^ -1) = nI a := by decide +kernel
/-- somebody lies, other than one that stands -/
theorem lie_at {r : Rw} {i : Nat} (hr : Ok r) (hi : i < mny r) (h : pSt r i = true) : decide (pSet r 1 &&& (b1 i ^^^ -1) ≠ 0) = pLie r := by
  unfold pLie
  have hN := hr.le
  have h3 : r 3 i = 0 := of_decide_eq_true h
  have e : pSet r 1 &&& (b1 i ^^^ -1) = pSet r 1 := by
    unfold pSet
    have h1 := bn_lt (pHow r 1) (mny r)
    have h2 : 2 ^ mny r ≤ 2 ^ 10 := Nat.pow_le_pow_right (by omega) hN
    rw [bs_bn _ _ (by omega)]
    refine and_not_tab i (by omega) _ (by omega) ?_
    rw [bn_bit]
    unfold pHow
    rw [h3]
    simp
  rw [e]
theorem Ok.pull {r : Rw} (h : Ok r) {t : Nat} {sp : Int32} : Ok (pPull r t sp) := h
theorem kOk.pull {ka : Nat → Nat} {kd : Nat → Option Nat} {r : Rw} (h : kOk ka kd r) {t : Nat} {sp : Int32} : kOk ka kd (pPull r t sp) := h
theorem Ok.pullF {r : Rw} (h : Ok r) {sp : Int32} : Ok (pPullF r sp) := Ok.fallTo (Ok.noFl h)
theorem kOk.pullF {ka : Nat → Nat} {kd : Nat → Option Nat} {r : Rw} (h : kOk ka kd r) {sp : Int32} : kOk ka kd (pPullF r sp) := h
theorem Ok.setUp {r : Rw} (h : Ok r) {t : Nat} : Ok (pSetUp r t) := h
theorem kOk.setUp {ka : Nat → Nat} {kd : Nat → Option Nat} {r : Rw} (h : kOk ka kd r) {t : Nat} : kOk ka kd (pSetUp r t) := h
theorem hs_in {P : Nat → Bool} {n k : Nat} (hn : n ≤ 30) (hk : k < n) : hs (bs P n) k = P k := by
  rw [hs_bs hn (by omega)]
  simp [hk]

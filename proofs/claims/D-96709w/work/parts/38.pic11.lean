/-! letters read: statements of a room -/
def hC (lt : Nat → Int32) (z k : Nat) : Int32 := if k < z then lt k else -1
def dB (x : Int32) : Bool := inR x 48 57
def dV (x : Int32) : Nat := ix (x - 48)
def kO (x : Int32) : Int32 := if x = 98 then 5 else if x = 99 then 3 else if x = 103 then 1 else if x = 112 then 2 else if x = 116 then 0 else if x = 119 then 4 else -1
def kB (x : Int32) : Bool := decide (¬ kO x < 0)
def kV (x : Int32) : Nat := ix (kO x)
def cB (x : Int32) : Bool := decide (x = 59)
def ck (b : Bool) (k : Nat) (x : Bool × Nat) : Bool × Nat := if b = true then x else (false, k)
theorem ck_t {b : Bool} {k : Nat} {x : Bool × Nat} (h : b = true) : ck b k x = x := if_pos h
theorem ck_f {b : Bool} {k : Nat} {x : Bool × Nat} (h : b = false) : ck b k x = (false, k) := if_neg (by rw [h]; decide)
/-- a statement at k: whether it is one; where it ends, or where it fails -/
def sR (lt : Nat → Int32) (z k : Nat) : Bool × Nat :=
  if hC lt z k = 116 then ck (kB (hC lt z (k + 1))) (k + 1) (ck (dB (hC lt z (k + 2))) (k + 2) (ck (cB (hC lt z (k + 3))) (k + 3) (true, k + 4)))
  else if hC lt z k = 111 then ck (kB (hC lt z (k + 1))) (k + 1) (ck (dB (hC lt z (k + 2))) (k + 2) (ck (dB (hC lt z (k + 3))) (k + 3) (ck (cB (hC lt z (k + 4))) (k + 4) (true, k + 5))))
  else if hC lt z k = 112 then ck (dB (hC lt z (k + 1))) (k + 1) (ck (dB (hC lt z (k + 2))) (k + 2) (ck (cB (hC lt z (k + 3))) (k + 3) (true, k + 4)))
  else if hC lt z k = 102 then ck (dB (hC lt z (k + 1))) (k + 1) (ck (cB (hC lt z (k + 2))) (k + 2) (true, k + 3))
  else if hC lt z k = 104 then ck (dB (hC lt z (k + 1))) (k + 1) (ck (cB (hC lt z (k + 2))) (k + 2) (true, k + 3))
  else if hC lt z k = 109 then ck (dB (hC lt z (k + 1))) (k + 1) (ck (dB (hC lt z (k + 2))) (k + 2) (ck (cB (hC lt z (k + 3))) (k + 3) (true, k + 4)))
  else (false, k)
theorem sR_t {lt : Nat → Int32} {z k : Nat} (h : hC lt z k = 116) : sR lt z k = ck (kB (hC lt z (k + 1))) (k + 1) (ck (dB (hC lt z (k + 2))) (k + 2) (ck (cB (hC lt z (k + 3))) (k + 3) (true, k + 4))) := if_pos h
theorem sR_o {lt : Nat → Int32} {z k : Nat} (h : hC lt z k = 111) : sR lt z k = ck (kB (hC lt z (k + 1))) (k + 1) (ck (dB (hC lt z (k + 2))) (k + 2) (ck (dB (hC lt z (k + 3))) (k + 3) (ck (cB (hC lt z (k + 4))) (k + 4) (true, k + 5)))) := by
  unfold sR; rw [h]; rfl
theorem sR_p {lt : Nat → Int32} {z k : Nat} (h : hC lt z k = 112) : sR lt z k = ck (dB (hC lt z (k + 1))) (k + 1) (ck (dB (hC lt z (k + 2))) (k + 2) (ck (cB (hC lt z (k + 3))) (k + 3) (true, k + 4))) := by
  unfold sR; rw [h]; rfl
theorem sR_f {lt : Nat → Int32} {z k : Nat} (h : hC lt z k = 102) : sR lt z k = ck (dB (hC lt z (k + 1))) (k + 1) (ck (cB (hC lt z (k + 2))) (k + 2) (true, k + 3)) := by
  unfold sR; rw [h]; rfl
theorem sR_h {lt : Nat → Int32} {z k : Nat} (h : hC lt z k = 104) : sR lt z k = ck (dB (hC lt z (k + 1))) (k + 1) (ck (cB (hC lt z (k + 2))) (k + 2) (true, k + 3)) := by
  unfold sR; rw [h]; rfl
theorem sR_m {lt : Nat → Int32} {z k : Nat} (h : hC lt z k = 109) : sR lt z k = ck (dB (hC lt z (k + 1))) (k + 1) (ck (dB (hC lt z (k + 2))) (k + 2) (ck (cB (hC lt z (k + 3))) (k + 3) (true, k + 4))) := by
  unfold sR; rw [h]; rfl
def sLt (x : Int32) : Bool := decide (x = 116 ∨ x = 111 ∨ x = 112 ∨ x = 102 ∨ x = 104 ∨ x = 109)
theorem sR_no {lt : Nat → Int32} {z k : Nat} (h : sLt (hC lt z k) = false) : sR lt z k = (false, k) := by
  have h1 := of_decide_eq_false h
  unfold sR
  rw [if_neg (fun q => h1 (by simp [q])), if_neg (fun q => h1 (by simp [q])), if_neg (fun q => h1 (by simp [q])), if_neg (fun q => h1 (by simp [q])), if_neg (fun q => h1 (by simp [q])), if_neg (fun q => h1 (by simp [q]))]
/-- what a statement says: its class's number, the first number, a kind, another number -/
abbrev Td : Type := Nat × Nat × Nat × Nat
def sT (lt : Nat → Int32) (z k : Nat) : Td :=
  if hC lt z k = 116 then (12, dV (hC lt z (k + 2)), kV (hC lt z (k + 1)), 0)
  else if hC lt z k = 111 then (13, dV (hC lt z (k + 2)), kV (hC lt z (k + 1)), dV (hC lt z (k + 3)))
  else if hC lt z k = 112 then (14, dV (hC lt z (k + 1)), 0, dV (hC lt z (k + 2)))
  else if hC lt z k = 102 then (15, dV (hC lt z (k + 1)), 0, 0)
  else if hC lt z k = 104 then (16, dV (hC lt z (k + 1)), 0, 0)
  else (17, 10 * dV (hC lt z (k + 1)) + dV (hC lt z (k + 2)), 0, 0)
theorem sT_t {lt : Nat → Int32} {z k : Nat} (h : hC lt z k = 116) : sT lt z k = (12, dV (hC lt z (k + 2)), kV (hC lt z (k + 1)), 0) := if_pos h
theorem sT_o {lt : Nat → Int32} {z k : Nat} (h : hC lt z k = 111) : sT lt z k = (13, dV (hC lt z (k + 2)), kV (hC lt z (k + 1)), dV (hC lt z (k + 3))) := by
  unfold sT; rw [h]; rfl
theorem sT_p {lt : Nat → Int32} {z k : Nat} (h : hC lt z k = 112) : sT lt z k = (14, dV (hC lt z (k + 1)), 0, dV (hC lt z (k + 2))) := by
  unfold sT; rw [h]; rfl
theorem sT_f {lt : Nat → Int32} {z k : Nat} (h : hC lt z k = 102) : sT lt z k = (15, dV (hC lt z (k + 1)), 0, 0) := by
  unfold sT; rw [h]; rfl
theorem sT_h {lt : Nat → Int32} {z k : Nat} (h : hC lt z k = 104) : sT lt z k = (16, dV (hC lt z (k + 1)), 0, 0) := by
  unfold sT; rw [h]; rfl
theorem sT_m {lt : Nat → Int32} {z k : Nat} (h : hC lt z k = 109) : sT lt z k = (17, 10 * dV (hC lt z (k + 1)) + dV (hC lt z (k + 2)), 0, 0) := by
  unfold sT; rw [h]; rfl
theorem dV_c {x : Int32} (h : dB x = true) : x - 48 = nI (dV x) ∧ dV x ≤ 9 := by
  have h1 := of_decide_eq_true h
  have h2 : (x - 48).toInt = x.toInt - 48 := by
    rw [Int32.toInt_sub]
    have h3 := Int32.toInt_lt x
    have e : (48 : Int32).toInt = 48 := by decide
    rw [e, Int.bmod_def]
    omega
  have e : x - 48 = nI (x.toInt - 48).toNat := by
    apply Int32.toInt_inj.mp
    rw [h2, nI_toInt (by omega)]
    omega
  have e2 : dV x = (x.toInt - 48).toNat := by
    unfold dV
    rw [e, ix_nI (by omega)]
  rw [e2]
  exact ⟨e, by omega⟩
theorem hC_z {lt : Nat → Int32} {z k : Nat} (h : hC lt z k ≠ -1) : k < z ∧ hC lt z k = lt k := by
  unfold hC at h ⊢
  by_cases q : k < z
  · rw [if_pos q]; exact ⟨q, rfl⟩
  · rw [if_neg q] at h; exact absurd rfl h
theorem hC_d {lt : Nat → Int32} {z k : Nat} (h : dB (hC lt z k) = true) : k < z ∧ hC lt z k = lt k := hC_z (fun q => by rw [q] at h; exact absurd h (by decide))
theorem hC_59 {lt : Nat → Int32} {z k : Nat} (h : cB (hC lt z k) = true) : k < z ∧ hC lt z k = lt k := hC_z (fun q => by rw [q] at h; exact absurd h (by decide))
theorem lt_48 {lt : Nat → Int32} {z k : Nat} (h : dB (hC lt z k) = true) : lt k - 48 = nI (dV (hC lt z k)) := by
  rw [← (hC_d h).2]
  exact (dV_c h).1
theorem kV_c {x : Int32} (h : kB x = true) : kO x = nI (kV x) ∧ kV x < 6 := by
  unfold kB at h
  unfold kV
  unfold kO at h ⊢
  repeat' split
  all_goals first | exact ⟨by decide, by decide⟩ | (simp_all; done) | (exfalso; simp_all (config := { decide := true }))
/-- a statement's fields -/
def tdF (ka : Nat → Nat) (b : Nat) (d : Td) : List Value := if d.1 = 12 then [.int (nI b), .int (nI d.2.1), .ref (ka d.2.2.1)] else if d.1 = 13 then [.int (nI b), .int (nI d.2.1), .ref (ka d.2.2.1), .int (nI d.2.2.2)] else if d.1 = 14 then [.int (nI b), .int (nI d.2.1), .int (nI d.2.2.2)] else [.int (nI b), .int (nI d.2.1)]
def tdE (ka : Nat → Nat) (b : Nat) (d : Td) : va_E := .inr (d.1, tdF ka b d)
/-- what stands in statements -/
def tdV (d : Td) : Prop := (d.1 = 12 ∨ d.1 = 13 ∨ d.1 = 14 ∨ d.1 = 15 ∨ d.1 = 16 ∨ d.1 = 17) ∧ d.2.1 ≤ 99 ∧ (d.1 < 17 → d.2.1 ≤ 9) ∧ d.2.2.1 < 6 ∧ d.2.2.2 ≤ 9
def tdOk (d : Td) (r : Rw) : Bool := if d.1 = 12 then bB r && decide (mny r < 10) else if d.1 = 13 then decide (d.2.2.2 < mny r) && pSt r d.2.2.2 && decide (mny r < 10) else if d.1 = 14 then decide (d.2.1 < mny r) && pSt r d.2.1 else if d.1 = 15 then bB r else if d.1 = 16 then decide (d.2.1 < mny r) && decide (r 3 d.2.1 ≠ 2) else decide (1 ≤ d.2.1 ∧ d.2.1 ≤ 60) && decide (r 5 1 + nI d.2.1 ≤ 999)
def tdDo (d : Td) (r : Rw) : Rw := if d.1 = 12 then pCome r d.2.2.1 (nI d.2.1) (-9) else if d.1 = 13 then pCome r d.2.2.1 (nI d.2.1) (nI d.2.2.2) else if d.1 = 14 then pPull r d.2.1 (nI d.2.2.2) else if d.1 = 15 then pPullF r (nI d.2.1) else if d.1 = 16 then pSetUp r d.2.1 else pMins r d.2.1
def tdN (d : Td) (r : Rw) : Rw := if tdOk d r = true then tdDo d r else r
theorem tdN_t {d : Td} {r : Rw} (h : tdOk d r = true) : tdN d r = tdDo d r := if_pos h
theorem tdN_f {d : Td} {r : Rw} (h : tdOk d r = false) : tdN d r = r := if_neg (by rw [h]; decide)
theorem Ok.tdDo {d : Td} {r : Rw} (hr : Ok r) (hd : tdV d) (h : tdOk d r = true) : Ok (tdDo d r) := by
  obtain ⟨b, c, g, x⟩ := d
  obtain ⟨h0, h1, h2, h3, h4⟩ := hd
  have h0 : b = 12 ∨ b = 13 ∨ b = 14 ∨ b = 15 ∨ b = 16 ∨ b = 17 := h0
  have h1 : c ≤ 99 := h1
  have h2 : b < 17 → c ≤ 9 := h2
  have h3 : g < 6 := h3
  rcases h0 with rfl | rfl | rfl | rfl | rfl | rfl
  · have h : (bB r && decide (mny r < 10)) = true := h
    rw [Bool.and_eq_true] at h
    exact hr.come (of_decide_eq_true h.2) h3 (h2 (by omega)) (Or.inl rfl)
  · have h : (decide (x < mny r) && pSt r x && decide (mny r < 10)) = true := h
    rw [Bool.and_eq_true, Bool.and_eq_true] at h
    exact hr.come (of_decide_eq_true h.2) h3 (h2 (by omega)) (Or.inr ⟨x, of_decide_eq_true h.1.1, rfl⟩)
  · exact Ok.pull hr
  · exact Ok.pullF hr
  · exact Ok.setUp hr
  · exact Ok.mins hr
theorem Ok.tdN {d : Td} {r : Rw} (hr : Ok r) (hd : tdV d) : Ok (tdN d r) := by
  cases h : tdOk d r with
  | true => rw [tdN_t h]; exact hr.tdDo hd h
  | false => rw [tdN_f h]; exact hr
theorem pCome_h {r : Rw} {c : Nat} {f u : Int32} : pCome r c f u 5 3 = r 5 3 := rfl
theorem tdDo_h {d : Td} {r : Rw} : tdDo d r 5 3 = r 5 3 := by
  unfold tdDo
  repeat' split
  all_goals first | rfl | exact pMins_h _ _
theorem tdN_h {d : Td} {r : Rw} : tdN d r 5 3 = r 5 3 := by
  unfold tdN
  split
  · exact tdDo_h
  · rfl
/-- where statements begin -/
def sPos (lt : Nat → Int32) (z : Nat) : Nat → Nat
  | 0 => 0
  | n + 1 => (sR lt z (sPos lt z n)).2
theorem ck_e {b : Bool} {k : Nat} {x : Bool × Nat} (h : (ck b k x).1 = true) : b = true ∧ x.1 = true ∧ (ck b k x).2 = x.2 := by
  cases b with
  | true => exact ⟨rfl, h, rfl⟩
  | false => cases h
/-- a statement that is one -/
theorem sR_ok {lt : Nat → Int32} {z k : Nat} (h : (sR lt z k).1 = true) : k + 3 ≤ (sR lt z k).2 ∧ (sR lt z k).2 ≤ z ∧ tdV (sT lt z k) := by
  cases hL : sLt (hC lt z k) with
  | false => rw [sR_no hL] at h; cases h
  | true =>
    rcases of_decide_eq_true hL with e | e | e | e | e | e
    · rw [sR_t e] at h ⊢
      rw [sT_t e]
      obtain ⟨a1, h, e1⟩ := ck_e h
      obtain ⟨a2, h, e2⟩ := ck_e h
      obtain ⟨a3, h, e3⟩ := ck_e h
      rw [e1, e2, e3]
      have := (hC_59 a3).1
      have := (dV_c a2).2
      have := (kV_c a1).2
      exact ⟨by show k + 3 ≤ k + 4; omega, by show k + 4 ≤ z; omega, Or.inl rfl, by show dV _ ≤ 99; omega, fun _ => by show dV _ ≤ 9; omega, by show kV _ < 6; omega, Nat.zero_le _⟩
    · rw [sR_o e] at h ⊢
      rw [sT_o e]
      obtain ⟨a1, h, e1⟩ := ck_e h
      obtain ⟨a2, h, e2⟩ := ck_e h
      obtain ⟨a3, h, e3⟩ := ck_e h
      obtain ⟨a4, h, e4⟩ := ck_e h
      rw [e1, e2, e3, e4]
      have := (hC_59 a4).1
      have := (dV_c a2).2
      have := (dV_c a3).2
      have := (kV_c a1).2
      exact ⟨by show k + 3 ≤ k + 5; omega, by show k + 5 ≤ z; omega, Or.inr (Or.inl rfl), by show dV _ ≤ 99; omega, fun _ => by show dV _ ≤ 9; omega, by show kV _ < 6; omega, by show dV _ ≤ 9; omega⟩
    · rw [sR_p e] at h ⊢
      rw [sT_p e]
      obtain ⟨a1, h, e1⟩ := ck_e h
      obtain ⟨a2, h, e2⟩ := ck_e h
      obtain ⟨a3, h, e3⟩ := ck_e h
      rw [e1, e2, e3]
      have := (hC_59 a3).1
      have := (dV_c a1).2
      have := (dV_c a2).2
      exact ⟨by show k + 3 ≤ k + 4; omega, by show k + 4 ≤ z; omega, Or.inr (Or.inr (Or.inl rfl)), by show dV _ ≤ 99; omega, fun _ => by show dV _ ≤ 9; omega, by show 0 < 6; omega, by show dV _ ≤ 9; omega⟩
    · rw [sR_f e] at h ⊢
      rw [sT_f e]
      obtain ⟨a1, h, e1⟩ := ck_e h
      obtain ⟨a2, h, e2⟩ := ck_e h
      rw [e1, e2]
      have := (hC_59 a2).1
      have := (dV_c a1).2
      exact ⟨by show k + 3 ≤ k + 3; omega, by show k + 3 ≤ z; omega, Or.inr (Or.inr (Or.inr (Or.inl rfl))), by show dV _ ≤ 99; omega, fun _ => by show dV _ ≤ 9; omega, by show 0 < 6; omega, Nat.zero_le _⟩
    · rw [sR_h e] at h ⊢
      rw [sT_h e]
      obtain ⟨a1, h, e1⟩ := ck_e h
      obtain ⟨a2, h, e2⟩ := ck_e h
      rw [e1, e2]
      have := (hC_59 a2).1
      have := (dV_c a1).2
      exact ⟨by show k + 3 ≤ k + 3; omega, by show k + 3 ≤ z; omega, Or.inr (Or.inr (Or.inr (Or.inr (Or.inl rfl)))), by show dV _ ≤ 99; omega, fun _ => by show dV _ ≤ 9; omega, by show 0 < 6; omega, Nat.zero_le _⟩
    · rw [sR_m e] at h ⊢
      rw [sT_m e]
      obtain ⟨a1, h, e1⟩ := ck_e h
      obtain ⟨a2, h, e2⟩ := ck_e h
      obtain ⟨a3, h, e3⟩ := ck_e h
      rw [e1, e2, e3]
      have := (hC_59 a3).1
      have := (dV_c a1).2
      have := (dV_c a2).2
      exact ⟨by show k + 3 ≤ k + 4; omega, by show k + 4 ≤ z; omega, Or.inr (Or.inr (Or.inr (Or.inr (Or.inr rfl)))), by show 10 * dV _ + dV _ ≤ 99; omega, fun q => absurd q (by show ¬ 17 < 17; omega), by show 0 < 6; omega, Nat.zero_le _⟩
/-- where a statement that is none fails -/
theorem ck_2 {b : Bool} {k K : Nat} {x : Bool × Nat} (h1 : k ≤ K) (h2 : x.2 ≤ K) : (ck b k x).2 ≤ K := by
  cases b with
  | true => exact h2
  | false => exact h1
theorem sR_le {lt : Nat → Int32} {z k : Nat} : (sR lt z k).2 ≤ k + 5 := by
  cases hL : sLt (hC lt z k) with
  | false => rw [sR_no hL]; show k ≤ k + 5; omega
  | true =>
    rcases of_decide_eq_true hL with e | e | e | e | e | e
    · rw [sR_t e]; exact ck_2 (by omega) (ck_2 (by omega) (ck_2 (by omega) (by show k + 4 ≤ k + 5; omega)))
    · rw [sR_o e]; exact ck_2 (by omega) (ck_2 (by omega) (ck_2 (by omega) (ck_2 (by omega) (by show k + 5 ≤ k + 5; omega))))
    · rw [sR_p e]; exact ck_2 (by omega) (ck_2 (by omega) (ck_2 (by omega) (by show k + 4 ≤ k + 5; omega)))
    · rw [sR_f e]; exact ck_2 (by omega) (ck_2 (by omega) (by show k + 3 ≤ k + 5; omega))
    · rw [sR_h e]; exact ck_2 (by omega) (ck_2 (by omega) (by show k + 3 ≤ k + 5; omega))
    · rw [sR_m e]; exact ck_2 (by omega) (ck_2 (by omega) (ck_2 (by omega) (by show k + 4 ≤ k + 5; omega)))
/-! the room that is read -/
/-- how many statements are read: the last is none, or ends behind the letters -/
def sEnd (lt : Nat → Int32) (z n : Nat) : Bool := !(sR lt z (sPos lt z n)).1 || decide (z ≤ sPos lt z (n + 1))
def sLast (lt : Nat → Int32) (z : Nat) : Nat := fs (sEnd lt z) 40
def sGood (lt : Nat → Int32) (z : Nat) : Bool := (sR lt z (sPos lt z (sLast lt z))).1
def rrR (lt : Nat → Int32) (z : Nat) (r : Rw) : Nat → Rw
  | 0 => r
  | i + 1 => tdN (sT lt z (sPos lt z i)) (rrR lt z r i)
def rrB (lt : Nat → Int32) (z : Nat) (r : Rw) (i : Nat) : Bool := !tdOk (sT lt z (sPos lt z i)) (rrR lt z r i)
def rrF (lt : Nat → Int32) (z : Nat) (r : Rw) : Nat := fs (rrB lt z r) (sLast lt z + 1)
/-- the fault's number, 0 is none -/
def rrE (lt : Nat → Int32) (z : Nat) (r : Rw) : Int32 := if sGood lt z = true then (if rrF lt z r < sLast lt z + 1 then -2000 - nI (sPos lt z (rrF lt z r)) else 0) else -1000 - nI (sPos lt z (sLast lt z + 1))

/-! the model: what is over a row (printed by tools/model.py) -/
/-! the model's own small laws -/
set_option maxRecDepth 100000
def cpF (f g : Nat → Int32) (k : Nat) : Nat → Int32 := fun j => if j < k then f j else g j
theorem cpF_0 (f g : Nat → Int32) : cpF f g 0 = g := by
  funext j
  exact if_neg (Nat.not_lt_zero j)
theorem cpF_s (f g : Nat → Int32) (k : Nat) : upd (cpF f g k) k (f k) = cpF f g (k + 1) := by
  funext j
  by_cases e : j = k
  · subst e; rw [pk_us]; exact (if_pos (by omega)).symm
  · rw [pk_un e]
    unfold cpF
    by_cases h : j < k
    · rw [if_pos h, if_pos (by omega)]
    · rw [if_neg h, if_neg (by omega)]
theorem cpF_e (f g : Nat → Int32) {k j : Nat} (h : j < k) : cpF f g k j = f j := if_pos h
theorem pc_bit {b k : Nat} : b / 2 ^ k % 2 = if b.testBit k = true then 1 else 0 := by
  rw [Nat.testBit_eq_decide_div_mod_eq]
  have := Nat.mod_lt (b / 2 ^ k) (show 0 < 2 by omega)
  by_cases h : b / 2 ^ k % 2 = 1
  · simp [h]
  · simp [h]; omega
theorem pc_s {b k : Nat} : nI (cn b.testBit k) + nI (b / 2 ^ k % 2) = nI (cn b.testBit (k + 1)) := by
  rw [nI_add, pc_bit]
  rfl
theorem shr1 {b k : Nat} (hb : b < 1024) (hk : k < 32) : nI b >>> (nI k &&& 31) = nI (b / 2 ^ k) := sh_nI (by omega) hk
theorem and1 {b : Nat} : nI b &&& 1 = nI (b % 2) := by
  rw [show (1 : Int32) = nI 1 from rfl, nI_and, Nat.and_one_is_mod]
theorem pSh_bn {r : Rw} {u sp : Int32} (h : mny r ≤ 10) : bs (pShk r u sp) (mny r) = nI (bn (pShk r u sp) (mny r)) := bs_bn _ _ (by omega)
/-- what falls: as the thing is still there -/
theorem pShk_gone {r : Rw} (hr : Ok r) {t : Nat} (ht : t < mny r) (sp : Int32) {j : Nat} (hj : j < mny r) : pShk (pGone r t) (nI t) sp j = pShk r (nI t) sp j := by
  by_cases e : j = t
  · subst e
    have hN := hr.le
    have h2 : ¬ r 2 j = nI j := by
      rcases hr.on hj with q | ⟨k, hk, q⟩
      · rw [q]; exact fun z => m9_ne (by omega) z.symm
      · rw [q]; exact fun z => by have := (nI_eq (by omega) (by omega)).mp z; omega
    have e1 : pShk r (nI j) sp j = false := by unfold pShk; rw [decide_eq_false h2]; simp
    have e2 : pShk (pGone r j) (nI j) sp j = false := by
      have h3 : ¬ pGone r j 2 j = nI j := h2
      unfold pShk; rw [decide_eq_false h3]; simp
    rw [e1, e2]
  · have e1 : pSt (pGone r t) j = pSt r j := by
      show decide (upd (r 3) t 2 j = 0) = decide (r 3 j = 0)
      rw [pk_un e]
    unfold pShk
    rw [e1]
    rfl
theorem pShk_noFl {r : Rw} (u sp : Int32) (j : Nat) : pShk (pNoFl r) u sp j = pShk r u sp j := rfl
theorem inR_i {v lo hi : Int32} : inR v lo.toInt hi.toInt = decide (¬ v < lo ∧ ¬ hi < v) := by
  unfold inR
  simp only [decide_eq_decide, Int32.lt_iff_toInt_lt]
  omega
set_option maxHeartbeats 4000000 in
set_option maxRecDepth 100000 in
theorem m9_isIn (l : Launch) (G : xG) (x lo hi : Int32) : xCi l G yX9_isIn cX9_isIn 3 (some .boolean) ({ frames := 0, cells := 0, slots := 0, locals := 0 } : Room) [.int x, .int lo, .int hi] ([] : va_W) (S := Unit) (fun v _ => v = bI (inR x lo.toInt hi.toInt)) (fun _ => []) := by
  refine x_openi (by decide) (Nat.le_of_ble_eq_true rfl) (fun _ _ h => by rw [h]; exact bI_z _) ?_
  intro p e s m args below meth c A Q ls C0 hK hP hD hA hl hret
  obtain ⟨hx, hb, hml, hown, hts⟩ := id C0
  have hS : va_S A s.heap s.heap [] := va_S.rf
  have hP : va_P G.1 vwCl ([] : va_W) s.heap := hP
  have hD : va_D A ([] : va_W) := hD
  have hl : lv_has ls 3 [(0, .int x), (1, .int lo), (2, .int hi)] := hl
  refine lv_iload_n hx hb dX9_isIn_0 rfl (lv_at hl 0 rfl) ?_
  refine lv_iload_n hx hb dX9_isIn_1 rfl (lv_at hl 1 rfl) ?_
  refine lv_icmp_lt (tgt := 14) hx hb dX9_isIn_2 (by decide) (fun c_1 => ?_) (fun c_1 => ?_)
  · skip
    refine lv_iconst (v := 0) hx hb dX9_isIn_14 (by decide) ?_
    refine hret _ _ _ _ _ _ 0 () dX9_isIn_15 ?_ hP hD hS (Nat.le_of_ble_eq_true rfl) (Nat.le_of_ble_eq_true rfl)
    rw [inR_i]
    exact bI_F (decide_eq_false (fun z => z.1 c_1))
  · skip
    refine lv_iload_n hx hb dX9_isIn_5 rfl (lv_at hl 0 rfl) ?_
    refine lv_iload_n hx hb dX9_isIn_6 rfl (lv_at hl 2 rfl) ?_
    refine lv_icmp_gt (tgt := 14) hx hb dX9_isIn_7 (by decide) (fun c_2 => ?_) (fun c_2 => ?_)
    · skip
      refine lv_iconst (v := 0) hx hb dX9_isIn_14 (by decide) ?_
      refine hret _ _ _ _ _ _ 0 () dX9_isIn_15 ?_ hP hD hS (Nat.le_of_ble_eq_true rfl) (Nat.le_of_ble_eq_true rfl)
      rw [inR_i]
      exact bI_F (decide_eq_false (fun z => z.2 c_2))
    · skip
      refine lv_iconst (v := 1) hx hb dX9_isIn_10 (by decide) ?_
      refine lv_goto (tgt := 15) hx hb dX9_isIn_11 (by decide) ?_
      refine hret _ _ _ _ _ _ 1 () dX9_isIn_15 ?_ hP hD hS (Nat.le_of_ble_eq_true rfl) (Nat.le_of_ble_eq_true rfl)
      rw [inR_i]
      exact bI_T (decide_eq_true ⟨c_1, c_2⟩)
set_option maxHeartbeats 4000000 in
set_option maxRecDepth 100000 in
theorem m9_most (l : Launch) (G : xG) (x y : Int32) : xCi l G yX9_most cX9_most 2 (some .int) ({ frames := 0, cells := 0, slots := 0, locals := 0 } : Room) [.int x, .int y] ([] : va_W) (S := Unit) (fun v _ => v = if y < x then x else y) (fun _ => []) := by
  refine x_openi (by decide) (Nat.le_of_ble_eq_true rfl) (fun _ _ _ => rfl) ?_
  intro p e s m args below meth c A Q ls C0 hK hP hD hA hl hret
  obtain ⟨hx, hb, hml, hown, hts⟩ := id C0
  have hS : va_S A s.heap s.heap [] := va_S.rf
  have hP : va_P G.1 vwCl ([] : va_W) s.heap := hP
  have hD : va_D A ([] : va_W) := hD
  have hl : lv_has ls 2 [(0, .int x), (1, .int y)] := hl
  refine lv_iload_n hx hb dX9_most_0 rfl (lv_at hl 0 rfl) ?_
  refine lv_iload_n hx hb dX9_most_1 rfl (lv_at hl 1 rfl) ?_
  refine lv_icmp_le (tgt := 9) hx hb dX9_most_2 (by decide) (fun c_1 => ?_) (fun c_1 => ?_)
  · skip
    refine lv_iload_n hx hb dX9_most_9 rfl (lv_at hl 1 rfl) ?_
    refine hret _ _ _ _ _ _ y () dX9_most_10 ?_ hP hD hS (Nat.le_of_ble_eq_true rfl) (Nat.le_of_ble_eq_true rfl)
    exact (if_neg (Int32.not_lt.mpr c_1)).symm
  · skip
    refine lv_iload_n hx hb dX9_most_5 rfl (lv_at hl 0 rfl) ?_
    refine lv_goto (tgt := 10) hx hb dX9_most_6 (by decide) ?_
    refine hret _ _ _ _ _ _ x () dX9_most_10 ?_ hP hD hS (Nat.le_of_ble_eq_true rfl) (Nat.le_of_ble_eq_true rfl)
    exact (if_pos (Int32.not_le.mp c_1)).symm
set_option maxHeartbeats 4000000 in
set_option maxRecDepth 100000 in
theorem m9_of (l : Launch) (G : xG) (k w : Nat) : xCi l G yX9_of cX9_of 2 (some .int) ({ frames := 0, cells := 0, slots := 0, locals := 0 } : Room) [.int (nI k), .int (nI w)] ([] : va_W) (S := Unit) (fun v _ => v = nI (4 + 5 * k + w)) (fun _ => []) := by
  refine x_openi (by decide) (Nat.le_of_ble_eq_true rfl) (fun _ _ _ => rfl) ?_
  intro p e s m args below meth c A Q ls C0 hK hP hD hA hl hret
  obtain ⟨hx, hb, hml, hown, hts⟩ := id C0
  have hS : va_S A s.heap s.heap [] := va_S.rf
  have hP : va_P G.1 vwCl ([] : va_W) s.heap := hP
  have hD : va_D A ([] : va_W) := hD
  have hl : lv_has ls 2 [(0, .int (nI k)), (1, .int (nI w))] := hl
  refine lv_iconst (v := 4) hx hb dX9_of_0 (by decide) ?_
  refine lv_iconst (v := 5) hx hb dX9_of_1 (by decide) ?_
  refine lv_iload_n hx hb dX9_of_2 rfl (lv_at hl 0 rfl) ?_
  refine x_imul hx hb dX9_of_3 (v := nI (5 * k)) (show (5 : Int32) * _ = _ from pk_mul 5 _) ?_
  refine x_iadd hx hb dX9_of_4 (v := nI (4 + 5 * k)) (show (4 : Int32) + _ = _ from nI_add 4 _) ?_
  refine lv_iload_n hx hb dX9_of_5 rfl (lv_at hl 1 rfl) ?_
  refine x_iadd hx hb dX9_of_6 (v := nI (4 + 5 * k + w)) (nI_add _ _) ?_
  refine hret _ _ _ _ _ _ (nI (4 + 5 * k + w)) () dX9_of_7 ?_ hP hD hS (Nat.le_of_ble_eq_true rfl) (Nat.le_of_ble_eq_true rfl)
  rfl
set_option maxHeartbeats 4000000 in
set_option maxRecDepth 100000 in
theorem m9_has (l : Launch) (G : xG) (x : Int32) (k : Nat) : xCi l G yX9_has cX9_has 2 (some .boolean) ({ frames := 0, cells := 0, slots := 0, locals := 0 } : Room) [.int x, .int (nI k)] ([] : va_W) (S := Unit) (fun v _ => v = bI (hs x k)) (fun _ => []) := by
  refine x_openi (by decide) (Nat.le_of_ble_eq_true rfl) (fun _ _ h => by rw [h]; exact bI_z _) ?_
  intro p e s m args below meth c A Q ls C0 hK hP hD hA hl hret
  obtain ⟨hx, hb, hml, hown, hts⟩ := id C0
  have hS : va_S A s.heap s.heap [] := va_S.rf
  have hP : va_P G.1 vwCl ([] : va_W) s.heap := hP
  have hD : va_D A ([] : va_W) := hD
  have hl : lv_has ls 2 [(0, .int x), (1, .int (nI k))] := hl
  refine lv_iload_n hx hb dX9_has_0 rfl (lv_at hl 0 rfl) ?_
  refine lv_iload_n hx hb dX9_has_1 rfl (lv_at hl 1 rfl) ?_
  refine x_ishr hx hb dX9_has_2 (v := x >>> (nI k &&& 31)) rfl ?_
  refine lv_iconst (v := 1) hx hb dX9_has_3 (by decide) ?_
  refine x_iand hx hb dX9_has_4 (v := (x >>> (nI k &&& 31)) &&& 1) rfl ?_
  refine lv_iconst (v := 1) hx hb dX9_has_5 (by decide) ?_
  refine lv_icmp_ne (tgt := 13) hx hb dX9_has_6 (by decide) (fun c_1 => ?_) (fun c_1 => ?_)
  · skip
    refine lv_iconst (v := 0) hx hb dX9_has_13 (by decide) ?_
    refine hret _ _ _ _ _ _ 0 () dX9_has_14 ?_ hP hD hS (Nat.le_of_ble_eq_true rfl) (Nat.le_of_ble_eq_true rfl)
    exact bI_F (by simpa [hs] using c_1)
  · skip
    refine lv_iconst (v := 1) hx hb dX9_has_9 (by decide) ?_
    refine lv_goto (tgt := 14) hx hb dX9_has_10 (by decide) ?_
    refine hret _ _ _ _ _ _ 1 () dX9_has_14 ?_ hP hD hS (Nat.le_of_ble_eq_true rfl) (Nat.le_of_ble_eq_true rfl)
    exact bI_T (by simpa [hs] using c_1)
set_option maxHeartbeats 4000000 in
set_option maxRecDepth 100000 in
theorem m9_bits (l : Launch) (G : xG) (b : Nat) (hb9 : b < 1024) : xCi l G yX9_bits cX9_bits 3 (some .int) ({ frames := 0, cells := 0, slots := 0, locals := 0 } : Room) [.int (nI b)] ([] : va_W) (S := Unit) (fun v _ => v = nI (pc b)) (fun _ => []) := by
  refine x_openi (by decide) (Nat.le_of_ble_eq_true rfl) (fun _ _ _ => rfl) ?_
  intro p e s m args below meth c A Q ls C0 hK hP hD hA hl hret
  obtain ⟨hx, hb, hml, hown, hts⟩ := id C0
  have hS : va_S A s.heap s.heap [] := va_S.rf
  have hP : va_P G.1 vwCl ([] : va_W) s.heap := hP
  have hD : va_D A ([] : va_W) := hD
  have hl : lv_has ls 3 [(0, .int (nI b))] := hl
  refine lv_iconst (v := 0) hx hb dX9_bits_0 (by decide) ?_
  refine lv_istore_n (lv' := [(1, .int 0), (0, .int (nI b))]) hx hb dX9_bits_1 rfl hl (by decide) rfl (fun ls hl => ?_)
  refine lv_iconst (v := 0) hx hb dX9_bits_2 (by decide) ?_
  refine lv_istore_n (lv' := [(2, .int 0), (1, .int 0), (0, .int (nI b))]) hx hb dX9_bits_3 rfl hl (by decide) rfl (fun ls hl => ?_)
  have loop_4 : ∀ (n : Nat) (i : Nat), (i ≤ 10) → (10 < i + n) → ∀ (H : Heap) (locs : List Loc) (ls : Array Slot), va_P G.1 vwCl ([] : va_W) H → va_D A ([] : va_W) → va_S A s.heap H locs → lv_has ls 3 [(2, .int (nI i)), (1, .int (nI (cn b.testBit i))), (0, .int (nI b))] → W p l e ({ frames := 0, cells := 0, slots := 0, locals := 0 } : Room) s m args below meth c H locs 0 0 Q (F0 m 4 ls []) := by
    intro n
    induction n with
    | zero => intro i hi4_0 hi4_1; exact absurd hi4_1 (by omega)
    | succ n ih_4 =>
      intro i hi4_0 hi4_1 H locs ls hP hD hS hl
      refine lv_iload_n hx hb dX9_bits_4 rfl (lv_at hl 0 rfl) ?_
      refine lv_bipush (v := 10) hx hb dX9_bits_5 (by decide) ?_
      refine lv_icmp_ge (tgt := 24) hx hb dX9_bits_7 (by decide) (fun c_1 => ?_) (fun c_1 => ?_)
      · skip
        have g_1 := (nI_leI (by omega) (by omega)).mp (show nI i ≥ nI 10 from c_1)
        refine lv_iload_n hx hb dX9_bits_24 rfl (lv_at hl 1 rfl) ?_
        refine hret _ _ _ _ _ _ (nI (cn b.testBit i)) () dX9_bits_25 ?_ hP hD hS (Nat.le_of_ble_eq_true rfl) (Nat.le_of_ble_eq_true rfl)
        rw [show i = 10 by omega]
        rfl
      · skip
        have g_1 := mt (nI_leI (by omega) (by omega)).mpr (show ¬ (nI i ≥ nI 10) from c_1)
        refine lv_iload_n hx hb dX9_bits_10 rfl (lv_at hl 1 rfl) ?_
        refine lv_iload_n hx hb dX9_bits_11 rfl (lv_at hl 2 rfl) ?_
        refine lv_iload_n hx hb dX9_bits_12 rfl (lv_at hl 0 rfl) ?_
        refine x_ishr hx hb dX9_bits_13 (v := nI (b / 2 ^ i)) (shr1 hb9 (by omega)) ?_
        refine lv_iconst (v := 1) hx hb dX9_bits_14 (by decide) ?_
        refine x_iand hx hb dX9_bits_15 (v := nI (b / 2 ^ i % 2)) and1 ?_
        refine x_iadd hx hb dX9_bits_16 (v := nI (cn b.testBit (i + 1))) pc_s ?_
        refine lv_istore_n (lv' := [(1, .int (nI (cn b.testBit (i + 1)))), (2, .int (nI i)), (0, .int (nI b))]) hx hb dX9_bits_17 rfl hl (by decide) rfl (fun ls hl => ?_)
        refine lv_iinc (v := nI (i + 1)) (lv' := [(2, .int (nI (i + 1))), (1, .int (nI (cn b.testBit (i + 1)))), (0, .int (nI b))]) hx hb dX9_bits_18 hl (k := 1) rfl (x_inc1 _) (by decide) rfl (fun ls hl => ?_)
        refine lv_goto (tgt := 4) hx hb dX9_bits_21 (by decide) ?_
        exact ih_4 (i + 1) (by omega) (by omega) _ _ _ hP hD hS (lv_sub hl [0, 1, 2] rfl)
  exact loop_4 11 0 (by omega) (by omega) _ _ _ hP hD hS (lv_sub hl [0, 1, 2] rfl)
set_option maxHeartbeats 4000000 in
set_option maxRecDepth 100000 in
theorem m9_copies (l : Launch) (G : xG) (q1 q2 : Nat) (f g0 : Nat → Int32) : xCv l G yX9_copies cX9_copies 3 none ({ frames := 0, cells := 0, slots := 0, locals := 0 } : Room) [.ref q1, .ref q2] ([(q1, .inl (G.2 0, 54, .inl f))] ++ [(q2, .inl (G.2 0, 54, .inl g0))]) (S := Unit) (fun _ => True) (fun _ => ([(q1, .inl (G.2 0, 54, .inl f))] ++ [(q2, .inl (G.2 0, 54, .inl f))])) := by
  refine x_openv (by decide) (Nat.le_of_ble_eq_true rfl) ?_
  intro p e s m args below meth c A Q ls C0 hK hP hD hA hl hret
  obtain ⟨hx, hb, hml, hown, hts⟩ := id C0
  have hS : va_S A s.heap s.heap [] := va_S.rf
  have hP : va_P G.1 vwCl ([(q1, .inl (G.2 0, 54, .inl f))] ++ [(q2, .inl (G.2 0, 54, .inl g0))]) s.heap := hP
  have hD : va_D A ([(q1, .inl (G.2 0, 54, .inl f))] ++ [(q2, .inl (G.2 0, 54, .inl g0))]) := hD
  have hl : lv_has ls 3 [(0, .ref q1), (1, .ref q2)] := hl
  refine lv_iconst (v := 0) hx hb dX9_copies_0 (by decide) ?_
  refine lv_istore_n (lv' := [(2, .int 0), (0, .ref q1), (1, .ref q2)]) hx hb dX9_copies_1 rfl hl (by decide) rfl (fun ls hl => ?_)
  have loop_2 : ∀ (n : Nat) (k : Nat), (k ≤ 54) → (54 < k + n) → ∀ (H : Heap) (locs : List Loc) (ls : Array Slot), va_P G.1 vwCl ([(q1, .inl (G.2 0, 54, .inl f))] ++ [(q2, .inl (G.2 0, 54, .inl (cpF f g0 k)))]) H → va_D A ([(q1, .inl (G.2 0, 54, .inl f))] ++ [(q2, .inl (G.2 0, 54, .inl (cpF f g0 k)))]) → va_S A s.heap H locs → lv_has ls 3 [(2, .int (nI k)), (0, .ref q1), (1, .ref q2)] → W p l e ({ frames := 0, cells := 0, slots := 0, locals := 0 } : Room) s m args below meth c H locs 0 0 Q (F0 m 2 ls []) := by
    intro n
    induction n with
    | zero => intro k hi2_0 hi2_1; exact absurd hi2_1 (by omega)
    | succ n ih_2 =>
      intro k hi2_0 hi2_1 H locs ls hP hD hS hl
      refine lv_iload_n hx hb dX9_copies_2 rfl (lv_at hl 0 rfl) ?_
      refine lv_bipush (v := 54) hx hb dX9_copies_3 (by decide) ?_
      refine lv_icmp_ge (tgt := 20) hx hb dX9_copies_5 (by decide) (fun c_1 => ?_) (fun c_1 => ?_)
      · skip
        have g_1 := (nI_leI (by omega) (by omega)).mp (show nI k ≥ nI 54 from c_1)
        have ek : k = 54 := by omega
        subst ek
        have hP := x_ext hP 1 rfl f (fun j hj => cpF_e f g0 hj)
        have hD := x_Dset hD 1 rfl (.inl (G.2 0, 54, .inl f))
        refine hret _ _ _ _ _ _ () dX9_copies_20 ?_ hP hD hS (Nat.le_of_ble_eq_true rfl) (Nat.le_of_ble_eq_true rfl)
        trivial
      · skip
        have g_1 := mt (nI_leI (by omega) (by omega)).mpr (show ¬ (nI k ≥ nI 54) from c_1)
        refine lv_aload_n hx hb dX9_copies_8 rfl (lv_at hl 2 rfl) ?_
        refine lv_iload_n hx hb dX9_copies_9 rfl (lv_at hl 0 rfl) ?_
        refine lv_aload_n hx hb dX9_copies_10 rfl (lv_at hl 1 rfl) ?_
        refine lv_iload_n hx hb dX9_copies_11 rfl (lv_at hl 0 rfl) ?_
        refine x_ialdn (k := k) hx hb hK.1 hP 0 0 rfl rfl (by omega) (by decide) (v := f k) rfl dX9_copies_12 ?_
        refine x_iastn (k := k) hx hb hK.1 hP hD hS 1 0 rfl rfl (by omega) (by decide) (g := upd (cpF f g0 k) k (f k)) rfl dX9_copies_13 (fun H locs hP hD hS => ?_)
        have hP : va_P G.1 vwCl ([(q1, .inl (G.2 0, 54, .inl f))] ++ [(q2, .inl (G.2 0, 54, .inl (upd (cpF f g0 k) k (f k))))]) H := hP
        have hD : va_D A ([(q1, .inl (G.2 0, 54, .inl f))] ++ [(q2, .inl (G.2 0, 54, .inl (upd (cpF f g0 k) k (f k))))]) := hD
        refine lv_iinc (v := nI (k + 1)) (lv' := [(2, .int (nI (k + 1))), (0, .ref q1), (1, .ref q2)]) hx hb dX9_copies_14 hl (k := 0) rfl (x_inc1 _) (by decide) rfl (fun ls hl => ?_)
        refine lv_goto (tgt := 2) hx hb dX9_copies_17 (by decide) ?_
        rw [cpF_s] at hP hD
        exact ih_2 (k + 1) (by omega) (by omega) _ _ _ hP hD hS (lv_sub hl [0, 1, 2] rfl)
  exact loop_2 55 0 (by omega) (by omega) _ _ _ (by rw [cpF_0]; exact hP) (by rw [cpF_0]; exact hD) hS (lv_sub hl [0, 1, 2] rfl)
set_option maxHeartbeats 4000000 in
set_option maxRecDepth 100000 in
theorem m9_stands (l : Launch) (G : xG) (q : Nat) (r : Rw) (hr : Ok r) (k : Nat) (hk1 : k < 10) : xCi l G yX9_stands cX9_stands 2 (some .boolean) ({ frames := 1, cells := 0, slots := 0, locals := 21 } : Room) [.ref q, .int (nI k)] ([(q, .inl (G.2 0, 54, .inl (row r)))]) (S := Unit) (fun v _ => v = bI (pSt r k)) (fun _ => ([(q, .inl (G.2 0, 54, .inl (row r)))])) := by
  refine x_openi (by decide) (Nat.le_of_ble_eq_true rfl) (fun _ _ h => by rw [h]; exact bI_z _) ?_
  intro p e s m args below meth c A Q ls C0 hK hP hD hA hl hret
  obtain ⟨hx, hb, hml, hown, hts⟩ := id C0
  have hS : va_S A s.heap s.heap [] := va_S.rf
  have hP : va_P G.1 vwCl ([(q, .inl (G.2 0, 54, .inl (row r)))]) s.heap := hP
  have hD : va_D A ([(q, .inl (G.2 0, 54, .inl (row r)))]) := hD
  have hl : lv_has ls 2 [(0, .ref q), (1, .int (nI k))] := hl
  have hr0 := hr.n
  have hN := hr.le
  refine lv_aload_n hx hb dX9_stands_0 rfl (lv_at hl 0 rfl) ?_
  refine lv_iload_n hx hb dX9_stands_1 rfl (lv_at hl 1 rfl) ?_
  refine lv_iconst (v := 3) hx hb dX9_stands_2 (by decide) ?_
  refine x_Si (wN := fun _ => ([(q, .inl (G.2 0, 54, .inl (row r)))])) ⟨C0, hK, hP, hD, hS, hA⟩ ((m9_of l G k 3)) (va_cwS 2 hts (lw_S q1254 q1255 q95 q1256) rfl rfl rfl (by decide +kernel) ⟨Nat.le_of_ble_eq_true rfl, Nat.le_of_ble_eq_true rfl⟩) [] [0] rfl (fun _ => rfl) rfl rfl hl.1 rfl (Nat.le_of_ble_eq_true rfl) dX9_stands_3 ⟨(Nat.le_of_ble_eq_true rfl), (Nat.le_of_ble_eq_true rfl)⟩ (fun r_1 u_1 H locs hw_1 hP hD hS => ?_)
  have hw_1 : (nI (4 + 5 * k + 3) : Int32) = r_1 := hw_1.symm
  subst hw_1
  refine x_ialdn (k := (4 + 5 * k + 3)) hx hb hK.1 hP 0 0 rfl rfl (by omega) (by decide) (v := (r 3) k) (row_at _ (by decide)) dX9_stands_6 ?_
  refine lv_if_ne (tgt := 14) hx hb dX9_stands_7 (by decide) (fun c_2 => ?_) (fun c_2 => ?_)
  · skip
    refine lv_iconst (v := 0) hx hb dX9_stands_14 (by decide) ?_
    refine hret _ _ _ _ _ _ 0 () dX9_stands_15 ?_ hP hD hS (Nat.le_of_ble_eq_true rfl) (Nat.le_of_ble_eq_true rfl)
    exact bI_F (decide_eq_false c_2)
  · skip
    refine lv_iconst (v := 1) hx hb dX9_stands_10 (by decide) ?_
    refine lv_goto (tgt := 15) hx hb dX9_stands_11 (by decide) ?_
    refine hret _ _ _ _ _ _ 1 () dX9_stands_15 ?_ hP hD hS (Nat.le_of_ble_eq_true rfl) (Nat.le_of_ble_eq_true rfl)
    exact bI_T (decide_eq_true c_2)
set_option maxHeartbeats 4000000 in
set_option maxRecDepth 100000 in
theorem m9_grip (l : Launch) (G : xG) (q : Nat) (r : Rw) (hr : Ok r) (k : Nat) (hk1 : k < mny r) : xCi l G yX9_grip cX9_grip 3 (some .int) ({ frames := 1, cells := 0, slots := 0, locals := 21 } : Room) [.ref q, .int (nI k)] ([(q, .inl (G.2 0, 54, .inl (row r)))]) (S := Unit) (fun v _ => v = pGrip (r 0 k) (r 1 k)) (fun _ => ([(q, .inl (G.2 0, 54, .inl (row r)))])) := by
  refine x_openi (by decide) (Nat.le_of_ble_eq_true rfl) (fun _ _ _ => rfl) ?_
  intro p e s m args below meth c A Q ls C0 hK hP hD hA hl hret
  obtain ⟨hx, hb, hml, hown, hts⟩ := id C0
  have hS : va_S A s.heap s.heap [] := va_S.rf
  have hP : va_P G.1 vwCl ([(q, .inl (G.2 0, 54, .inl (row r)))]) s.heap := hP
  have hD : va_D A ([(q, .inl (G.2 0, 54, .inl (row r)))]) := hD
  have hl : lv_has ls 3 [(0, .ref q), (1, .int (nI k))] := hl
  have hr0 := hr.n
  have hN := hr.le
  refine lv_aload_n hx hb dX9_grip_0 rfl (lv_at hl 0 rfl) ?_
  refine lv_iload_n hx hb dX9_grip_1 rfl (lv_at hl 1 rfl) ?_
  refine lv_iconst (v := 1) hx hb dX9_grip_2 (by decide) ?_
  refine x_Si (wN := fun _ => ([(q, .inl (G.2 0, 54, .inl (row r)))])) ⟨C0, hK, hP, hD, hS, hA⟩ ((m9_of l G k 1)) (va_cwS 2 hts (lw_S q1254 q1255 q95 q1256) rfl rfl rfl (by decide +kernel) ⟨Nat.le_of_ble_eq_true rfl, Nat.le_of_ble_eq_true rfl⟩) [] [0] rfl (fun _ => rfl) rfl rfl hl.1 rfl (Nat.le_of_ble_eq_true rfl) dX9_grip_3 ⟨(Nat.le_of_ble_eq_true rfl), (Nat.le_of_ble_eq_true rfl)⟩ (fun r_1 u_1 H locs hw_1 hP hD hS => ?_)
  have hw_1 : (nI (4 + 5 * k + 1) : Int32) = r_1 := hw_1.symm
  subst hw_1
  refine x_ialdn (k := (4 + 5 * k + 1)) hx hb hK.1 hP 0 0 rfl rfl (by omega) (by decide) (v := (r 1) k) (row_at _ (by decide)) dX9_grip_6 ?_
  refine lv_istore_n (lv' := [(2, .int ((r 1) k)), (0, .ref q), (1, .int (nI k))]) hx hb dX9_grip_7 rfl hl (by decide) rfl (fun ls hl => ?_)
  refine lv_aload_n hx hb dX9_grip_8 rfl (lv_at hl 1 rfl) ?_
  refine lv_iload_n hx hb dX9_grip_9 rfl (lv_at hl 2 rfl) ?_
  refine lv_iconst (v := 0) hx hb dX9_grip_10 (by decide) ?_
  refine x_Si (wN := fun _ => ([(q, .inl (G.2 0, 54, .inl (row r)))])) ⟨C0, hK, hP, hD, hS, hA⟩ ((m9_of l G k 0)) (va_cwS 2 hts (lw_S q1254 q1255 q95 q1256) rfl rfl rfl (by decide +kernel) ⟨Nat.le_of_ble_eq_true rfl, Nat.le_of_ble_eq_true rfl⟩) [] [0] rfl (fun _ => rfl) rfl rfl hl.1 rfl (Nat.le_of_ble_eq_true rfl) dX9_grip_11 ⟨(Nat.le_of_ble_eq_true rfl), (Nat.le_of_ble_eq_true rfl)⟩ (fun r_2 u_2 H locs hw_2 hP hD hS => ?_)
  have hw_2 : (nI (4 + 5 * k + 0) : Int32) = r_2 := hw_2.symm
  subst hw_2
  refine x_ialdn (k := (4 + 5 * k + 0)) hx hb hK.1 hP 0 0 rfl rfl (by omega) (by decide) (v := (r 0) k) (row_at _ (by decide)) dX9_grip_14 ?_
  obtain ⟨c0, hc0, ec0⟩ := hr.kd hk1
  rw [ec0]
  rcases (show c0 = 0 ∨ c0 = 1 ∨ c0 = 2 ∨ c0 = 3 ∨ c0 = 4 ∨ c0 = 5 by omega) with rfl | rfl | rfl | rfl | rfl | rfl
  · skip
    refine lv_tableOut (tgt := 64) hx hb dX9_grip_15 (by decide) (by decide) ?_
    refine lv_iload_n hx hb dX9_grip_64 rfl (lv_at hl 0 rfl) ?_
    refine hret _ _ _ _ _ _ ((r 1) k) () dX9_grip_65 ?_ hP hD hS (Nat.le_of_ble_eq_true rfl) (Nat.le_of_ble_eq_true rfl)
    rw [ec0]
    rfl
  · skip
    refine lv_tableIn (tgt := 48) hx hb dX9_grip_15 (by decide) (by decide) rfl (by decide) ?_
    refine lv_bipush (v := 9) hx hb dX9_grip_48 (by decide) ?_
    refine lv_iload_n hx hb dX9_grip_50 rfl (lv_at hl 0 rfl) ?_
    refine x_isub hx hb dX9_grip_51 (v := 9 - ((r 1) k)) rfl ?_
    refine hret _ _ _ _ _ _ (9 - ((r 1) k)) () dX9_grip_52 ?_ hP hD hS (Nat.le_of_ble_eq_true rfl) (Nat.le_of_ble_eq_true rfl)
    rw [ec0]
    rfl
  · skip
    refine lv_tableIn (tgt := 53) hx hb dX9_grip_15 (by decide) (by decide) rfl (by decide) ?_
    refine lv_iload_n hx hb dX9_grip_53 rfl (lv_at hl 0 rfl) ?_
    refine lv_iconst (v := 2) hx hb dX9_grip_54 (by decide) ?_
    refine x_idiv hx hb dX9_grip_55 (by decide) (v := ((r 1) k) / 2) rfl ?_
    refine hret _ _ _ _ _ _ (((r 1) k) / 2) () dX9_grip_56 ?_ hP hD hS (Nat.le_of_ble_eq_true rfl) (Nat.le_of_ble_eq_true rfl)
    rw [ec0]
    rfl
  · skip
    refine lv_tableIn (tgt := 57) hx hb dX9_grip_15 (by decide) (by decide) rfl (by decide) ?_
    refine lv_iconst (v := 0) hx hb dX9_grip_57 (by decide) ?_
    refine hret _ _ _ _ _ _ 0 () dX9_grip_58 ?_ hP hD hS (Nat.le_of_ble_eq_true rfl) (Nat.le_of_ble_eq_true rfl)
    rw [ec0]
    rfl
  · skip
    refine lv_tableIn (tgt := 53) hx hb dX9_grip_15 (by decide) (by decide) rfl (by decide) ?_
    refine lv_iload_n hx hb dX9_grip_53 rfl (lv_at hl 0 rfl) ?_
    refine lv_iconst (v := 2) hx hb dX9_grip_54 (by decide) ?_
    refine x_idiv hx hb dX9_grip_55 (by decide) (v := ((r 1) k) / 2) rfl ?_
    refine hret _ _ _ _ _ _ (((r 1) k) / 2) () dX9_grip_56 ?_ hP hD hS (Nat.le_of_ble_eq_true rfl) (Nat.le_of_ble_eq_true rfl)
    rw [ec0]
    rfl
  · skip
    refine lv_tableIn (tgt := 59) hx hb dX9_grip_15 (by decide) (by decide) rfl (by decide) ?_
    refine lv_bipush (v := 10) hx hb dX9_grip_59 (by decide) ?_
    refine lv_iload_n hx hb dX9_grip_61 rfl (lv_at hl 0 rfl) ?_
    refine x_isub hx hb dX9_grip_62 (v := 10 - ((r 1) k)) rfl ?_
    refine hret _ _ _ _ _ _ (10 - ((r 1) k)) () dX9_grip_63 ?_ hP hD hS (Nat.le_of_ble_eq_true rfl) (Nat.le_of_ble_eq_true rfl)
    rw [ec0]
    rfl
set_option maxHeartbeats 4000000 in
set_option maxRecDepth 100000 in
theorem m9_setOf (l : Launch) (G : xG) (q : Nat) (r : Rw) (hr : Ok r) (w : Int32) : xCi l G yX9_setOf cX9_setOf 4 (some .int) ({ frames := 1, cells := 0, slots := 0, locals := 21 } : Room) [.ref q, .int w] ([(q, .inl (G.2 0, 54, .inl (row r)))]) (S := Unit) (fun v _ => v = pSet r w) (fun _ => ([(q, .inl (G.2 0, 54, .inl (row r)))])) := by
  refine x_openi (by decide) (Nat.le_of_ble_eq_true rfl) (fun _ _ _ => rfl) ?_
  intro p e s m args below meth c A Q ls C0 hK hP hD hA hl hret
  obtain ⟨hx, hb, hml, hown, hts⟩ := id C0
  have hS : va_S A s.heap s.heap [] := va_S.rf
  have hP : va_P G.1 vwCl ([(q, .inl (G.2 0, 54, .inl (row r)))]) s.heap := hP
  have hD : va_D A ([(q, .inl (G.2 0, 54, .inl (row r)))]) := hD
  have hl : lv_has ls 4 [(0, .ref q), (1, .int w)] := hl
  have hr0 := hr.n
  have hN := hr.le
  refine lv_iconst (v := 0) hx hb dX9_setOf_0 (by decide) ?_
  refine lv_istore_n (lv' := [(2, .int 0), (0, .ref q), (1, .int w)]) hx hb dX9_setOf_1 rfl hl (by decide) rfl (fun ls hl => ?_)
  refine lv_iconst (v := 0) hx hb dX9_setOf_2 (by decide) ?_
  refine lv_istore_n (lv' := [(3, .int 0), (2, .int 0), (0, .ref q), (1, .int w)]) hx hb dX9_setOf_3 rfl hl (by decide) rfl (fun ls hl => ?_)
  have loop_4 : ∀ (n : Nat) (i : Nat), (i ≤ mny r) → (mny r < i + n) → ∀ (H : Heap) (locs : List Loc) (ls : Array Slot), va_P G.1 vwCl ([(q, .inl (G.2 0, 54, .inl (row r)))]) H → va_D A ([(q, .inl (G.2 0, 54, .inl (row r)))]) → va_S A s.heap H locs → lv_has ls 4 [(3, .int (nI i)), (2, .int (bs (pHow r w) i)), (0, .ref q), (1, .int w)] → W p l e ({ frames := 1, cells := 0, slots := 0, locals := 21 } : Room) s m args below meth c H locs 0 0 Q (F0 m 4 ls []) := by
    intro n
    induction n with
    | zero => intro i hi4_0 hi4_1; exact absurd hi4_1 (by omega)
    | succ n ih_4 =>
      intro i hi4_0 hi4_1 H locs ls hP hD hS hl
      refine lv_iload_n hx hb dX9_setOf_4 rfl (lv_at hl 0 rfl) ?_
      refine lv_aload_n hx hb dX9_setOf_5 rfl (lv_at hl 2 rfl) ?_
      refine lv_iconst (v := 0) hx hb dX9_setOf_6 (by decide) ?_
      refine x_ialdn (k := 0) hx hb hK.1 hP 0 0 rfl rfl (by decide) (by decide) (v := nI (mny r)) (hr0) dX9_setOf_7 ?_
      refine lv_icmp_ge (tgt := 38) hx hb dX9_setOf_8 (by decide) (fun c_1 => ?_) (fun c_1 => ?_)
      · skip
        have g_1 := (nI_leI (by omega) (by omega)).mp c_1
        refine lv_iload_n hx hb dX9_setOf_38 rfl (lv_at hl 1 rfl) ?_
        refine hret _ _ _ _ _ _ (bs (pHow r w) i) () dX9_setOf_39 ?_ hP hD hS (Nat.le_of_ble_eq_true rfl) (Nat.le_of_ble_eq_true rfl)
        show bs (pHow r w) i = bs (pHow r w) (mny r)
        rw [show i = mny r by omega]
      · skip
        have g_1 := mt (nI_leI (by omega) (by omega)).mpr c_1
        refine lv_iload_n hx hb dX9_setOf_11 rfl (lv_at hl 1 rfl) ?_
        refine lv_aload_n hx hb dX9_setOf_12 rfl (lv_at hl 2 rfl) ?_
        refine lv_iload_n hx hb dX9_setOf_13 rfl (lv_at hl 0 rfl) ?_
        refine lv_iconst (v := 3) hx hb dX9_setOf_14 (by decide) ?_
        refine x_Si (wN := fun _ => ([(q, .inl (G.2 0, 54, .inl (row r)))])) ⟨C0, hK, hP, hD, hS, hA⟩ ((m9_of l G i 3)) (va_cwS 2 hts (lw_S q1254 q1255 q95 q1256) rfl rfl rfl (by decide +kernel) ⟨Nat.le_of_ble_eq_true rfl, Nat.le_of_ble_eq_true rfl⟩) [] [0] rfl (fun _ => rfl) rfl rfl hl.1 rfl (Nat.le_of_ble_eq_true rfl) dX9_setOf_15 ⟨(Nat.le_of_ble_eq_true rfl), (Nat.le_of_ble_eq_true rfl)⟩ (fun r_2 u_2 H locs hw_2 hP hD hS => ?_)
        have hw_2 : (nI (4 + 5 * i + 3) : Int32) = r_2 := hw_2.symm
        subst hw_2
        refine x_ialdn (k := (4 + 5 * i + 3)) hx hb hK.1 hP 0 0 rfl rfl (by omega) (by decide) (v := (r 3) i) (row_at _ (by decide)) dX9_setOf_18 ?_
        refine lv_iload_n hx hb dX9_setOf_19 rfl (lv_at hl 3 rfl) ?_
        refine lv_icmp_ne (tgt := 29) hx hb dX9_setOf_20 (by decide) (fun c_3 => ?_) (fun c_3 => ?_)
        · skip
          refine lv_iconst (v := 0) hx hb dX9_setOf_29 (by decide) ?_
          refine x_ior hx hb dX9_setOf_30 (v := bs (pHow r w) (i + 1)) (bs_f (by simpa [pHow] using c_3)) ?_
          refine lv_istore_n (lv' := [(2, .int (bs (pHow r w) (i + 1))), (3, .int (nI i)), (0, .ref q), (1, .int w)]) hx hb dX9_setOf_31 rfl hl (by decide) rfl (fun ls hl => ?_)
          refine lv_iinc (v := nI (i + 1)) (lv' := [(3, .int (nI (i + 1))), (2, .int (bs (pHow r w) (i + 1))), (0, .ref q), (1, .int w)]) hx hb dX9_setOf_32 hl (k := 1) rfl (x_inc1 _) (by decide) rfl (fun ls hl => ?_)
          refine lv_goto (tgt := 4) hx hb dX9_setOf_35 (by decide) ?_
          exact ih_4 (i + 1) (by omega) (by omega) _ _ _ hP hD hS (lv_sub hl [0, 1, 2, 3] rfl)
        · skip
          refine lv_iconst (v := 1) hx hb dX9_setOf_23 (by decide) ?_
          refine lv_iload_n hx hb dX9_setOf_24 rfl (lv_at hl 0 rfl) ?_
          refine x_ishl hx hb dX9_setOf_25 (v := b1 i) rfl ?_
          refine lv_goto (tgt := 30) hx hb dX9_setOf_26 (by decide) ?_
          refine x_ior hx hb dX9_setOf_30 (v := bs (pHow r w) (i + 1)) (bs_t (by simpa [pHow] using c_3)) ?_
          refine lv_istore_n (lv' := [(2, .int (bs (pHow r w) (i + 1))), (3, .int (nI i)), (0, .ref q), (1, .int w)]) hx hb dX9_setOf_31 rfl hl (by decide) rfl (fun ls hl => ?_)
          refine lv_iinc (v := nI (i + 1)) (lv' := [(3, .int (nI (i + 1))), (2, .int (bs (pHow r w) (i + 1))), (0, .ref q), (1, .int w)]) hx hb dX9_setOf_32 hl (k := 1) rfl (x_inc1 _) (by decide) rfl (fun ls hl => ?_)
          refine lv_goto (tgt := 4) hx hb dX9_setOf_35 (by decide) ?_
          exact ih_4 (i + 1) (by omega) (by omega) _ _ _ hP hD hS (lv_sub hl [0, 1, 2, 3] rfl)
  exact loop_4 (mny r + 1) 0 (Nat.zero_le _) (by omega) _ _ _ hP hD hS (lv_sub hl [0, 1, 2, 3] rfl)
set_option maxHeartbeats 4000000 in
set_option maxRecDepth 100000 in
theorem m9_habit (l : Launch) (G : xG) (q : Nat) (r : Rw) (hr : Ok r) (k : Nat) (b : Bool) (hk1 : k < mny r) : xCi l G yX9_habit cX9_habit 4 (some .int) ({ frames := 1, cells := 0, slots := 0, locals := 21 } : Room) [.ref q, .int (nI k), .int (bI b)] ([(q, .inl (G.2 0, 54, .inl (row r)))]) (S := Unit) (fun v _ => v = pHabit (r 0 k) (r 1 k) b) (fun _ => ([(q, .inl (G.2 0, 54, .inl (row r)))])) := by
  refine x_openi (by decide) (Nat.le_of_ble_eq_true rfl) (fun _ _ _ => rfl) ?_
  intro p e s m args below meth c A Q ls C0 hK hP hD hA hl hret
  obtain ⟨hx, hb, hml, hown, hts⟩ := id C0
  have hS : va_S A s.heap s.heap [] := va_S.rf
  have hP : va_P G.1 vwCl ([(q, .inl (G.2 0, 54, .inl (row r)))]) s.heap := hP
  have hD : va_D A ([(q, .inl (G.2 0, 54, .inl (row r)))]) := hD
  have hl : lv_has ls 4 [(0, .ref q), (1, .int (nI k)), (2, .int (bI b))] := hl
  have hr0 := hr.n
  have hN := hr.le
  refine lv_aload_n hx hb dX9_habit_0 rfl (lv_at hl 0 rfl) ?_
  refine lv_iload_n hx hb dX9_habit_1 rfl (lv_at hl 1 rfl) ?_
  refine lv_iconst (v := 1) hx hb dX9_habit_2 (by decide) ?_
  refine x_Si (wN := fun _ => ([(q, .inl (G.2 0, 54, .inl (row r)))])) ⟨C0, hK, hP, hD, hS, hA⟩ ((m9_of l G k 1)) (va_cwS 2 hts (lw_S q1254 q1255 q95 q1256) rfl rfl rfl (by decide +kernel) ⟨Nat.le_of_ble_eq_true rfl, Nat.le_of_ble_eq_true rfl⟩) [] [0] rfl (fun _ => rfl) rfl rfl hl.1 rfl (Nat.le_of_ble_eq_true rfl) dX9_habit_3 ⟨(Nat.le_of_ble_eq_true rfl), (Nat.le_of_ble_eq_true rfl)⟩ (fun r_1 u_1 H locs hw_1 hP hD hS => ?_)
  have hw_1 : (nI (4 + 5 * k + 1) : Int32) = r_1 := hw_1.symm
  subst hw_1
  refine x_ialdn (k := (4 + 5 * k + 1)) hx hb hK.1 hP 0 0 rfl rfl (by omega) (by decide) (v := (r 1) k) (row_at _ (by decide)) dX9_habit_6 ?_
  refine lv_istore_n (lv' := [(3, .int ((r 1) k)), (0, .ref q), (1, .int (nI k)), (2, .int (bI b))]) hx hb dX9_habit_7 rfl hl (by decide) rfl (fun ls hl => ?_)
  refine lv_aload_n hx hb dX9_habit_8 rfl (lv_at hl 1 rfl) ?_
  refine lv_iload_n hx hb dX9_habit_9 rfl (lv_at hl 2 rfl) ?_
  refine lv_iconst (v := 0) hx hb dX9_habit_10 (by decide) ?_
  refine x_Si (wN := fun _ => ([(q, .inl (G.2 0, 54, .inl (row r)))])) ⟨C0, hK, hP, hD, hS, hA⟩ ((m9_of l G k 0)) (va_cwS 2 hts (lw_S q1254 q1255 q95 q1256) rfl rfl rfl (by decide +kernel) ⟨Nat.le_of_ble_eq_true rfl, Nat.le_of_ble_eq_true rfl⟩) [] [0] rfl (fun _ => rfl) rfl rfl hl.1 rfl (Nat.le_of_ble_eq_true rfl) dX9_habit_11 ⟨(Nat.le_of_ble_eq_true rfl), (Nat.le_of_ble_eq_true rfl)⟩ (fun r_2 u_2 H locs hw_2 hP hD hS => ?_)
  have hw_2 : (nI (4 + 5 * k + 0) : Int32) = r_2 := hw_2.symm
  subst hw_2
  refine x_ialdn (k := (4 + 5 * k + 0)) hx hb hK.1 hP 0 0 rfl rfl (by omega) (by decide) (v := (r 0) k) (row_at _ (by decide)) dX9_habit_14 ?_
  obtain ⟨c0, hc0, ec0⟩ := hr.kd hk1
  rw [ec0]
  rcases (show c0 = 0 ∨ c0 = 1 ∨ c0 = 2 ∨ c0 = 3 ∨ c0 = 4 ∨ c0 = 5 by omega) with rfl | rfl | rfl | rfl | rfl | rfl
  · skip
    refine lv_tableOut (tgt := 99) hx hb dX9_habit_15 (by decide) (by decide) ?_
    refine lv_iload_n hx hb dX9_habit_99 rfl (lv_at hl 0 rfl) ?_
    refine lv_iconst (v := 3) hx hb dX9_habit_100 (by decide) ?_
    refine x_idiv hx hb dX9_habit_101 (by decide) (v := ((r 1) k) / 3) rfl ?_
    refine hret _ _ _ _ _ _ (((r 1) k) / 3) () dX9_habit_102 ?_ hP hD hS (Nat.le_of_ble_eq_true rfl) (Nat.le_of_ble_eq_true rfl)
    rw [ec0]
    rfl
  · skip
    refine lv_tableIn (tgt := 48) hx hb dX9_habit_15 (by decide) (by decide) rfl (by decide) ?_
    refine lv_iconst (v := 0) hx hb dX9_habit_48 (by decide) ?_
    refine lv_iload_n hx hb dX9_habit_49 rfl (lv_at hl 0 rfl) ?_
    refine lv_iconst (v := 3) hx hb dX9_habit_50 (by decide) ?_
    refine x_idiv hx hb dX9_habit_51 (by decide) (v := ((r 1) k) / 3) rfl ?_
    refine lv_iconst (v := 1) hx hb dX9_habit_52 (by decide) ?_
    refine x_isub hx hb dX9_habit_53 (v := (((r 1) k) / 3) - 1) rfl ?_
    refine x_Si (wN := fun _ => ([(q, .inl (G.2 0, 54, .inl (row r)))])) ⟨C0, hK, hP, hD, hS, hA⟩ ((m9_most l G 0 ((((r 1) k) / 3) - 1))) (va_cwS 2 hts (lw_S q1287 q1288 q95 q1289) rfl rfl rfl (by decide +kernel) ⟨Nat.le_of_ble_eq_true rfl, Nat.le_of_ble_eq_true rfl⟩) [] [0] rfl (fun _ => rfl) rfl rfl hl.1 rfl (Nat.le_of_ble_eq_true rfl) dX9_habit_54 ⟨(Nat.le_of_ble_eq_true rfl), (Nat.le_of_ble_eq_true rfl)⟩ (fun r_3 u_3 H locs hw_3 hP hD hS => ?_)
    have hw_3 : (if (((r 1) k) / 3) - 1 < (0 : Int32) then 0 else (((r 1) k) / 3) - 1 : Int32) = r_3 := hw_3.symm
    subst hw_3
    refine hret _ _ _ _ _ _ (if (((r 1) k) / 3) - 1 < (0 : Int32) then 0 else (((r 1) k) / 3) - 1) () dX9_habit_57 ?_ hP hD hS (Nat.le_of_ble_eq_true rfl) (Nat.le_of_ble_eq_true rfl)
    rw [ec0]
    rfl
  · skip
    refine lv_tableIn (tgt := 58) hx hb dX9_habit_15 (by decide) (by decide) rfl (by decide) ?_
    refine lv_iload_n hx hb dX9_habit_58 rfl (lv_at hl 0 rfl) ?_
    refine lv_iconst (v := 3) hx hb dX9_habit_59 (by decide) ?_
    refine x_idiv hx hb dX9_habit_60 (by decide) (v := ((r 1) k) / 3) rfl ?_
    refine lv_iload_n hx hb dX9_habit_61 rfl (lv_at hl 0 rfl) ?_
    refine x_iadd hx hb dX9_habit_62 (v := (((r 1) k) / 3) + ((r 1) k)) rfl ?_
    refine hret _ _ _ _ _ _ ((((r 1) k) / 3) + ((r 1) k)) () dX9_habit_63 ?_ hP hD hS (Nat.le_of_ble_eq_true rfl) (Nat.le_of_ble_eq_true rfl)
    rw [ec0]
    rfl
  · skip
    refine lv_tableIn (tgt := 64) hx hb dX9_habit_15 (by decide) (by decide) rfl (by decide) ?_
    refine lv_iload_n hx hb dX9_habit_64 rfl (lv_at hl 0 rfl) ?_
    refine lv_iconst (v := 3) hx hb dX9_habit_65 (by decide) ?_
    refine x_idiv hx hb dX9_habit_66 (by decide) (v := ((r 1) k) / 3) rfl ?_
    refine lv_iload_n hx hb dX9_habit_67 rfl (lv_at hl 0 rfl) ?_
    refine x_iadd hx hb dX9_habit_68 (v := (((r 1) k) / 3) + ((r 1) k)) rfl ?_
    refine lv_bipush (v := 20) hx hb dX9_habit_69 (by decide) ?_
    refine x_iadd hx hb dX9_habit_71 (v := ((((r 1) k) / 3) + ((r 1) k)) + 20) rfl ?_
    refine hret _ _ _ _ _ _ (((((r 1) k) / 3) + ((r 1) k)) + 20) () dX9_habit_72 ?_ hP hD hS (Nat.le_of_ble_eq_true rfl) (Nat.le_of_ble_eq_true rfl)
    rw [ec0]
    rfl
  · skip
    refine lv_tableIn (tgt := 73) hx hb dX9_habit_15 (by decide) (by decide) rfl (by decide) ?_
    refine lv_iload_n hx hb dX9_habit_73 rfl (lv_at hl 3 rfl) ?_
    refine lv_if_eq (tgt := 81) hx hb dX9_habit_74 (by decide) (fun c_4 => ?_) (fun c_4 => ?_)
    · skip
      refine lv_iload_n hx hb dX9_habit_81 rfl (lv_at hl 0 rfl) ?_
      refine lv_iconst (v := 3) hx hb dX9_habit_82 (by decide) ?_
      refine x_idiv hx hb dX9_habit_83 (by decide) (v := ((r 1) k) / 3) rfl ?_
      refine lv_iload_n hx hb dX9_habit_84 rfl (lv_at hl 0 rfl) ?_
      refine x_iadd hx hb dX9_habit_85 (v := (((r 1) k) / 3) + ((r 1) k)) rfl ?_
      refine hret _ _ _ _ _ _ ((((r 1) k) / 3) + ((r 1) k)) () dX9_habit_86 ?_ hP hD hS (Nat.le_of_ble_eq_true rfl) (Nat.le_of_ble_eq_true rfl)
      rw [ec0]
      simp only [bI_0, Bool.not_eq_false] at c_4
      show _ = if b = true then 0 else _
      rw [if_neg (by rw [c_4]; decide)]
    · skip
      refine lv_iconst (v := 0) hx hb dX9_habit_77 (by decide) ?_
      refine lv_goto (tgt := 86) hx hb dX9_habit_78 (by decide) ?_
      refine hret _ _ _ _ _ _ 0 () dX9_habit_86 ?_ hP hD hS (Nat.le_of_ble_eq_true rfl) (Nat.le_of_ble_eq_true rfl)
      rw [ec0]
      simp only [bI_0, Bool.not_eq_false] at c_4
      show _ = if b = true then 0 else _
      rw [if_pos c_4]
  · skip
    refine lv_tableIn (tgt := 87) hx hb dX9_habit_15 (by decide) (by decide) rfl (by decide) ?_
    refine lv_iconst (v := 0) hx hb dX9_habit_87 (by decide) ?_
    refine lv_iload_n hx hb dX9_habit_88 rfl (lv_at hl 0 rfl) ?_
    refine lv_iconst (v := 3) hx hb dX9_habit_89 (by decide) ?_
    refine x_idiv hx hb dX9_habit_90 (by decide) (v := ((r 1) k) / 3) rfl ?_
    refine lv_iconst (v := 1) hx hb dX9_habit_91 (by decide) ?_
    refine x_isub hx hb dX9_habit_92 (v := (((r 1) k) / 3) - 1) rfl ?_
    refine x_Si (wN := fun _ => ([(q, .inl (G.2 0, 54, .inl (row r)))])) ⟨C0, hK, hP, hD, hS, hA⟩ ((m9_most l G 0 ((((r 1) k) / 3) - 1))) (va_cwS 2 hts (lw_S q1287 q1288 q95 q1289) rfl rfl rfl (by decide +kernel) ⟨Nat.le_of_ble_eq_true rfl, Nat.le_of_ble_eq_true rfl⟩) [] [0] rfl (fun _ => rfl) rfl rfl hl.1 rfl (Nat.le_of_ble_eq_true rfl) dX9_habit_93 ⟨(Nat.le_of_ble_eq_true rfl), (Nat.le_of_ble_eq_true rfl)⟩ (fun r_5 u_5 H locs hw_5 hP hD hS => ?_)
    have hw_5 : (if (((r 1) k) / 3) - 1 < (0 : Int32) then 0 else (((r 1) k) / 3) - 1 : Int32) = r_5 := hw_5.symm
    subst hw_5
    refine lv_iconst (v := 2) hx hb dX9_habit_96 (by decide) ?_
    refine x_iadd hx hb dX9_habit_97 (v := (if (((r 1) k) / 3) - 1 < (0 : Int32) then 0 else (((r 1) k) / 3) - 1) + 2) rfl ?_
    refine hret _ _ _ _ _ _ ((if (((r 1) k) / 3) - 1 < (0 : Int32) then 0 else (((r 1) k) / 3) - 1) + 2) () dX9_habit_98 ?_ hP hD hS (Nat.le_of_ble_eq_true rfl) (Nat.le_of_ble_eq_true rfl)
    rw [ec0]
    rfl
set_option maxHeartbeats 4000000 in
set_option maxRecDepth 100000 in
theorem m9_isHeld (l : Launch) (G : xG) (q : Nat) (r : Rw) (hr : Ok r) (k : Nat) (hk1 : k < mny r) : xCi l G yX9_isHeld cX9_isHeld 3 (some .boolean) ({ frames := 2, cells := 0, slots := 0, locals := 42 } : Room) [.ref q, .int (nI k)] ([(q, .inl (G.2 0, 54, .inl (row r)))]) (S := Unit) (fun v _ => v = bI (pHl r k)) (fun _ => ([(q, .inl (G.2 0, 54, .inl (row r)))])) := by
  refine x_openi (by decide) (Nat.le_of_ble_eq_true rfl) (fun _ _ h => by rw [h]; exact bI_z _) ?_
  intro p e s m args below meth c A Q ls C0 hK hP hD hA hl hret
  obtain ⟨hx, hb, hml, hown, hts⟩ := id C0
  have hS : va_S A s.heap s.heap [] := va_S.rf
  have hP : va_P G.1 vwCl ([(q, .inl (G.2 0, 54, .inl (row r)))]) s.heap := hP
  have hD : va_D A ([(q, .inl (G.2 0, 54, .inl (row r)))]) := hD
  have hl : lv_has ls 3 [(0, .ref q), (1, .int (nI k))] := hl
  have hr0 := hr.n
  have hN := hr.le
  refine lv_aload_n hx hb dX9_isHeld_0 rfl (lv_at hl 0 rfl) ?_
  refine lv_iload_n hx hb dX9_isHeld_1 rfl (lv_at hl 1 rfl) ?_
  refine lv_iconst (v := 2) hx hb dX9_isHeld_2 (by decide) ?_
  refine x_Si (wN := fun _ => ([(q, .inl (G.2 0, 54, .inl (row r)))])) ⟨C0, hK, hP, hD, hS, hA⟩ ((m9_of l G k 2)) (va_cwS 2 hts (lw_S q1254 q1255 q95 q1256) rfl rfl rfl (by decide +kernel) ⟨Nat.le_of_ble_eq_true rfl, Nat.le_of_ble_eq_true rfl⟩) [] [0] rfl (fun _ => rfl) rfl rfl hl.1 rfl (Nat.le_of_ble_eq_true rfl) dX9_isHeld_3 ⟨(Nat.le_of_ble_eq_true rfl), (Nat.le_of_ble_eq_true rfl)⟩ (fun r_1 u_1 H locs hw_1 hP hD hS => ?_)
  have hw_1 : (nI (4 + 5 * k + 2) : Int32) = r_1 := hw_1.symm
  subst hw_1
  refine x_ialdn (k := (4 + 5 * k + 2)) hx hb hK.1 hP 0 0 rfl rfl (by omega) (by decide) (v := (r 2) k) (row_at _ (by decide)) dX9_isHeld_6 ?_
  refine lv_istore_n (lv' := [(2, .int ((r 2) k)), (0, .ref q), (1, .int (nI k))]) hx hb dX9_isHeld_7 rfl hl (by decide) rfl (fun ls hl => ?_)
  refine lv_aload_n hx hb dX9_isHeld_8 rfl (lv_at hl 1 rfl) ?_
  refine lv_iconst (v := 3) hx hb dX9_isHeld_9 (by decide) ?_
  refine x_ialdn (k := 3) hx hb hK.1 hP 0 0 rfl rfl (by decide) (by decide) (v := r 5 3) rfl dX9_isHeld_10 ?_
  refine lv_iload_n hx hb dX9_isHeld_11 rfl (lv_at hl 2 rfl) ?_
  refine x_Si (wN := fun _ => ([(q, .inl (G.2 0, 54, .inl (row r)))])) ⟨C0, hK, hP, hD, hS, hA⟩ ((m9_has l G (r 5 3) k)) (va_cwS 2 hts (lw_S q1266 q1267 q95 q1268) rfl rfl rfl (by decide +kernel) ⟨Nat.le_of_ble_eq_true rfl, Nat.le_of_ble_eq_true rfl⟩) [] [0] rfl (fun _ => rfl) rfl rfl hl.1 rfl (Nat.le_of_ble_eq_true rfl) dX9_isHeld_12 ⟨(Nat.le_of_ble_eq_true rfl), (Nat.le_of_ble_eq_true rfl)⟩ (fun r_2 u_2 H locs hw_2 hP hD hS => ?_)
  have hw_2 : (bI (hs (r 5 3) k) : Int32) = r_2 := hw_2.symm
  subst hw_2
  refine lv_if_ne (tgt := 40) hx hb dX9_isHeld_15 (by decide) (fun c_3 => ?_) (fun c_3 => ?_)
  · skip
    refine lv_iconst (v := 1) hx hb dX9_isHeld_40 (by decide) ?_
    refine lv_goto (tgt := 45) hx hb dX9_isHeld_41 (by decide) ?_
    refine hret _ _ _ _ _ _ 1 () dX9_isHeld_45 ?_ hP hD hS (Nat.le_of_ble_eq_true rfl) (Nat.le_of_ble_eq_true rfl)
    exact bI_T (by unfold pHl; rw [show hs (r 5 3) k = true from (by first | exact bI_n0 c_3 | exact bI_0.mp c_3)]; rfl)
  · skip
    refine lv_iload_n hx hb dX9_isHeld_18 rfl (lv_at hl 0 rfl) ?_
    refine lv_if_ge (tgt := 32) hx hb dX9_isHeld_19 (by decide) (fun c_4 => ?_) (fun c_4 => ?_)
    · skip
      obtain ⟨j, hj, ej⟩ := (hr.on hk1).resolve_left (fun z => by have h9 := c_4; rw [z] at h9; exact absurd h9 (by decide))
      rw [ej] at hl
      refine lv_aload_n hx hb dX9_isHeld_32 rfl (lv_at hl 1 rfl) ?_
      refine lv_iload_n hx hb dX9_isHeld_33 rfl (lv_at hl 0 rfl) ?_
      refine x_Si (wN := fun _ => ([(q, .inl (G.2 0, 54, .inl (row r)))])) ⟨C0, hK, hP, hD, hS, hA⟩ ((m9_stands l G q r hr j (show j < 10 by omega))) (va_cwS 2 hts (lw_S q1251 q1252 q95 q1253) rfl rfl rfl (by decide +kernel) ⟨Nat.le_of_ble_eq_true rfl, Nat.le_of_ble_eq_true rfl⟩) [0] [1] rfl (fun _ => rfl) rfl rfl hl.1 rfl (Nat.le_of_ble_eq_true rfl) dX9_isHeld_34 ⟨(Nat.le_of_ble_eq_true rfl), (Nat.le_of_ble_eq_true rfl)⟩ (fun r_5 u_5 H locs hw_5 hP hD hS => ?_)
      have hw_5 : (bI (pSt r j) : Int32) = r_5 := hw_5.symm
      subst hw_5
      refine lv_if_eq (tgt := 44) hx hb dX9_isHeld_37 (by decide) (fun c_6 => ?_) (fun c_6 => ?_)
      · skip
        refine lv_iconst (v := 0) hx hb dX9_isHeld_44 (by decide) ?_
        refine hret _ _ _ _ _ _ 0 () dX9_isHeld_45 ?_ hP hD hS (Nat.le_of_ble_eq_true rfl) (Nat.le_of_ble_eq_true rfl)
        exact bI_F (by unfold pHl; rw [show hs (r 5 3) k = false from (by first | exact bI_n0 c_3 | exact bI_0.mp c_3), pHu_n ej (by omega), show pSt r j = false from (by first | exact bI_n0 c_6 | exact bI_0.mp c_6)]; rfl)
      · skip
        refine lv_iconst (v := 1) hx hb dX9_isHeld_40 (by decide) ?_
        refine lv_goto (tgt := 45) hx hb dX9_isHeld_41 (by decide) ?_
        refine hret _ _ _ _ _ _ 1 () dX9_isHeld_45 ?_ hP hD hS (Nat.le_of_ble_eq_true rfl) (Nat.le_of_ble_eq_true rfl)
        exact bI_T (by unfold pHl; rw [show hs (r 5 3) k = false from (by first | exact bI_n0 c_3 | exact bI_0.mp c_3), pHu_n ej (by omega), show pSt r j = true from (by first | exact bI_n0 c_6 | exact bI_0.mp c_6)]; rfl)
    · skip
      have e2 : r 2 k = -9 := (hr.on hk1).resolve_right (fun z => by obtain ⟨j, hj, ej⟩ := z; have h9 := c_4; rw [ej] at h9; exact h9 (nI_pos' (by omega)))
      refine lv_aload_n hx hb dX9_isHeld_22 rfl (lv_at hl 1 rfl) ?_
      refine lv_iconst (v := 2) hx hb dX9_isHeld_23 (by decide) ?_
      refine x_ialdn (k := 2) hx hb hK.1 hP 0 0 rfl rfl (by decide) (by decide) (v := r 5 2) rfl dX9_isHeld_24 ?_
      refine lv_iconst (v := 1) hx hb dX9_isHeld_25 (by decide) ?_
      refine lv_icmp_ne (tgt := 44) hx hb dX9_isHeld_26 (by decide) (fun c_7 => ?_) (fun c_7 => ?_)
      · skip
        refine lv_iconst (v := 0) hx hb dX9_isHeld_44 (by decide) ?_
        refine hret _ _ _ _ _ _ 0 () dX9_isHeld_45 ?_ hP hD hS (Nat.le_of_ble_eq_true rfl) (Nat.le_of_ble_eq_true rfl)
        exact bI_F (by unfold pHl pHu; rw [show hs (r 5 3) k = false from (by first | exact bI_n0 c_3 | exact bI_0.mp c_3), if_pos e2, decide_eq_false (show ¬ r 5 2 = 1 from c_7)]; rfl)
      · skip
        refine lv_goto (tgt := 40) hx hb dX9_isHeld_29 (by decide) ?_
        refine lv_iconst (v := 1) hx hb dX9_isHeld_40 (by decide) ?_
        refine lv_goto (tgt := 45) hx hb dX9_isHeld_41 (by decide) ?_
        refine hret _ _ _ _ _ _ 1 () dX9_isHeld_45 ?_ hP hD hS (Nat.le_of_ble_eq_true rfl) (Nat.le_of_ble_eq_true rfl)
        exact bI_T (by unfold pHl pHu; rw [show hs (r 5 3) k = false from (by first | exact bI_n0 c_3 | exact bI_0.mp c_3), if_pos e2, decide_eq_true (show r 5 2 = 1 from c_7)]; rfl)
set_option maxHeartbeats 4000000 in
set_option maxRecDepth 100000 in
theorem m9_shaken (l : Launch) (G : xG) (q : Nat) (r : Rw) (hr : Ok r) (u sp : Int32) : xCi l G yX9_shaken cX9_shaken 5 (some .int) ({ frames := 2, cells := 0, slots := 0, locals := 43 } : Room) [.ref q, .int u, .int sp] ([(q, .inl (G.2 0, 54, .inl (row r)))]) (S := Unit) (fun v _ => v = bs (pShk r u sp) (mny r)) (fun _ => ([(q, .inl (G.2 0, 54, .inl (row r)))])) := by
  refine x_openi (by decide) (Nat.le_of_ble_eq_true rfl) (fun _ _ _ => rfl) ?_
  intro p e s m args below meth c A Q ls C0 hK hP hD hA hl hret
  obtain ⟨hx, hb, hml, hown, hts⟩ := id C0
  have hS : va_S A s.heap s.heap [] := va_S.rf
  have hP : va_P G.1 vwCl ([(q, .inl (G.2 0, 54, .inl (row r)))]) s.heap := hP
  have hD : va_D A ([(q, .inl (G.2 0, 54, .inl (row r)))]) := hD
  have hl : lv_has ls 5 [(0, .ref q), (1, .int u), (2, .int sp)] := hl
  have hr0 := hr.n
  have hN := hr.le
  refine lv_iconst (v := 0) hx hb dX9_shaken_0 (by decide) ?_
  refine lv_istore_n (lv' := [(3, .int 0), (0, .ref q), (1, .int u), (2, .int sp)]) hx hb dX9_shaken_1 rfl hl (by decide) rfl (fun ls hl => ?_)
  refine lv_iconst (v := 0) hx hb dX9_shaken_2 (by decide) ?_
  refine lv_istore (lv' := [(4, .int 0), (3, .int 0), (0, .ref q), (1, .int u), (2, .int sp)]) hx hb dX9_shaken_3 hl (by decide) rfl (fun ls hl => ?_)
  have loop_5 : ∀ (n : Nat) (i : Nat), (i ≤ mny r) → (mny r < i + n) → ∀ (H : Heap) (locs : List Loc) (ls : Array Slot), va_P G.1 vwCl ([(q, .inl (G.2 0, 54, .inl (row r)))]) H → va_D A ([(q, .inl (G.2 0, 54, .inl (row r)))]) → va_S A s.heap H locs → lv_has ls 5 [(4, .int (nI i)), (3, .int (bs (pShk r u sp) i)), (0, .ref q), (1, .int u), (2, .int sp)] → W p l e ({ frames := 2, cells := 0, slots := 0, locals := 43 } : Room) s m args below meth c H locs 0 0 Q (F0 m 5 ls []) := by
    intro n
    induction n with
    | zero => intro i hi5_0 hi5_1; exact absurd hi5_1 (by omega)
    | succ n ih_5 =>
      intro i hi5_0 hi5_1 H locs ls hP hD hS hl
      refine lv_iload hx hb dX9_shaken_5 (lv_at hl 0 rfl) ?_
      refine lv_aload_n hx hb dX9_shaken_7 rfl (lv_at hl 2 rfl) ?_
      refine lv_iconst (v := 0) hx hb dX9_shaken_8 (by decide) ?_
      refine x_ialdn (k := 0) hx hb hK.1 hP 0 0 rfl rfl (by decide) (by decide) (v := nI (mny r)) (hr0) dX9_shaken_9 ?_
      refine lv_icmp_ge (tgt := 61) hx hb dX9_shaken_10 (by decide) (fun c_1 => ?_) (fun c_1 => ?_)
      · skip
        have g_1 := (nI_leI (by omega) (by omega)).mp c_1
        refine lv_iload_n hx hb dX9_shaken_61 rfl (lv_at hl 1 rfl) ?_
        refine hret _ _ _ _ _ _ (bs (pShk r u sp) i) () dX9_shaken_62 ?_ hP hD hS (Nat.le_of_ble_eq_true rfl) (Nat.le_of_ble_eq_true rfl)
        show bs (pShk r u sp) i = bs (pShk r u sp) (mny r)
        rw [show i = mny r by omega]
      · skip
        have g_1 := mt (nI_leI (by omega) (by omega)).mpr c_1
        refine lv_iload_n hx hb dX9_shaken_13 rfl (lv_at hl 1 rfl) ?_
        refine lv_aload_n hx hb dX9_shaken_14 rfl (lv_at hl 2 rfl) ?_
        refine lv_iload hx hb dX9_shaken_15 (lv_at hl 0 rfl) ?_
        refine x_Si (wN := fun _ => ([(q, .inl (G.2 0, 54, .inl (row r)))])) ⟨C0, hK, hP, hD, hS, hA⟩ ((m9_stands l G q r hr i (show i < 10 by omega))) (va_cwS 2 hts (lw_S q1251 q1252 q95 q1253) rfl rfl rfl (by decide +kernel) ⟨Nat.le_of_ble_eq_true rfl, Nat.le_of_ble_eq_true rfl⟩) [0] [1] rfl (fun _ => rfl) rfl rfl hl.1 rfl (Nat.le_of_ble_eq_true rfl) dX9_shaken_17 ⟨(Nat.le_of_ble_eq_true rfl), (Nat.le_of_ble_eq_true rfl)⟩ (fun r_2 u_2 H locs hw_2 hP hD hS => ?_)
        have hw_2 : (bI (pSt r i) : Int32) = r_2 := hw_2.symm
        subst hw_2
        refine lv_if_eq (tgt := 52) hx hb dX9_shaken_20 (by decide) (fun c_3 => ?_) (fun c_3 => ?_)
        · skip
          refine lv_iconst (v := 0) hx hb dX9_shaken_52 (by decide) ?_
          refine x_ior hx hb dX9_shaken_53 (v := bs (pShk r u sp) (i + 1)) (bs_f (by unfold pShk; rw [show pSt r i = false from (by first | exact bI_n0 c_3 | exact bI_0.mp c_3)]; rfl)) ?_
          refine lv_istore_n (lv' := [(3, .int (bs (pShk r u sp) (i + 1))), (4, .int (nI i)), (0, .ref q), (1, .int u), (2, .int sp)]) hx hb dX9_shaken_54 rfl hl (by decide) rfl (fun ls hl => ?_)
          refine lv_iinc (v := nI (i + 1)) (lv' := [(4, .int (nI (i + 1))), (3, .int (bs (pShk r u sp) (i + 1))), (0, .ref q), (1, .int u), (2, .int sp)]) hx hb dX9_shaken_55 hl (k := 1) rfl (x_inc1 _) (by decide) rfl (fun ls hl => ?_)
          refine lv_goto (tgt := 5) hx hb dX9_shaken_58 (by decide) ?_
          exact ih_5 (i + 1) (by omega) (by omega) _ _ _ hP hD hS (lv_sub hl [0, 1, 2, 3, 4] rfl)
        · skip
          refine lv_aload_n hx hb dX9_shaken_23 rfl (lv_at hl 2 rfl) ?_
          refine lv_iload hx hb dX9_shaken_24 (lv_at hl 0 rfl) ?_
          refine lv_iconst (v := 2) hx hb dX9_shaken_26 (by decide) ?_
          refine x_Si (wN := fun _ => ([(q, .inl (G.2 0, 54, .inl (row r)))])) ⟨C0, hK, hP, hD, hS, hA⟩ ((m9_of l G i 2)) (va_cwS 2 hts (lw_S q1254 q1255 q95 q1256) rfl rfl rfl (by decide +kernel) ⟨Nat.le_of_ble_eq_true rfl, Nat.le_of_ble_eq_true rfl⟩) [] [0] rfl (fun _ => rfl) rfl rfl hl.1 rfl (Nat.le_of_ble_eq_true rfl) dX9_shaken_27 ⟨(Nat.le_of_ble_eq_true rfl), (Nat.le_of_ble_eq_true rfl)⟩ (fun r_4 u_4 H locs hw_4 hP hD hS => ?_)
          have hw_4 : (nI (4 + 5 * i + 2) : Int32) = r_4 := hw_4.symm
          subst hw_4
          refine x_ialdn (k := (4 + 5 * i + 2)) hx hb hK.1 hP 0 0 rfl rfl (by omega) (by decide) (v := (r 2) i) (row_at _ (by decide)) dX9_shaken_30 ?_
          refine lv_iload_n hx hb dX9_shaken_31 rfl (lv_at hl 3 rfl) ?_
          refine lv_icmp_ne (tgt := 52) hx hb dX9_shaken_32 (by decide) (fun c_5 => ?_) (fun c_5 => ?_)
          · skip
            refine lv_iconst (v := 0) hx hb dX9_shaken_52 (by decide) ?_
            refine x_ior hx hb dX9_shaken_53 (v := bs (pShk r u sp) (i + 1)) (bs_f (by unfold pShk; rw [show pSt r i = true from (by first | exact bI_n0 c_3 | exact bI_0.mp c_3), show decide (r 2 i = u) = false from decide_eq_false c_5]; rfl)) ?_
            refine lv_istore_n (lv' := [(3, .int (bs (pShk r u sp) (i + 1))), (4, .int (nI i)), (0, .ref q), (1, .int u), (2, .int sp)]) hx hb dX9_shaken_54 rfl hl (by decide) rfl (fun ls hl => ?_)
            refine lv_iinc (v := nI (i + 1)) (lv' := [(4, .int (nI (i + 1))), (3, .int (bs (pShk r u sp) (i + 1))), (0, .ref q), (1, .int u), (2, .int sp)]) hx hb dX9_shaken_55 hl (k := 1) rfl (x_inc1 _) (by decide) rfl (fun ls hl => ?_)
            refine lv_goto (tgt := 5) hx hb dX9_shaken_58 (by decide) ?_
            exact ih_5 (i + 1) (by omega) (by omega) _ _ _ hP hD hS (lv_sub hl [0, 1, 2, 3, 4] rfl)
          · skip
            refine lv_aload_n hx hb dX9_shaken_35 rfl (lv_at hl 2 rfl) ?_
            refine lv_iload hx hb dX9_shaken_36 (lv_at hl 0 rfl) ?_
            refine x_Si (wN := fun _ => ([(q, .inl (G.2 0, 54, .inl (row r)))])) ⟨C0, hK, hP, hD, hS, hA⟩ ((m9_grip l G q r hr i (show i < mny r by omega))) (va_cwS 2 hts (lw_S q1263 q1264 q95 q1265) rfl rfl rfl (by decide +kernel) ⟨Nat.le_of_ble_eq_true rfl, Nat.le_of_ble_eq_true rfl⟩) [0] [1] rfl (fun _ => rfl) rfl rfl hl.1 rfl (Nat.le_of_ble_eq_true rfl) dX9_shaken_38 ⟨(Nat.le_of_ble_eq_true rfl), (Nat.le_of_ble_eq_true rfl)⟩ (fun r_6 u_6 H locs hw_6 hP hD hS => ?_)
            have hw_6 : (pGrip ((r 0) i) ((r 1) i) : Int32) = r_6 := hw_6.symm
            subst hw_6
            refine lv_iload_n hx hb dX9_shaken_41 rfl (lv_at hl 4 rfl) ?_
            refine lv_icmp_le (tgt := 52) hx hb dX9_shaken_42 (by decide) (fun c_7 => ?_) (fun c_7 => ?_)
            · skip
              refine lv_iconst (v := 0) hx hb dX9_shaken_52 (by decide) ?_
              refine x_ior hx hb dX9_shaken_53 (v := bs (pShk r u sp) (i + 1)) (bs_f (by unfold pShk; rw [show pSt r i = true from (by first | exact bI_n0 c_3 | exact bI_0.mp c_3), show decide (r 2 i = u) = true from decide_eq_true c_5, show decide (sp < pGrip (r 0 i) (r 1 i)) = false from decide_eq_false (Int32.not_lt.mpr c_7)]; rfl)) ?_
              refine lv_istore_n (lv' := [(3, .int (bs (pShk r u sp) (i + 1))), (4, .int (nI i)), (0, .ref q), (1, .int u), (2, .int sp)]) hx hb dX9_shaken_54 rfl hl (by decide) rfl (fun ls hl => ?_)
              refine lv_iinc (v := nI (i + 1)) (lv' := [(4, .int (nI (i + 1))), (3, .int (bs (pShk r u sp) (i + 1))), (0, .ref q), (1, .int u), (2, .int sp)]) hx hb dX9_shaken_55 hl (k := 1) rfl (x_inc1 _) (by decide) rfl (fun ls hl => ?_)
              refine lv_goto (tgt := 5) hx hb dX9_shaken_58 (by decide) ?_
              exact ih_5 (i + 1) (by omega) (by omega) _ _ _ hP hD hS (lv_sub hl [0, 1, 2, 3, 4] rfl)
            · skip
              refine lv_iconst (v := 1) hx hb dX9_shaken_45 (by decide) ?_
              refine lv_iload hx hb dX9_shaken_46 (lv_at hl 0 rfl) ?_
              refine x_ishl hx hb dX9_shaken_48 (v := b1 i) rfl ?_
              refine lv_goto (tgt := 53) hx hb dX9_shaken_49 (by decide) ?_
              refine x_ior hx hb dX9_shaken_53 (v := bs (pShk r u sp) (i + 1)) (bs_t (by unfold pShk; rw [show pSt r i = true from (by first | exact bI_n0 c_3 | exact bI_0.mp c_3), show decide (r 2 i = u) = true from decide_eq_true c_5, show decide (sp < pGrip (r 0 i) (r 1 i)) = true from decide_eq_true (Int32.not_le.mp c_7)]; rfl)) ?_
              refine lv_istore_n (lv' := [(3, .int (bs (pShk r u sp) (i + 1))), (4, .int (nI i)), (0, .ref q), (1, .int u), (2, .int sp)]) hx hb dX9_shaken_54 rfl hl (by decide) rfl (fun ls hl => ?_)
              refine lv_iinc (v := nI (i + 1)) (lv' := [(4, .int (nI (i + 1))), (3, .int (bs (pShk r u sp) (i + 1))), (0, .ref q), (1, .int u), (2, .int sp)]) hx hb dX9_shaken_55 hl (k := 1) rfl (x_inc1 _) (by decide) rfl (fun ls hl => ?_)
              refine lv_goto (tgt := 5) hx hb dX9_shaken_58 (by decide) ?_
              exact ih_5 (i + 1) (by omega) (by omega) _ _ _ hP hD hS (lv_sub hl [0, 1, 2, 3, 4] rfl)
  exact loop_5 (mny r + 1) 0 (Nat.zero_le _) (by omega) _ _ _ hP hD hS (lv_sub hl [0, 1, 2, 3, 4] rfl)
theorem pFallTo_k {r : Rw} {u sp : Int32} {i : Nat} (h : pShk r u sp i = false) : sf (pFallTo r u sp i) 3 (upd (pFallTo r u sp i 3) i (pFallTo r u sp i 3 i)) = pFallTo r u sp (i + 1) := by
  rw [upd_id, sf_id _ _ (fun _ => rfl)]
  exact pFallTo_n h
set_option maxHeartbeats 4000000 in
set_option maxRecDepth 100000 in
theorem m9_pull (l : Launch) (G : xG) (q : Nat) (r : Rw) (hr : Ok r) (t : Nat) (sp : Int32) (ht : t < mny r) : xCi l G yX9_pullsIn cX9_pullsIn 5 (some .int) ({ frames := 3, cells := 0, slots := 0, locals := 67 } : Room) [.ref q, .int (nI t), .int sp] ([(q, .inl (G.2 0, 54, .inl (row r)))]) (S := Unit) (fun v _ => v = pPullN r t sp) (fun _ => ([(q, .inl (G.2 0, 54, .inl (row (pPull r t sp))))])) := by
  refine x_openi (by decide) (Nat.le_of_ble_eq_true rfl) (fun _ _ _ => rfl) ?_
  intro p e s m args below meth c A Q ls C0 hK hP hD hA hl hret
  obtain ⟨hx, hb, hml, hown, hts⟩ := id C0
  have hS : va_S A s.heap s.heap [] := va_S.rf
  have hP : va_P G.1 vwCl ([(q, .inl (G.2 0, 54, .inl (row r)))]) s.heap := hP
  have hD : va_D A ([(q, .inl (G.2 0, 54, .inl (row r)))]) := hD
  have hl : lv_has ls 5 [(0, .ref q), (1, .int (nI t)), (2, .int sp)] := hl
  have hr0 := hr.n
  have hN := hr.le
  refine lv_aload_n hx hb dX9_pullsIn_0 rfl (lv_at hl 0 rfl) ?_
  refine lv_iload_n hx hb dX9_pullsIn_1 rfl (lv_at hl 1 rfl) ?_
  refine lv_iload_n hx hb dX9_pullsIn_2 rfl (lv_at hl 2 rfl) ?_
  refine x_Si (wN := fun _ => ([(q, .inl (G.2 0, 54, .inl (row r)))])) ⟨C0, hK, hP, hD, hS, hA⟩ ((m9_shaken l G q r hr (nI t) sp)) (va_cwS 3 hts (lw_S q1260 q1261 q95 q1262) rfl rfl rfl (by decide +kernel) ⟨Nat.le_of_ble_eq_true rfl, Nat.le_of_ble_eq_true rfl⟩) [0] [1] rfl (fun _ => rfl) rfl rfl hl.1 rfl (Nat.le_of_ble_eq_true rfl) dX9_pullsIn_3 ⟨(Nat.le_of_ble_eq_true rfl), (Nat.le_of_ble_eq_true rfl)⟩ (fun r_1 u_1 H locs hw_1 hP hD hS => ?_)
  have hw_1 : (bs (pShk r (nI t) sp) (mny r) : Int32) = r_1 := hw_1.symm
  subst hw_1
  have eSh : bs (pShk r (nI t) sp) (mny r) = bs (pShk (pGone r t) (nI t) sp) (mny r) := bs_congr (fun j hj => (pShk_gone hr ht sp hj).symm)
  rw [eSh]
  refine lv_istore_n (lv' := [(3, .int (bs (pShk (pGone r t) (nI t) sp) (mny r))), (0, .ref q), (1, .int (nI t)), (2, .int sp)]) hx hb dX9_pullsIn_6 rfl hl (by decide) rfl (fun ls hl => ?_)
  refine lv_iload_n hx hb dX9_pullsIn_7 rfl (lv_at hl 2 rfl) ?_
  refine lv_if_ge (tgt := 18) hx hb dX9_pullsIn_8 (by decide) (fun c_2 => ?_) (fun c_2 => ?_)
  · skip
    refine lv_aload_n hx hb dX9_pullsIn_18 rfl (lv_at hl 1 rfl) ?_
    refine lv_iload_n hx hb dX9_pullsIn_19 rfl (lv_at hl 2 rfl) ?_
    refine lv_iconst (v := 3) hx hb dX9_pullsIn_20 (by decide) ?_
    refine x_Si (wN := fun _ => ([(q, .inl (G.2 0, 54, .inl (row r)))])) ⟨C0, hK, hP, hD, hS, hA⟩ ((m9_of l G t 3)) (va_cwS 2 hts (lw_S q1254 q1255 q95 q1256) rfl rfl rfl (by decide +kernel) ⟨Nat.le_of_ble_eq_true rfl, Nat.le_of_ble_eq_true rfl⟩) [] [0] rfl (fun _ => rfl) rfl rfl hl.1 rfl (Nat.le_of_ble_eq_true rfl) dX9_pullsIn_21 ⟨(Nat.le_of_ble_eq_true rfl), (Nat.le_of_ble_eq_true rfl)⟩ (fun r_3 u_3 H locs hw_3 hP hD hS => ?_)
    have hw_3 : (nI (4 + 5 * t + 3) : Int32) = r_3 := hw_3.symm
    subst hw_3
    refine lv_iconst (v := 2) hx hb dX9_pullsIn_24 (by decide) ?_
    refine x_iastn (k := (4 + 5 * t + 3)) hx hb hK.1 hP hD hS 0 0 rfl rfl (by omega) (by decide) (g := row (sf r 3 (upd (r 3) t 2))) (row_up _ (by decide) _) dX9_pullsIn_25 (fun H locs hP hD hS => ?_)
    have hP : va_P G.1 vwCl ([(q, .inl (G.2 0, 54, .inl (row (sf r 3 (upd (r 3) t 2)))))]) H := hP
    have hD : va_D A ([(q, .inl (G.2 0, 54, .inl (row (sf r 3 (upd (r 3) t 2)))))]) := hD
    have hP : va_P G.1 vwCl ([(q, .inl (G.2 0, 54, .inl (row (pGone r t))))]) H := hP
    have hD : va_D A ([(q, .inl (G.2 0, 54, .inl (row (pGone r t))))]) := hD
    refine lv_iconst (v := 0) hx hb dX9_pullsIn_26 (by decide) ?_
    refine lv_istore (lv' := [(4, .int 0), (3, .int (bs (pShk (pGone r t) (nI t) sp) (mny r))), (0, .ref q), (1, .int (nI t)), (2, .int sp)]) hx hb dX9_pullsIn_27 hl (by decide) rfl (fun ls hl => ?_)
    have loop_29 : ∀ (n : Nat) (i : Nat), (i ≤ mny r) → (mny r < i + n) → ∀ (H : Heap) (locs : List Loc) (ls : Array Slot), va_P G.1 vwCl ([(q, .inl (G.2 0, 54, .inl (row (pFallTo (pGone r t) (nI t) sp i))))]) H → va_D A ([(q, .inl (G.2 0, 54, .inl (row (pFallTo (pGone r t) (nI t) sp i))))]) → va_S A s.heap H locs → lv_has ls 5 [(4, .int (nI i)), (3, .int (bs (pShk (pGone r t) (nI t) sp) (mny r))), (0, .ref q), (1, .int (nI t)), (2, .int sp)] → W p l e ({ frames := 3, cells := 0, slots := 0, locals := 67 } : Room) s m args below meth c H locs 0 0 Q (F0 m 29 ls []) := by
      intro n
      induction n with
      | zero => intro i hi29_0 hi29_1; exact absurd hi29_1 (by omega)
      | succ n ih_29 =>
        intro i hi29_0 hi29_1 H locs ls hP hD hS hl
        refine lv_iload hx hb dX9_pullsIn_29 (lv_at hl 0 rfl) ?_
        refine lv_aload_n hx hb dX9_pullsIn_31 rfl (lv_at hl 2 rfl) ?_
        refine lv_iconst (v := 0) hx hb dX9_pullsIn_32 (by decide) ?_
        refine x_ialdn (k := 0) hx hb hK.1 hP 0 0 rfl rfl (by decide) (by decide) (v := nI (mny r)) (hr0) dX9_pullsIn_33 ?_
        refine lv_icmp_ge (tgt := 72) hx hb dX9_pullsIn_34 (by decide) (fun c_4 => ?_) (fun c_4 => ?_)
        · skip
          have g_4 := (nI_leI (by omega) (by omega)).mp c_4
          refine lv_iload_n hx hb dX9_pullsIn_72 rfl (lv_at hl 1 rfl) ?_
          rw [show (bs (pShk (pGone r t) (nI t) sp) (mny r) : Int32) = nI (bn (pShk (pGone r t) (nI t) sp) (mny r)) from (bs_bn _ _ (by omega))]
          refine x_Si (wN := fun _ => ([(q, .inl (G.2 0, 54, .inl (row (pFallTo (pGone r t) (nI t) sp i))))])) ⟨C0, hK, hP, hD, hS, hA⟩ ((m9_bits l G (bn (pShk (pGone r t) (nI t) sp) (mny r)) (bn_1024 hN))) (va_cwS 1 hts (lw_S q1269 q1270 q95 q1271) rfl rfl rfl (by decide +kernel) ⟨Nat.le_of_ble_eq_true rfl, Nat.le_of_ble_eq_true rfl⟩) [] [0] rfl (fun _ => rfl) rfl rfl hl.1 rfl (Nat.le_of_ble_eq_true rfl) dX9_pullsIn_73 ⟨(Nat.le_of_ble_eq_true rfl), (Nat.le_of_ble_eq_true rfl)⟩ (fun r_5 u_5 H locs hw_5 hP hD hS => ?_)
          have hw_5 : (nI (pc (bn (pShk (pGone r t) (nI t) sp) (mny r))) : Int32) = r_5 := hw_5.symm
          subst hw_5
          have ei : i = mny r := by omega
          rw [ei] at hP hD
          refine hret _ _ _ _ _ _ (nI (pc (bn (pShk (pGone r t) (nI t) sp) (mny r)))) () dX9_pullsIn_76 ?_ hP hD hS (Nat.le_of_ble_eq_true rfl) (Nat.le_of_ble_eq_true rfl)
          exact congrArg nI (pc_bn hN)
        · skip
          have g_4 := mt (nI_leI (by omega) (by omega)).mpr c_4
          refine lv_aload_n hx hb dX9_pullsIn_37 rfl (lv_at hl 2 rfl) ?_
          refine lv_iload hx hb dX9_pullsIn_38 (lv_at hl 0 rfl) ?_
          refine lv_iconst (v := 3) hx hb dX9_pullsIn_40 (by decide) ?_
          refine x_Si (wN := fun _ => ([(q, .inl (G.2 0, 54, .inl (row (pFallTo (pGone r t) (nI t) sp i))))])) ⟨C0, hK, hP, hD, hS, hA⟩ ((m9_of l G i 3)) (va_cwS 2 hts (lw_S q1254 q1255 q95 q1256) rfl rfl rfl (by decide +kernel) ⟨Nat.le_of_ble_eq_true rfl, Nat.le_of_ble_eq_true rfl⟩) [] [0] rfl (fun _ => rfl) rfl rfl hl.1 rfl (Nat.le_of_ble_eq_true rfl) dX9_pullsIn_41 ⟨(Nat.le_of_ble_eq_true rfl), (Nat.le_of_ble_eq_true rfl)⟩ (fun r_6 u_6 H locs hw_6 hP hD hS => ?_)
          have hw_6 : (nI (4 + 5 * i + 3) : Int32) = r_6 := hw_6.symm
          subst hw_6
          refine lv_iload_n hx hb dX9_pullsIn_44 rfl (lv_at hl 1 rfl) ?_
          refine lv_iload hx hb dX9_pullsIn_45 (lv_at hl 0 rfl) ?_
          refine x_Si (wN := fun _ => ([(q, .inl (G.2 0, 54, .inl (row (pFallTo (pGone r t) (nI t) sp i))))])) ⟨C0, hK, hP, hD, hS, hA⟩ ((m9_has l G (bs (pShk (pGone r t) (nI t) sp) (mny r)) i)) (va_cwS 2 hts (lw_S q1266 q1267 q95 q1268) rfl rfl rfl (by decide +kernel) ⟨Nat.le_of_ble_eq_true rfl, Nat.le_of_ble_eq_true rfl⟩) [] [0] rfl (fun _ => rfl) rfl rfl hl.1 rfl (Nat.le_of_ble_eq_true rfl) dX9_pullsIn_47 ⟨(Nat.le_of_ble_eq_true rfl), (Nat.le_of_ble_eq_true rfl)⟩ (fun r_7 u_7 H locs hw_7 hP hD hS => ?_)
          have hw_7 : r_7 = bI (pShk (pGone r t) (nI t) sp i) := hw_7.trans (congrArg bI (hs_in (by omega) (by omega)))
          have hw_7 : (bI (pShk (pGone r t) (nI t) sp i) : Int32) = r_7 := hw_7.symm
          subst hw_7
          refine lv_if_eq (tgt := 57) hx hb dX9_pullsIn_50 (by decide) (fun c_8 => ?_) (fun c_8 => ?_)
          · skip
            refine lv_aload_n hx hb dX9_pullsIn_57 rfl (lv_at hl 2 rfl) ?_
            refine lv_iload hx hb dX9_pullsIn_58 (lv_at hl 0 rfl) ?_
            refine lv_iconst (v := 3) hx hb dX9_pullsIn_60 (by decide) ?_
            refine x_Si (wN := fun _ => ([(q, .inl (G.2 0, 54, .inl (row (pFallTo (pGone r t) (nI t) sp i))))])) ⟨C0, hK, hP, hD, hS, hA⟩ ((m9_of l G i 3)) (va_cwS 2 hts (lw_S q1254 q1255 q95 q1256) rfl rfl rfl (by decide +kernel) ⟨Nat.le_of_ble_eq_true rfl, Nat.le_of_ble_eq_true rfl⟩) [] [0] rfl (fun _ => rfl) rfl rfl hl.1 rfl (Nat.le_of_ble_eq_true rfl) dX9_pullsIn_61 ⟨(Nat.le_of_ble_eq_true rfl), (Nat.le_of_ble_eq_true rfl)⟩ (fun r_9 u_9 H locs hw_9 hP hD hS => ?_)
            have hw_9 : (nI (4 + 5 * i + 3) : Int32) = r_9 := hw_9.symm
            subst hw_9
            refine x_ialdn (k := (4 + 5 * i + 3)) hx hb hK.1 hP 0 0 rfl rfl (by omega) (by decide) (v := ((pFallTo (pGone r t) (nI t) sp i) 3) i) (row_at _ (by decide)) dX9_pullsIn_64 ?_
            refine x_iastn (k := (4 + 5 * i + 3)) hx hb hK.1 hP hD hS 0 0 rfl rfl (by omega) (by decide) (g := row (sf (pFallTo (pGone r t) (nI t) sp i) 3 (upd ((pFallTo (pGone r t) (nI t) sp i) 3) i (((pFallTo (pGone r t) (nI t) sp i) 3) i)))) (row_up _ (by decide) _) dX9_pullsIn_65 (fun H locs hP hD hS => ?_)
            have hP : va_P G.1 vwCl ([(q, .inl (G.2 0, 54, .inl (row (sf (pFallTo (pGone r t) (nI t) sp i) 3 (upd ((pFallTo (pGone r t) (nI t) sp i) 3) i (((pFallTo (pGone r t) (nI t) sp i) 3) i))))))]) H := hP
            have hD : va_D A ([(q, .inl (G.2 0, 54, .inl (row (sf (pFallTo (pGone r t) (nI t) sp i) 3 (upd ((pFallTo (pGone r t) (nI t) sp i) 3) i (((pFallTo (pGone r t) (nI t) sp i) 3) i))))))]) := hD
            refine lv_iinc (v := nI (i + 1)) (lv' := [(4, .int (nI (i + 1))), (3, .int (bs (pShk (pGone r t) (nI t) sp) (mny r))), (0, .ref q), (1, .int (nI t)), (2, .int sp)]) hx hb dX9_pullsIn_66 hl (k := 0) rfl (x_inc1 _) (by decide) rfl (fun ls hl => ?_)
            refine lv_goto (tgt := 29) hx hb dX9_pullsIn_69 (by decide) ?_
            rw [pFallTo_k (show pShk (pGone r t) (nI t) sp i = false from (by first | exact bI_n0 c_8 | exact bI_0.mp c_8))] at hP hD
            exact ih_29 (i + 1) (by omega) (by omega) _ _ _ hP hD hS (lv_sub hl [0, 1, 2, 3, 4] rfl)
          · skip
            refine lv_iconst (v := 1) hx hb dX9_pullsIn_53 (by decide) ?_
            refine lv_goto (tgt := 65) hx hb dX9_pullsIn_54 (by decide) ?_
            refine x_iastn (k := (4 + 5 * i + 3)) hx hb hK.1 hP hD hS 0 0 rfl rfl (by omega) (by decide) (g := row (sf (pFallTo (pGone r t) (nI t) sp i) 3 (upd ((pFallTo (pGone r t) (nI t) sp i) 3) i 1))) (row_up _ (by decide) _) dX9_pullsIn_65 (fun H locs hP hD hS => ?_)
            have hP : va_P G.1 vwCl ([(q, .inl (G.2 0, 54, .inl (row (sf (pFallTo (pGone r t) (nI t) sp i) 3 (upd ((pFallTo (pGone r t) (nI t) sp i) 3) i 1)))))]) H := hP
            have hD : va_D A ([(q, .inl (G.2 0, 54, .inl (row (sf (pFallTo (pGone r t) (nI t) sp i) 3 (upd ((pFallTo (pGone r t) (nI t) sp i) 3) i 1)))))]) := hD
            refine lv_iinc (v := nI (i + 1)) (lv' := [(4, .int (nI (i + 1))), (3, .int (bs (pShk (pGone r t) (nI t) sp) (mny r))), (0, .ref q), (1, .int (nI t)), (2, .int sp)]) hx hb dX9_pullsIn_66 hl (k := 0) rfl (x_inc1 _) (by decide) rfl (fun ls hl => ?_)
            refine lv_goto (tgt := 29) hx hb dX9_pullsIn_69 (by decide) ?_
            rw [pFallTo_y (show pShk (pGone r t) (nI t) sp i = true from (by first | exact bI_n0 c_8 | exact bI_0.mp c_8))] at hP hD
            exact ih_29 (i + 1) (by omega) (by omega) _ _ _ hP hD hS (lv_sub hl [0, 1, 2, 3, 4] rfl)
    exact loop_29 (mny r + 1) 0 (Nat.zero_le _) (by omega) _ _ _ (by rw [pFallTo_0]; exact hP) (by rw [pFallTo_0]; exact hD) hS (lv_sub hl [0, 1, 2, 3, 4] rfl)
  · skip
    exact absurd (nI_pos' (show t < 2 ^ 31 by omega)) c_2
set_option maxHeartbeats 4000000 in
set_option maxRecDepth 100000 in
theorem m9_pullF (l : Launch) (G : xG) (q : Nat) (r : Rw) (hr : Ok r) (sp : Int32) : xCi l G yX9_pullsIn cX9_pullsIn 5 (some .int) ({ frames := 3, cells := 0, slots := 0, locals := 67 } : Room) [.ref q, .int (-9), .int sp] ([(q, .inl (G.2 0, 54, .inl (row r)))]) (S := Unit) (fun v _ => v = pPullFN r sp) (fun _ => ([(q, .inl (G.2 0, 54, .inl (row (pPullF r sp))))])) := by
  refine x_openi (by decide) (Nat.le_of_ble_eq_true rfl) (fun _ _ _ => rfl) ?_
  intro p e s m args below meth c A Q ls C0 hK hP hD hA hl hret
  obtain ⟨hx, hb, hml, hown, hts⟩ := id C0
  have hS : va_S A s.heap s.heap [] := va_S.rf
  have hP : va_P G.1 vwCl ([(q, .inl (G.2 0, 54, .inl (row r)))]) s.heap := hP
  have hD : va_D A ([(q, .inl (G.2 0, 54, .inl (row r)))]) := hD
  have hl : lv_has ls 5 [(0, .ref q), (1, .int (-9)), (2, .int sp)] := hl
  have hr0 := hr.n
  have hN := hr.le
  refine lv_aload_n hx hb dX9_pullsIn_0 rfl (lv_at hl 0 rfl) ?_
  refine lv_iload_n hx hb dX9_pullsIn_1 rfl (lv_at hl 1 rfl) ?_
  refine lv_iload_n hx hb dX9_pullsIn_2 rfl (lv_at hl 2 rfl) ?_
  refine x_Si (wN := fun _ => ([(q, .inl (G.2 0, 54, .inl (row r)))])) ⟨C0, hK, hP, hD, hS, hA⟩ ((m9_shaken l G q r hr (-9) sp)) (va_cwS 3 hts (lw_S q1260 q1261 q95 q1262) rfl rfl rfl (by decide +kernel) ⟨Nat.le_of_ble_eq_true rfl, Nat.le_of_ble_eq_true rfl⟩) [0] [1] rfl (fun _ => rfl) rfl rfl hl.1 rfl (Nat.le_of_ble_eq_true rfl) dX9_pullsIn_3 ⟨(Nat.le_of_ble_eq_true rfl), (Nat.le_of_ble_eq_true rfl)⟩ (fun r_1 u_1 H locs hw_1 hP hD hS => ?_)
  have hw_1 : (bs (pShk r (-9) sp) (mny r) : Int32) = r_1 := hw_1.symm
  subst hw_1
  refine lv_istore_n (lv' := [(3, .int (bs (pShk (pNoFl r) (-9) sp) (mny r))), (0, .ref q), (1, .int (-9)), (2, .int sp)]) hx hb dX9_pullsIn_6 rfl hl (by decide) rfl (fun ls hl => ?_)
  refine lv_iload_n hx hb dX9_pullsIn_7 rfl (lv_at hl 2 rfl) ?_
  refine lv_if_ge (tgt := 18) hx hb dX9_pullsIn_8 (by decide) (fun c_2 => ?_) (fun c_2 => ?_)
  · skip
    exact absurd c_2 (by decide)
  · skip
    refine lv_aload_n hx hb dX9_pullsIn_11 rfl (lv_at hl 1 rfl) ?_
    refine lv_iconst (v := 2) hx hb dX9_pullsIn_12 (by decide) ?_
    refine lv_iconst (v := 0) hx hb dX9_pullsIn_13 (by decide) ?_
    refine x_iastn (k := 2) hx hb hK.1 hP hD hS 0 0 rfl rfl (by decide) (by decide) (g := row (sf r 5 (upd (r 5) 2 0))) (row_uph _ (by decide) _) dX9_pullsIn_14 (fun H locs hP hD hS => ?_)
    have hP : va_P G.1 vwCl ([(q, .inl (G.2 0, 54, .inl (row (sf r 5 (upd (r 5) 2 0)))))]) H := hP
    have hD : va_D A ([(q, .inl (G.2 0, 54, .inl (row (sf r 5 (upd (r 5) 2 0)))))]) := hD
    refine lv_goto (tgt := 26) hx hb dX9_pullsIn_15 (by decide) ?_
    have hP : va_P G.1 vwCl ([(q, .inl (G.2 0, 54, .inl (row (pNoFl r))))]) H := hP
    have hD : va_D A ([(q, .inl (G.2 0, 54, .inl (row (pNoFl r))))]) := hD
    refine lv_iconst (v := 0) hx hb dX9_pullsIn_26 (by decide) ?_
    refine lv_istore (lv' := [(4, .int 0), (3, .int (bs (pShk (pNoFl r) (-9) sp) (mny r))), (0, .ref q), (1, .int (-9)), (2, .int sp)]) hx hb dX9_pullsIn_27 hl (by decide) rfl (fun ls hl => ?_)
    have loop_29 : ∀ (n : Nat) (i : Nat), (i ≤ mny r) → (mny r < i + n) → ∀ (H : Heap) (locs : List Loc) (ls : Array Slot), va_P G.1 vwCl ([(q, .inl (G.2 0, 54, .inl (row (pFallTo (pNoFl r) (-9) sp i))))]) H → va_D A ([(q, .inl (G.2 0, 54, .inl (row (pFallTo (pNoFl r) (-9) sp i))))]) → va_S A s.heap H locs → lv_has ls 5 [(4, .int (nI i)), (3, .int (bs (pShk (pNoFl r) (-9) sp) (mny r))), (0, .ref q), (1, .int (-9)), (2, .int sp)] → W p l e ({ frames := 3, cells := 0, slots := 0, locals := 67 } : Room) s m args below meth c H locs 0 0 Q (F0 m 29 ls []) := by
      intro n
      induction n with
      | zero => intro i hi29_0 hi29_1; exact absurd hi29_1 (by omega)
      | succ n ih_29 =>
        intro i hi29_0 hi29_1 H locs ls hP hD hS hl
        refine lv_iload hx hb dX9_pullsIn_29 (lv_at hl 0 rfl) ?_
        refine lv_aload_n hx hb dX9_pullsIn_31 rfl (lv_at hl 2 rfl) ?_
        refine lv_iconst (v := 0) hx hb dX9_pullsIn_32 (by decide) ?_
        refine x_ialdn (k := 0) hx hb hK.1 hP 0 0 rfl rfl (by decide) (by decide) (v := nI (mny r)) (hr0) dX9_pullsIn_33 ?_
        refine lv_icmp_ge (tgt := 72) hx hb dX9_pullsIn_34 (by decide) (fun c_3 => ?_) (fun c_3 => ?_)
        · skip
          have g_3 := (nI_leI (by omega) (by omega)).mp c_3
          refine lv_iload_n hx hb dX9_pullsIn_72 rfl (lv_at hl 1 rfl) ?_
          rw [show (bs (pShk (pNoFl r) (-9) sp) (mny r) : Int32) = nI (bn (pShk (pNoFl r) (-9) sp) (mny r)) from (bs_bn _ _ (by omega))]
          refine x_Si (wN := fun _ => ([(q, .inl (G.2 0, 54, .inl (row (pFallTo (pNoFl r) (-9) sp i))))])) ⟨C0, hK, hP, hD, hS, hA⟩ ((m9_bits l G (bn (pShk (pNoFl r) (-9) sp) (mny r)) (bn_1024 hN))) (va_cwS 1 hts (lw_S q1269 q1270 q95 q1271) rfl rfl rfl (by decide +kernel) ⟨Nat.le_of_ble_eq_true rfl, Nat.le_of_ble_eq_true rfl⟩) [] [0] rfl (fun _ => rfl) rfl rfl hl.1 rfl (Nat.le_of_ble_eq_true rfl) dX9_pullsIn_73 ⟨(Nat.le_of_ble_eq_true rfl), (Nat.le_of_ble_eq_true rfl)⟩ (fun r_4 u_4 H locs hw_4 hP hD hS => ?_)
          have hw_4 : (nI (pc (bn (pShk (pNoFl r) (-9) sp) (mny r))) : Int32) = r_4 := hw_4.symm
          subst hw_4
          have ei : i = mny r := by omega
          rw [ei] at hP hD
          refine hret _ _ _ _ _ _ (nI (pc (bn (pShk (pNoFl r) (-9) sp) (mny r)))) () dX9_pullsIn_76 ?_ hP hD hS (Nat.le_of_ble_eq_true rfl) (Nat.le_of_ble_eq_true rfl)
          exact congrArg nI (pc_bn hN)
        · skip
          have g_3 := mt (nI_leI (by omega) (by omega)).mpr c_3
          refine lv_aload_n hx hb dX9_pullsIn_37 rfl (lv_at hl 2 rfl) ?_
          refine lv_iload hx hb dX9_pullsIn_38 (lv_at hl 0 rfl) ?_
          refine lv_iconst (v := 3) hx hb dX9_pullsIn_40 (by decide) ?_
          refine x_Si (wN := fun _ => ([(q, .inl (G.2 0, 54, .inl (row (pFallTo (pNoFl r) (-9) sp i))))])) ⟨C0, hK, hP, hD, hS, hA⟩ ((m9_of l G i 3)) (va_cwS 2 hts (lw_S q1254 q1255 q95 q1256) rfl rfl rfl (by decide +kernel) ⟨Nat.le_of_ble_eq_true rfl, Nat.le_of_ble_eq_true rfl⟩) [] [0] rfl (fun _ => rfl) rfl rfl hl.1 rfl (Nat.le_of_ble_eq_true rfl) dX9_pullsIn_41 ⟨(Nat.le_of_ble_eq_true rfl), (Nat.le_of_ble_eq_true rfl)⟩ (fun r_5 u_5 H locs hw_5 hP hD hS => ?_)
          have hw_5 : (nI (4 + 5 * i + 3) : Int32) = r_5 := hw_5.symm
          subst hw_5
          refine lv_iload_n hx hb dX9_pullsIn_44 rfl (lv_at hl 1 rfl) ?_
          refine lv_iload hx hb dX9_pullsIn_45 (lv_at hl 0 rfl) ?_
          refine x_Si (wN := fun _ => ([(q, .inl (G.2 0, 54, .inl (row (pFallTo (pNoFl r) (-9) sp i))))])) ⟨C0, hK, hP, hD, hS, hA⟩ ((m9_has l G (bs (pShk (pNoFl r) (-9) sp) (mny r)) i)) (va_cwS 2 hts (lw_S q1266 q1267 q95 q1268) rfl rfl rfl (by decide +kernel) ⟨Nat.le_of_ble_eq_true rfl, Nat.le_of_ble_eq_true rfl⟩) [] [0] rfl (fun _ => rfl) rfl rfl hl.1 rfl (Nat.le_of_ble_eq_true rfl) dX9_pullsIn_47 ⟨(Nat.le_of_ble_eq_true rfl), (Nat.le_of_ble_eq_true rfl)⟩ (fun r_6 u_6 H locs hw_6 hP hD hS => ?_)
          have hw_6 : r_6 = bI (pShk (pNoFl r) (-9) sp i) := hw_6.trans (congrArg bI (hs_in (by omega) (by omega)))
          have hw_6 : (bI (pShk (pNoFl r) (-9) sp i) : Int32) = r_6 := hw_6.symm
          subst hw_6
          refine lv_if_eq (tgt := 57) hx hb dX9_pullsIn_50 (by decide) (fun c_7 => ?_) (fun c_7 => ?_)
          · skip
            refine lv_aload_n hx hb dX9_pullsIn_57 rfl (lv_at hl 2 rfl) ?_
            refine lv_iload hx hb dX9_pullsIn_58 (lv_at hl 0 rfl) ?_
            refine lv_iconst (v := 3) hx hb dX9_pullsIn_60 (by decide) ?_
            refine x_Si (wN := fun _ => ([(q, .inl (G.2 0, 54, .inl (row (pFallTo (pNoFl r) (-9) sp i))))])) ⟨C0, hK, hP, hD, hS, hA⟩ ((m9_of l G i 3)) (va_cwS 2 hts (lw_S q1254 q1255 q95 q1256) rfl rfl rfl (by decide +kernel) ⟨Nat.le_of_ble_eq_true rfl, Nat.le_of_ble_eq_true rfl⟩) [] [0] rfl (fun _ => rfl) rfl rfl hl.1 rfl (Nat.le_of_ble_eq_true rfl) dX9_pullsIn_61 ⟨(Nat.le_of_ble_eq_true rfl), (Nat.le_of_ble_eq_true rfl)⟩ (fun r_8 u_8 H locs hw_8 hP hD hS => ?_)
            have hw_8 : (nI (4 + 5 * i + 3) : Int32) = r_8 := hw_8.symm
            subst hw_8
            refine x_ialdn (k := (4 + 5 * i + 3)) hx hb hK.1 hP 0 0 rfl rfl (by omega) (by decide) (v := ((pFallTo (pNoFl r) (-9) sp i) 3) i) (row_at _ (by decide)) dX9_pullsIn_64 ?_
            refine x_iastn (k := (4 + 5 * i + 3)) hx hb hK.1 hP hD hS 0 0 rfl rfl (by omega) (by decide) (g := row (sf (pFallTo (pNoFl r) (-9) sp i) 3 (upd ((pFallTo (pNoFl r) (-9) sp i) 3) i (((pFallTo (pNoFl r) (-9) sp i) 3) i)))) (row_up _ (by decide) _) dX9_pullsIn_65 (fun H locs hP hD hS => ?_)
            have hP : va_P G.1 vwCl ([(q, .inl (G.2 0, 54, .inl (row (sf (pFallTo (pNoFl r) (-9) sp i) 3 (upd ((pFallTo (pNoFl r) (-9) sp i) 3) i (((pFallTo (pNoFl r) (-9) sp i) 3) i))))))]) H := hP
            have hD : va_D A ([(q, .inl (G.2 0, 54, .inl (row (sf (pFallTo (pNoFl r) (-9) sp i) 3 (upd ((pFallTo (pNoFl r) (-9) sp i) 3) i (((pFallTo (pNoFl r) (-9) sp i) 3) i))))))]) := hD
            refine lv_iinc (v := nI (i + 1)) (lv' := [(4, .int (nI (i + 1))), (3, .int (bs (pShk (pNoFl r) (-9) sp) (mny r))), (0, .ref q), (1, .int (-9)), (2, .int sp)]) hx hb dX9_pullsIn_66 hl (k := 0) rfl (x_inc1 _) (by decide) rfl (fun ls hl => ?_)
            refine lv_goto (tgt := 29) hx hb dX9_pullsIn_69 (by decide) ?_
            rw [pFallTo_k (show pShk (pNoFl r) (-9) sp i = false from (by first | exact bI_n0 c_7 | exact bI_0.mp c_7))] at hP hD
            exact ih_29 (i + 1) (by omega) (by omega) _ _ _ hP hD hS (lv_sub hl [0, 1, 2, 3, 4] rfl)
          · skip
            refine lv_iconst (v := 1) hx hb dX9_pullsIn_53 (by decide) ?_
            refine lv_goto (tgt := 65) hx hb dX9_pullsIn_54 (by decide) ?_
            refine x_iastn (k := (4 + 5 * i + 3)) hx hb hK.1 hP hD hS 0 0 rfl rfl (by omega) (by decide) (g := row (sf (pFallTo (pNoFl r) (-9) sp i) 3 (upd ((pFallTo (pNoFl r) (-9) sp i) 3) i 1))) (row_up _ (by decide) _) dX9_pullsIn_65 (fun H locs hP hD hS => ?_)
            have hP : va_P G.1 vwCl ([(q, .inl (G.2 0, 54, .inl (row (sf (pFallTo (pNoFl r) (-9) sp i) 3 (upd ((pFallTo (pNoFl r) (-9) sp i) 3) i 1)))))]) H := hP
            have hD : va_D A ([(q, .inl (G.2 0, 54, .inl (row (sf (pFallTo (pNoFl r) (-9) sp i) 3 (upd ((pFallTo (pNoFl r) (-9) sp i) 3) i 1)))))]) := hD
            refine lv_iinc (v := nI (i + 1)) (lv' := [(4, .int (nI (i + 1))), (3, .int (bs (pShk (pNoFl r) (-9) sp) (mny r))), (0, .ref q), (1, .int (-9)), (2, .int sp)]) hx hb dX9_pullsIn_66 hl (k := 0) rfl (x_inc1 _) (by decide) rfl (fun ls hl => ?_)
            refine lv_goto (tgt := 29) hx hb dX9_pullsIn_69 (by decide) ?_
            rw [pFallTo_y (show pShk (pNoFl r) (-9) sp i = true from (by first | exact bI_n0 c_7 | exact bI_0.mp c_7))] at hP hD
            exact ih_29 (i + 1) (by omega) (by omega) _ _ _ hP hD hS (lv_sub hl [0, 1, 2, 3, 4] rfl)
    exact loop_29 (mny r + 1) 0 (Nat.zero_le _) (by omega) _ _ _ (by rw [pFallTo_0]; exact hP) (by rw [pFallTo_0]; exact hD) hS (lv_sub hl [0, 1, 2, 3, 4] rfl)
theorem pMinH_n {r : Rw} {d : Int32} {i : Nat} (h : pDrop r d i = false) : pMinH r d i = pMinH r d (i + 1) := by
  have e := pMinH_s (r := r) (d := d) (i := i) (v := r 3 i) (if_neg (by rw [h]; decide))
  rw [← e]
  refine (sf_id _ _ (fun t => ?_)).symm
  by_cases q : t = i
  · subst q; rw [pk_us]; exact (pMinH_at r d t).symm
  · rw [pk_un q]
theorem pSt_minA (r : Rw) (d : Int32) (i k : Nat) : pSt (pMinA r d i) k = pSt r k := rfl
theorem pSt_minH (r : Rw) (d : Int32) (i : Nat) : pSt (pMinH r d i) i = pSt r i := by
  show decide (pMinH r d i 3 i = 0) = decide (r 3 i = 0)
  rw [pMinH_at]
theorem pMinH_air {r : Rw} {d : Int32} {i k : Nat} (h : k < mny r) : pMinH r d i 4 k = pAir r d k := if_pos h
set_option maxHeartbeats 4000000 in
set_option maxRecDepth 100000 in
theorem m9_minute (l : Launch) (G : xG) (q : Nat) (r : Rw) (hr : Ok r) (d : Int32) : xCv l G yX9_minute cX9_minute 5 none ({ frames := 3, cells := 0, slots := 0, locals := 64 } : Room) [.ref q, .int d] ([(q, .inl (G.2 0, 54, .inl (row r)))]) (S := Unit) (fun _ => True) (fun _ => ([(q, .inl (G.2 0, 54, .inl (row (pMin r d))))])) := by
  refine x_openv (by decide) (Nat.le_of_ble_eq_true rfl) ?_
  intro p e s m args below meth c A Q ls C0 hK hP hD hA hl hret
  obtain ⟨hx, hb, hml, hown, hts⟩ := id C0
  have hS : va_S A s.heap s.heap [] := va_S.rf
  have hP : va_P G.1 vwCl ([(q, .inl (G.2 0, 54, .inl (row r)))]) s.heap := hP
  have hD : va_D A ([(q, .inl (G.2 0, 54, .inl (row r)))]) := hD
  have hl : lv_has ls 5 [(0, .ref q), (1, .int d)] := hl
  have hr0 := hr.n
  have hN := hr.le
  refine lv_aload_n hx hb dX9_minute_0 rfl (lv_at hl 0 rfl) ?_
  refine lv_iconst (v := 1) hx hb dX9_minute_1 (by decide) ?_
  refine lv_dup2_11 hx hb dX9_minute_2 rfl rfl ?_
  refine x_ialdn (k := 1) hx hb hK.1 hP 0 0 rfl rfl (by decide) (by decide) (v := r 5 1) rfl dX9_minute_3 ?_
  refine lv_iconst (v := 1) hx hb dX9_minute_4 (by decide) ?_
  refine x_iadd hx hb dX9_minute_5 (v := (r 5 1) + 1) rfl ?_
  refine x_iastn (k := 1) hx hb hK.1 hP hD hS 0 0 rfl rfl (by decide) (by decide) (g := row (sf r 5 (upd (r 5) 1 ((r 5 1) + 1)))) (row_uph _ (by decide) _) dX9_minute_6 (fun H locs hP hD hS => ?_)
  have hP : va_P G.1 vwCl ([(q, .inl (G.2 0, 54, .inl (row (sf r 5 (upd (r 5) 1 ((r 5 1) + 1))))))]) H := hP
  have hD : va_D A ([(q, .inl (G.2 0, 54, .inl (row (sf r 5 (upd (r 5) 1 ((r 5 1) + 1))))))]) := hD
  have hP : va_P G.1 vwCl ([(q, .inl (G.2 0, 54, .inl (row (sf r 5 (upd (r 5) 1 (r 5 1 + 1))))))]) H := hP
  have hD : va_D A ([(q, .inl (G.2 0, 54, .inl (row (sf r 5 (upd (r 5) 1 (r 5 1 + 1))))))]) := hD
  refine lv_iconst (v := 0) hx hb dX9_minute_7 (by decide) ?_
  refine lv_istore_n (lv' := [(2, .int 0), (0, .ref q), (1, .int d)]) hx hb dX9_minute_8 rfl hl (by decide) rfl (fun ls hl => ?_)
  refine lv_iconst (v := 0) hx hb dX9_minute_9 (by decide) ?_
  refine lv_istore_n (lv' := [(3, .int 0), (2, .int 0), (0, .ref q), (1, .int d)]) hx hb dX9_minute_10 rfl hl (by decide) rfl (fun ls hl => ?_)
  have loop_11 : ∀ (n : Nat) (i : Nat), (i ≤ mny r) → (mny r < i + n) → ∀ (H : Heap) (locs : List Loc) (ls : Array Slot), va_P G.1 vwCl ([(q, .inl (G.2 0, 54, .inl (row (sf r 5 (upd (r 5) 1 (r 5 1 + 1))))))]) H → va_D A ([(q, .inl (G.2 0, 54, .inl (row (sf r 5 (upd (r 5) 1 (r 5 1 + 1))))))]) → va_S A s.heap H locs → lv_has ls 5 [(3, .int (nI i)), (2, .int (bs (pHl r) i)), (0, .ref q), (1, .int d)] → W p l e ({ frames := 3, cells := 0, slots := 0, locals := 64 } : Room) s m args below meth c H locs 0 0 Q (F0 m 11 ls []) := by
    intro n
    induction n with
    | zero => intro i hi11_0 hi11_1; exact absurd hi11_1 (by omega)
    | succ n ih_11 =>
      intro i hi11_0 hi11_1 H locs ls hP hD hS hl
      refine lv_iload_n hx hb dX9_minute_11 rfl (lv_at hl 0 rfl) ?_
      refine lv_aload_n hx hb dX9_minute_12 rfl (lv_at hl 2 rfl) ?_
      refine lv_iconst (v := 0) hx hb dX9_minute_13 (by decide) ?_
      refine x_ialdn (k := 0) hx hb hK.1 hP 0 0 rfl rfl (by decide) (by decide) (v := nI (mny r)) (hr0) dX9_minute_14 ?_
      refine lv_icmp_ge (tgt := 42) hx hb dX9_minute_15 (by decide) (fun c_1 => ?_) (fun c_1 => ?_)
      · skip
        have g_1 := (nI_leI (by omega) (by omega)).mp c_1
        obtain rfl : i = mny r := by omega
        refine lv_aload_n hx hb dX9_minute_42 rfl (lv_at hl 2 rfl) ?_
        refine lv_iconst (v := 1) hx hb dX9_minute_43 (by decide) ?_
        refine x_Si (wN := fun _ => ([(q, .inl (G.2 0, 54, .inl (row (sf r 5 (upd (r 5) 1 (r 5 1 + 1))))))])) ⟨C0, hK, hP, hD, hS, hA⟩ ((m9_setOf l G q (sf r 5 (upd (r 5) 1 (r 5 1 + 1))) (Ok.h1 hr) 1)) (va_cwS 2 hts (lw_S q1281 q1282 q95 q1283) rfl rfl rfl (by decide +kernel) ⟨Nat.le_of_ble_eq_true rfl, Nat.le_of_ble_eq_true rfl⟩) [0] [1] rfl (fun _ => rfl) rfl rfl hl.1 rfl (Nat.le_of_ble_eq_true rfl) dX9_minute_44 ⟨(Nat.le_of_ble_eq_true rfl), (Nat.le_of_ble_eq_true rfl)⟩ (fun r_2 u_2 H locs hw_2 hP hD hS => ?_)
        have hw_2 : r_2 = pSet r 1 := hw_2.trans rfl
        have hw_2 : (pSet r 1 : Int32) = r_2 := hw_2.symm
        subst hw_2
        refine lv_if_eq (tgt := 54) hx hb dX9_minute_47 (by decide) (fun c_3 => ?_) (fun c_3 => ?_)
        · skip
          refine lv_iconst (v := 0) hx hb dX9_minute_54 (by decide) ?_
          have eLie : (0 : Int32) = bI (pLie r) := bI_F (decide_eq_false (fun z9 => z9 (show pSet r 1 = 0 from c_3)))
          rw [eLie]
          refine lv_istore_n (lv' := [(3, .int (bI (pLie r))), (2, .int (bs (pHl r) (mny r))), (0, .ref q), (1, .int d)]) hx hb dX9_minute_55 rfl hl (by decide) rfl (fun ls hl => ?_)
          refine lv_iconst (v := 0) hx hb dX9_minute_56 (by decide) ?_
          refine lv_istore (lv' := [(4, .int 0), (3, .int (bI (pLie r))), (2, .int (bs (pHl r) (mny r))), (0, .ref q), (1, .int d)]) hx hb dX9_minute_57 hl (by decide) rfl (fun ls hl => ?_)
          have loop_59 : ∀ (n : Nat) (i : Nat), (i ≤ mny r) → (mny r < i + n) → ∀ (H : Heap) (locs : List Loc) (ls : Array Slot), va_P G.1 vwCl ([(q, .inl (G.2 0, 54, .inl (row (pMinA r d i))))]) H → va_D A ([(q, .inl (G.2 0, 54, .inl (row (pMinA r d i))))]) → va_S A s.heap H locs → lv_has ls 5 [(4, .int (nI i)), (3, .int (bI (pLie r))), (2, .int (bs (pHl r) (mny r))), (0, .ref q), (1, .int d)] → W p l e ({ frames := 3, cells := 0, slots := 0, locals := 64 } : Room) s m args below meth c H locs 0 0 Q (F0 m 59 ls []) := by
            intro n
            induction n with
            | zero => intro i hi59_0 hi59_1; exact absurd hi59_1 (by omega)
            | succ n ih_59 =>
              intro i hi59_0 hi59_1 H locs ls hP hD hS hl
              refine lv_iload hx hb dX9_minute_59 (lv_at hl 0 rfl) ?_
              refine lv_aload_n hx hb dX9_minute_61 rfl (lv_at hl 3 rfl) ?_
              refine lv_iconst (v := 0) hx hb dX9_minute_62 (by decide) ?_
              refine x_ialdn (k := 0) hx hb hK.1 hP 0 0 rfl rfl (by decide) (by decide) (v := nI (mny r)) (hr0) dX9_minute_63 ?_
              refine lv_icmp_ge (tgt := 118) hx hb dX9_minute_64 (by decide) (fun c_4 => ?_) (fun c_4 => ?_)
              · skip
                have g_4 := (nI_leI (by omega) (by omega)).mp c_4
                obtain rfl : i = mny r := by omega
                refine lv_iconst (v := 0) hx hb dX9_minute_118 (by decide) ?_
                refine lv_istore (lv' := [(4, .int 0), (3, .int (bI (pLie r))), (2, .int (bs (pHl r) (mny r))), (0, .ref q), (1, .int d)]) hx hb dX9_minute_119 hl (by decide) rfl (fun ls hl => ?_)
                have loop_121 : ∀ (n : Nat) (i : Nat), (i ≤ mny r) → (mny r < i + n) → ∀ (H : Heap) (locs : List Loc) (ls : Array Slot), va_P G.1 vwCl ([(q, .inl (G.2 0, 54, .inl (row (pMinH r d i))))]) H → va_D A ([(q, .inl (G.2 0, 54, .inl (row (pMinH r d i))))]) → va_S A s.heap H locs → lv_has ls 5 [(4, .int (nI i)), (3, .int (bI (pLie r))), (2, .int (bs (pHl r) (mny r))), (0, .ref q), (1, .int d)] → W p l e ({ frames := 3, cells := 0, slots := 0, locals := 64 } : Room) s m args below meth c H locs 0 0 Q (F0 m 121 ls []) := by
                  intro n
                  induction n with
                  | zero => intro i hi121_0 hi121_1; exact absurd hi121_1 (by omega)
                  | succ n ih_121 =>
                    intro i hi121_0 hi121_1 H locs ls hP hD hS hl
                    refine lv_iload hx hb dX9_minute_121 (lv_at hl 0 rfl) ?_
                    refine lv_aload_n hx hb dX9_minute_123 rfl (lv_at hl 3 rfl) ?_
                    refine lv_iconst (v := 0) hx hb dX9_minute_124 (by decide) ?_
                    refine x_ialdn (k := 0) hx hb hK.1 hP 0 0 rfl rfl (by decide) (by decide) (v := nI (mny r)) (hr0) dX9_minute_125 ?_
                    refine lv_icmp_ge (tgt := 171) hx hb dX9_minute_126 (by decide) (fun c_5 => ?_) (fun c_5 => ?_)
                    · skip
                      have g_5 := (nI_leI (by omega) (by omega)).mp c_5
                      obtain rfl : i = mny r := by omega
                      refine hret _ _ _ _ _ _ () dX9_minute_171 ?_ hP hD hS (Nat.le_of_ble_eq_true rfl) (Nat.le_of_ble_eq_true rfl)
                      trivial
                    · skip
                      have g_5 := mt (nI_leI (by omega) (by omega)).mpr c_5
                      refine lv_aload_n hx hb dX9_minute_129 rfl (lv_at hl 3 rfl) ?_
                      refine lv_iload hx hb dX9_minute_130 (lv_at hl 0 rfl) ?_
                      refine x_Si (wN := fun _ => ([(q, .inl (G.2 0, 54, .inl (row (pMinH r d i))))])) ⟨C0, hK, hP, hD, hS, hA⟩ ((m9_stands l G q (pMinH r d i) (Ok.minH hr) i (by omega))) (va_cwS 2 hts (lw_S q1251 q1252 q95 q1253) rfl rfl rfl (by decide +kernel) ⟨Nat.le_of_ble_eq_true rfl, Nat.le_of_ble_eq_true rfl⟩) [0] [1] rfl (fun _ => rfl) rfl rfl hl.1 rfl (Nat.le_of_ble_eq_true rfl) dX9_minute_132 ⟨(Nat.le_of_ble_eq_true rfl), (Nat.le_of_ble_eq_true rfl)⟩ (fun r_6 u_6 H locs hw_6 hP hD hS => ?_)
                      have hw_6 : r_6 = bI (pSt r i) := hw_6.trans (congrArg bI (pSt_minH r d i))
                      have hw_6 : (bI (pSt r i) : Int32) = r_6 := hw_6.symm
                      subst hw_6
                      refine lv_if_eq (tgt := 165) hx hb dX9_minute_135 (by decide) (fun c_7 => ?_) (fun c_7 => ?_)
                      · skip
                        refine lv_iinc (v := nI (i + 1)) (lv' := [(4, .int (nI (i + 1))), (3, .int (bI (pLie r))), (2, .int (bs (pHl r) (mny r))), (0, .ref q), (1, .int d)]) hx hb dX9_minute_165 hl (k := 0) rfl (x_inc1 _) (by decide) rfl (fun ls hl => ?_)
                        refine lv_goto (tgt := 121) hx hb dX9_minute_168 (by decide) ?_
                        rw [pMinH_n (show pDrop r d i = false by unfold pDrop; rw [show pSt r i = false from (by first | exact bI_n0 c_7 | exact bI_0.mp c_7)]; rfl)] at hP hD
                        exact ih_121 (i + 1) (by omega) (by omega) _ _ _ hP hD hS (lv_sub hl [0, 1, 2, 3, 4] rfl)
                      · skip
                        refine lv_aload_n hx hb dX9_minute_138 rfl (lv_at hl 3 rfl) ?_
                        refine lv_iload hx hb dX9_minute_139 (lv_at hl 0 rfl) ?_
                        refine lv_iconst (v := 4) hx hb dX9_minute_141 (by decide) ?_
                        refine x_Si (wN := fun _ => ([(q, .inl (G.2 0, 54, .inl (row (pMinH r d i))))])) ⟨C0, hK, hP, hD, hS, hA⟩ ((m9_of l G i 4)) (va_cwS 2 hts (lw_S q1254 q1255 q95 q1256) rfl rfl rfl (by decide +kernel) ⟨Nat.le_of_ble_eq_true rfl, Nat.le_of_ble_eq_true rfl⟩) [] [0] rfl (fun _ => rfl) rfl rfl hl.1 rfl (Nat.le_of_ble_eq_true rfl) dX9_minute_142 ⟨(Nat.le_of_ble_eq_true rfl), (Nat.le_of_ble_eq_true rfl)⟩ (fun r_8 u_8 H locs hw_8 hP hD hS => ?_)
                        have hw_8 : (nI (4 + 5 * i + 4) : Int32) = r_8 := hw_8.symm
                        subst hw_8
                        refine x_ialdn (k := (4 + 5 * i + 4)) hx hb hK.1 hP 0 0 rfl rfl (by omega) (by decide) (v := pAir r d i) ((row_at _ (by decide)).trans (pMinH_air (by omega))) dX9_minute_145 ?_
                        refine lv_aload_n hx hb dX9_minute_146 rfl (lv_at hl 3 rfl) ?_
                        refine lv_iload hx hb dX9_minute_147 (lv_at hl 0 rfl) ?_
                        refine lv_iload_n hx hb dX9_minute_149 rfl (lv_at hl 1 rfl) ?_
                        refine x_Si (wN := fun _ => ([(q, .inl (G.2 0, 54, .inl (row (pMinH r d i))))])) ⟨C0, hK, hP, hD, hS, hA⟩ ((m9_habit l G q (pMinH r d i) (Ok.minH hr) i (pLie r) (show i < mny r by omega))) (va_cwS 3 hts (lw_S q1284 q1285 q95 q1286) rfl rfl rfl (by decide +kernel) ⟨Nat.le_of_ble_eq_true rfl, Nat.le_of_ble_eq_true rfl⟩) [0] [1] rfl (fun _ => rfl) rfl rfl hl.1 rfl (Nat.le_of_ble_eq_true rfl) dX9_minute_150 ⟨(Nat.le_of_ble_eq_true rfl), (Nat.le_of_ble_eq_true rfl)⟩ (fun r_9 u_9 H locs hw_9 hP hD hS => ?_)
                        have hw_9 : r_9 = pHabit (r 0 i) (r 1 i) (pLie r) := hw_9.trans rfl
                        have hw_9 : (pHabit (r 0 i) (r 1 i) (pLie r) : Int32) = r_9 := hw_9.symm
                        subst hw_9
                        refine lv_icmp_le (tgt := 165) hx hb dX9_minute_153 (by decide) (fun c_10 => ?_) (fun c_10 => ?_)
                        · skip
                          refine lv_iinc (v := nI (i + 1)) (lv' := [(4, .int (nI (i + 1))), (3, .int (bI (pLie r))), (2, .int (bs (pHl r) (mny r))), (0, .ref q), (1, .int d)]) hx hb dX9_minute_165 hl (k := 0) rfl (x_inc1 _) (by decide) rfl (fun ls hl => ?_)
                          refine lv_goto (tgt := 121) hx hb dX9_minute_168 (by decide) ?_
                          rw [pMinH_n (show pDrop r d i = false by unfold pDrop; rw [show pSt r i = true from (by first | exact bI_n0 c_7 | exact bI_0.mp c_7), decide_eq_false (Int32.not_lt.mpr c_10)]; rfl)] at hP hD
                          exact ih_121 (i + 1) (by omega) (by omega) _ _ _ hP hD hS (lv_sub hl [0, 1, 2, 3, 4] rfl)
                        · skip
                          refine lv_aload_n hx hb dX9_minute_156 rfl (lv_at hl 3 rfl) ?_
                          refine lv_iload hx hb dX9_minute_157 (lv_at hl 0 rfl) ?_
                          refine lv_iconst (v := 3) hx hb dX9_minute_159 (by decide) ?_
                          refine x_Si (wN := fun _ => ([(q, .inl (G.2 0, 54, .inl (row (pMinH r d i))))])) ⟨C0, hK, hP, hD, hS, hA⟩ ((m9_of l G i 3)) (va_cwS 2 hts (lw_S q1254 q1255 q95 q1256) rfl rfl rfl (by decide +kernel) ⟨Nat.le_of_ble_eq_true rfl, Nat.le_of_ble_eq_true rfl⟩) [] [0] rfl (fun _ => rfl) rfl rfl hl.1 rfl (Nat.le_of_ble_eq_true rfl) dX9_minute_160 ⟨(Nat.le_of_ble_eq_true rfl), (Nat.le_of_ble_eq_true rfl)⟩ (fun r_11 u_11 H locs hw_11 hP hD hS => ?_)
                          have hw_11 : (nI (4 + 5 * i + 3) : Int32) = r_11 := hw_11.symm
                          subst hw_11
                          refine lv_iconst (v := 1) hx hb dX9_minute_163 (by decide) ?_
                          refine x_iastn (k := (4 + 5 * i + 3)) hx hb hK.1 hP hD hS 0 0 rfl rfl (by omega) (by decide) (g := row (sf (pMinH r d i) 3 (upd ((pMinH r d i) 3) i 1))) (row_up _ (by decide) _) dX9_minute_164 (fun H locs hP hD hS => ?_)
                          have hP : va_P G.1 vwCl ([(q, .inl (G.2 0, 54, .inl (row (sf (pMinH r d i) 3 (upd ((pMinH r d i) 3) i 1)))))]) H := hP
                          have hD : va_D A ([(q, .inl (G.2 0, 54, .inl (row (sf (pMinH r d i) 3 (upd ((pMinH r d i) 3) i 1)))))]) := hD
                          refine lv_iinc (v := nI (i + 1)) (lv' := [(4, .int (nI (i + 1))), (3, .int (bI (pLie r))), (2, .int (bs (pHl r) (mny r))), (0, .ref q), (1, .int d)]) hx hb dX9_minute_165 hl (k := 0) rfl (x_inc1 _) (by decide) rfl (fun ls hl => ?_)
                          refine lv_goto (tgt := 121) hx hb dX9_minute_168 (by decide) ?_
                          rw [pMinH_s (v := 1) (if_pos (show pDrop r d i = true by unfold pDrop; rw [show pSt r i = true from (by first | exact bI_n0 c_7 | exact bI_0.mp c_7), decide_eq_true (Int32.not_le.mp c_10)]; rfl))] at hP hD
                          exact ih_121 (i + 1) (by omega) (by omega) _ _ _ hP hD hS (lv_sub hl [0, 1, 2, 3, 4] rfl)
                exact loop_121 (mny r + 1) 0 (Nat.zero_le _) (by omega) _ _ _ (by rw [pMinH_0]; exact hP) (by rw [pMinH_0]; exact hD) hS (lv_sub hl [0, 1, 2, 3, 4] rfl)
              · skip
                have g_4 := mt (nI_leI (by omega) (by omega)).mpr c_4
                refine lv_aload_n hx hb dX9_minute_67 rfl (lv_at hl 3 rfl) ?_
                refine lv_iload hx hb dX9_minute_68 (lv_at hl 0 rfl) ?_
                refine x_Si (wN := fun _ => ([(q, .inl (G.2 0, 54, .inl (row (pMinA r d i))))])) ⟨C0, hK, hP, hD, hS, hA⟩ ((m9_stands l G q (pMinA r d i) (Ok.minA hr) i (by omega))) (va_cwS 2 hts (lw_S q1251 q1252 q95 q1253) rfl rfl rfl (by decide +kernel) ⟨Nat.le_of_ble_eq_true rfl, Nat.le_of_ble_eq_true rfl⟩) [0] [1] rfl (fun _ => rfl) rfl rfl hl.1 rfl (Nat.le_of_ble_eq_true rfl) dX9_minute_70 ⟨(Nat.le_of_ble_eq_true rfl), (Nat.le_of_ble_eq_true rfl)⟩ (fun r_12 u_12 H locs hw_12 hP hD hS => ?_)
                have hw_12 : r_12 = bI (pSt r i) := hw_12.trans rfl
                have hw_12 : (bI (pSt r i) : Int32) = r_12 := hw_12.symm
                subst hw_12
                refine lv_if_ne (tgt := 79) hx hb dX9_minute_73 (by decide) (fun c_13 => ?_) (fun c_13 => ?_)
                · skip
                  refine lv_aload_n hx hb dX9_minute_79 rfl (lv_at hl 3 rfl) ?_
                  refine lv_iload hx hb dX9_minute_80 (lv_at hl 0 rfl) ?_
                  refine lv_iconst (v := 4) hx hb dX9_minute_82 (by decide) ?_
                  refine x_Si (wN := fun _ => ([(q, .inl (G.2 0, 54, .inl (row (pMinA r d i))))])) ⟨C0, hK, hP, hD, hS, hA⟩ ((m9_of l G i 4)) (va_cwS 2 hts (lw_S q1254 q1255 q95 q1256) rfl rfl rfl (by decide +kernel) ⟨Nat.le_of_ble_eq_true rfl, Nat.le_of_ble_eq_true rfl⟩) [] [0] rfl (fun _ => rfl) rfl rfl hl.1 rfl (Nat.le_of_ble_eq_true rfl) dX9_minute_83 ⟨(Nat.le_of_ble_eq_true rfl), (Nat.le_of_ble_eq_true rfl)⟩ (fun r_14 u_14 H locs hw_14 hP hD hS => ?_)
                  have hw_14 : (nI (4 + 5 * i + 4) : Int32) = r_14 := hw_14.symm
                  subst hw_14
                  refine lv_iload_n hx hb dX9_minute_86 rfl (lv_at hl 2 rfl) ?_
                  refine lv_iload hx hb dX9_minute_87 (lv_at hl 0 rfl) ?_
                  refine x_Si (wN := fun _ => ([(q, .inl (G.2 0, 54, .inl (row (pMinA r d i))))])) ⟨C0, hK, hP, hD, hS, hA⟩ ((m9_has l G (bs (pHl r) (mny r)) i)) (va_cwS 2 hts (lw_S q1266 q1267 q95 q1268) rfl rfl rfl (by decide +kernel) ⟨Nat.le_of_ble_eq_true rfl, Nat.le_of_ble_eq_true rfl⟩) [] [0] rfl (fun _ => rfl) rfl rfl hl.1 rfl (Nat.le_of_ble_eq_true rfl) dX9_minute_89 ⟨(Nat.le_of_ble_eq_true rfl), (Nat.le_of_ble_eq_true rfl)⟩ (fun r_15 u_15 H locs hw_15 hP hD hS => ?_)
                  have hw_15 : r_15 = bI (pHl r i) := hw_15.trans (congrArg bI (hs_in (by omega) (by omega)))
                  have hw_15 : (bI (pHl r i) : Int32) = r_15 := hw_15.symm
                  subst hw_15
                  refine lv_if_eq (tgt := 99) hx hb dX9_minute_92 (by decide) (fun c_16 => ?_) (fun c_16 => ?_)
                  · skip
                    refine lv_aload_n hx hb dX9_minute_99 rfl (lv_at hl 3 rfl) ?_
                    refine lv_iload hx hb dX9_minute_100 (lv_at hl 0 rfl) ?_
                    refine lv_iconst (v := 4) hx hb dX9_minute_102 (by decide) ?_
                    refine x_Si (wN := fun _ => ([(q, .inl (G.2 0, 54, .inl (row (pMinA r d i))))])) ⟨C0, hK, hP, hD, hS, hA⟩ ((m9_of l G i 4)) (va_cwS 2 hts (lw_S q1254 q1255 q95 q1256) rfl rfl rfl (by decide +kernel) ⟨Nat.le_of_ble_eq_true rfl, Nat.le_of_ble_eq_true rfl⟩) [] [0] rfl (fun _ => rfl) rfl rfl hl.1 rfl (Nat.le_of_ble_eq_true rfl) dX9_minute_103 ⟨(Nat.le_of_ble_eq_true rfl), (Nat.le_of_ble_eq_true rfl)⟩ (fun r_17 u_17 H locs hw_17 hP hD hS => ?_)
                    have hw_17 : (nI (4 + 5 * i + 4) : Int32) = r_17 := hw_17.symm
                    subst hw_17
                    refine x_ialdn (k := (4 + 5 * i + 4)) hx hb hK.1 hP 0 0 rfl rfl (by omega) (by decide) (v := r 4 i) ((row_at _ (by decide)).trans (pMinA_at r d i)) dX9_minute_106 ?_
                    refine lv_iconst (v := 1) hx hb dX9_minute_107 (by decide) ?_
                    refine x_iadd hx hb dX9_minute_108 (v := (r 4 i) + 1) rfl ?_
                    refine lv_iload_n hx hb dX9_minute_109 rfl (lv_at hl 4 rfl) ?_
                    refine x_iadd hx hb dX9_minute_110 (v := ((r 4 i) + 1) + d) rfl ?_
                    have eA : pAir r d i = ((r 4 i) + 1) + d := by unfold pAir; rw [if_pos (show pSt r i = true from (by first | exact bI_n0 c_13 | exact bI_0.mp c_13)), if_neg (by rw [show pHl r i = false from (by first | exact bI_n0 c_16 | exact bI_0.mp c_16)]; decide)]
                    refine x_iastn (k := (4 + 5 * i + 4)) hx hb hK.1 hP hD hS 0 0 rfl rfl (by omega) (by decide) (g := row (sf (pMinA r d i) 4 (upd ((pMinA r d i) 4) i (((r 4 i) + 1) + d)))) (row_up _ (by decide) _) dX9_minute_111 (fun H locs hP hD hS => ?_)
                    have hP : va_P G.1 vwCl ([(q, .inl (G.2 0, 54, .inl (row (sf (pMinA r d i) 4 (upd ((pMinA r d i) 4) i (((r 4 i) + 1) + d))))))]) H := hP
                    have hD : va_D A ([(q, .inl (G.2 0, 54, .inl (row (sf (pMinA r d i) 4 (upd ((pMinA r d i) 4) i (((r 4 i) + 1) + d))))))]) := hD
                    refine lv_iinc (v := nI (i + 1)) (lv' := [(4, .int (nI (i + 1))), (3, .int (bI (pLie r))), (2, .int (bs (pHl r) (mny r))), (0, .ref q), (1, .int d)]) hx hb dX9_minute_112 hl (k := 0) rfl (x_inc1 _) (by decide) rfl (fun ls hl => ?_)
                    refine lv_goto (tgt := 59) hx hb dX9_minute_115 (by decide) ?_
                    rw [pMinA_y eA] at hP hD
                    exact ih_59 (i + 1) (by omega) (by omega) _ _ _ hP hD hS (lv_sub hl [0, 1, 2, 3, 4] rfl)
                  · skip
                    refine lv_iconst (v := 0) hx hb dX9_minute_95 (by decide) ?_
                    refine lv_goto (tgt := 111) hx hb dX9_minute_96 (by decide) ?_
                    have eA : pAir r d i = 0 := by unfold pAir; rw [if_pos (show pSt r i = true from (by first | exact bI_n0 c_13 | exact bI_0.mp c_13)), if_pos (show pHl r i = true from (by first | exact bI_n0 c_16 | exact bI_0.mp c_16))]
                    refine x_iastn (k := (4 + 5 * i + 4)) hx hb hK.1 hP hD hS 0 0 rfl rfl (by omega) (by decide) (g := row (sf (pMinA r d i) 4 (upd ((pMinA r d i) 4) i 0))) (row_up _ (by decide) _) dX9_minute_111 (fun H locs hP hD hS => ?_)
                    have hP : va_P G.1 vwCl ([(q, .inl (G.2 0, 54, .inl (row (sf (pMinA r d i) 4 (upd ((pMinA r d i) 4) i 0)))))]) H := hP
                    have hD : va_D A ([(q, .inl (G.2 0, 54, .inl (row (sf (pMinA r d i) 4 (upd ((pMinA r d i) 4) i 0)))))]) := hD
                    refine lv_iinc (v := nI (i + 1)) (lv' := [(4, .int (nI (i + 1))), (3, .int (bI (pLie r))), (2, .int (bs (pHl r) (mny r))), (0, .ref q), (1, .int d)]) hx hb dX9_minute_112 hl (k := 0) rfl (x_inc1 _) (by decide) rfl (fun ls hl => ?_)
                    refine lv_goto (tgt := 59) hx hb dX9_minute_115 (by decide) ?_
                    rw [pMinA_y eA] at hP hD
                    exact ih_59 (i + 1) (by omega) (by omega) _ _ _ hP hD hS (lv_sub hl [0, 1, 2, 3, 4] rfl)
                · skip
                  refine lv_goto (tgt := 112) hx hb dX9_minute_76 (by decide) ?_
                  refine lv_iinc (v := nI (i + 1)) (lv' := [(4, .int (nI (i + 1))), (3, .int (bI (pLie r))), (2, .int (bs (pHl r) (mny r))), (0, .ref q), (1, .int d)]) hx hb dX9_minute_112 hl (k := 0) rfl (x_inc1 _) (by decide) rfl (fun ls hl => ?_)
                  refine lv_goto (tgt := 59) hx hb dX9_minute_115 (by decide) ?_
                  rw [pMinA_n (show pSt r i = false from (by first | exact bI_n0 c_13 | exact bI_0.mp c_13))] at hP hD
                  exact ih_59 (i + 1) (by omega) (by omega) _ _ _ hP hD hS (lv_sub hl [0, 1, 2, 3, 4] rfl)
          exact loop_59 (mny r + 1) 0 (Nat.zero_le _) (by omega) _ _ _ (by rw [pMinA_0]; exact hP) (by rw [pMinA_0]; exact hD) hS (lv_sub hl [0, 1, 2, 3, 4] rfl)
        · skip
          refine lv_iconst (v := 1) hx hb dX9_minute_50 (by decide) ?_
          refine lv_goto (tgt := 55) hx hb dX9_minute_51 (by decide) ?_
          have eLie : (1 : Int32) = bI (pLie r) := bI_T (decide_eq_true (show pSet r 1 ≠ 0 from c_3))
          rw [eLie]
          refine lv_istore_n (lv' := [(3, .int (bI (pLie r))), (2, .int (bs (pHl r) (mny r))), (0, .ref q), (1, .int d)]) hx hb dX9_minute_55 rfl hl (by decide) rfl (fun ls hl => ?_)
          refine lv_iconst (v := 0) hx hb dX9_minute_56 (by decide) ?_
          refine lv_istore (lv' := [(4, .int 0), (3, .int (bI (pLie r))), (2, .int (bs (pHl r) (mny r))), (0, .ref q), (1, .int d)]) hx hb dX9_minute_57 hl (by decide) rfl (fun ls hl => ?_)
          have loop_59 : ∀ (n : Nat) (i : Nat), (i ≤ mny r) → (mny r < i + n) → ∀ (H : Heap) (locs : List Loc) (ls : Array Slot), va_P G.1 vwCl ([(q, .inl (G.2 0, 54, .inl (row (pMinA r d i))))]) H → va_D A ([(q, .inl (G.2 0, 54, .inl (row (pMinA r d i))))]) → va_S A s.heap H locs → lv_has ls 5 [(4, .int (nI i)), (3, .int (bI (pLie r))), (2, .int (bs (pHl r) (mny r))), (0, .ref q), (1, .int d)] → W p l e ({ frames := 3, cells := 0, slots := 0, locals := 64 } : Room) s m args below meth c H locs 0 0 Q (F0 m 59 ls []) := by
            intro n
            induction n with
            | zero => intro i hi59_0 hi59_1; exact absurd hi59_1 (by omega)
            | succ n ih_59 =>
              intro i hi59_0 hi59_1 H locs ls hP hD hS hl
              refine lv_iload hx hb dX9_minute_59 (lv_at hl 0 rfl) ?_
              refine lv_aload_n hx hb dX9_minute_61 rfl (lv_at hl 3 rfl) ?_
              refine lv_iconst (v := 0) hx hb dX9_minute_62 (by decide) ?_
              refine x_ialdn (k := 0) hx hb hK.1 hP 0 0 rfl rfl (by decide) (by decide) (v := nI (mny r)) (hr0) dX9_minute_63 ?_
              refine lv_icmp_ge (tgt := 118) hx hb dX9_minute_64 (by decide) (fun c_18 => ?_) (fun c_18 => ?_)
              · skip
                have g_18 := (nI_leI (by omega) (by omega)).mp c_18
                obtain rfl : i = mny r := by omega
                refine lv_iconst (v := 0) hx hb dX9_minute_118 (by decide) ?_
                refine lv_istore (lv' := [(4, .int 0), (3, .int (bI (pLie r))), (2, .int (bs (pHl r) (mny r))), (0, .ref q), (1, .int d)]) hx hb dX9_minute_119 hl (by decide) rfl (fun ls hl => ?_)
                have loop_121 : ∀ (n : Nat) (i : Nat), (i ≤ mny r) → (mny r < i + n) → ∀ (H : Heap) (locs : List Loc) (ls : Array Slot), va_P G.1 vwCl ([(q, .inl (G.2 0, 54, .inl (row (pMinH r d i))))]) H → va_D A ([(q, .inl (G.2 0, 54, .inl (row (pMinH r d i))))]) → va_S A s.heap H locs → lv_has ls 5 [(4, .int (nI i)), (3, .int (bI (pLie r))), (2, .int (bs (pHl r) (mny r))), (0, .ref q), (1, .int d)] → W p l e ({ frames := 3, cells := 0, slots := 0, locals := 64 } : Room) s m args below meth c H locs 0 0 Q (F0 m 121 ls []) := by
                  intro n
                  induction n with
                  | zero => intro i hi121_0 hi121_1; exact absurd hi121_1 (by omega)
                  | succ n ih_121 =>
                    intro i hi121_0 hi121_1 H locs ls hP hD hS hl
                    refine lv_iload hx hb dX9_minute_121 (lv_at hl 0 rfl) ?_
                    refine lv_aload_n hx hb dX9_minute_123 rfl (lv_at hl 3 rfl) ?_
                    refine lv_iconst (v := 0) hx hb dX9_minute_124 (by decide) ?_
                    refine x_ialdn (k := 0) hx hb hK.1 hP 0 0 rfl rfl (by decide) (by decide) (v := nI (mny r)) (hr0) dX9_minute_125 ?_
                    refine lv_icmp_ge (tgt := 171) hx hb dX9_minute_126 (by decide) (fun c_19 => ?_) (fun c_19 => ?_)
                    · skip
                      have g_19 := (nI_leI (by omega) (by omega)).mp c_19
                      obtain rfl : i = mny r := by omega
                      refine hret _ _ _ _ _ _ () dX9_minute_171 ?_ hP hD hS (Nat.le_of_ble_eq_true rfl) (Nat.le_of_ble_eq_true rfl)
                      trivial
                    · skip
                      have g_19 := mt (nI_leI (by omega) (by omega)).mpr c_19
                      refine lv_aload_n hx hb dX9_minute_129 rfl (lv_at hl 3 rfl) ?_
                      refine lv_iload hx hb dX9_minute_130 (lv_at hl 0 rfl) ?_
                      refine x_Si (wN := fun _ => ([(q, .inl (G.2 0, 54, .inl (row (pMinH r d i))))])) ⟨C0, hK, hP, hD, hS, hA⟩ ((m9_stands l G q (pMinH r d i) (Ok.minH hr) i (by omega))) (va_cwS 2 hts (lw_S q1251 q1252 q95 q1253) rfl rfl rfl (by decide +kernel) ⟨Nat.le_of_ble_eq_true rfl, Nat.le_of_ble_eq_true rfl⟩) [0] [1] rfl (fun _ => rfl) rfl rfl hl.1 rfl (Nat.le_of_ble_eq_true rfl) dX9_minute_132 ⟨(Nat.le_of_ble_eq_true rfl), (Nat.le_of_ble_eq_true rfl)⟩ (fun r_20 u_20 H locs hw_20 hP hD hS => ?_)
                      have hw_20 : r_20 = bI (pSt r i) := hw_20.trans (congrArg bI (pSt_minH r d i))
                      have hw_20 : (bI (pSt r i) : Int32) = r_20 := hw_20.symm
                      subst hw_20
                      refine lv_if_eq (tgt := 165) hx hb dX9_minute_135 (by decide) (fun c_21 => ?_) (fun c_21 => ?_)
                      · skip
                        refine lv_iinc (v := nI (i + 1)) (lv' := [(4, .int (nI (i + 1))), (3, .int (bI (pLie r))), (2, .int (bs (pHl r) (mny r))), (0, .ref q), (1, .int d)]) hx hb dX9_minute_165 hl (k := 0) rfl (x_inc1 _) (by decide) rfl (fun ls hl => ?_)
                        refine lv_goto (tgt := 121) hx hb dX9_minute_168 (by decide) ?_
                        rw [pMinH_n (show pDrop r d i = false by unfold pDrop; rw [show pSt r i = false from (by first | exact bI_n0 c_21 | exact bI_0.mp c_21)]; rfl)] at hP hD
                        exact ih_121 (i + 1) (by omega) (by omega) _ _ _ hP hD hS (lv_sub hl [0, 1, 2, 3, 4] rfl)
                      · skip
                        refine lv_aload_n hx hb dX9_minute_138 rfl (lv_at hl 3 rfl) ?_
                        refine lv_iload hx hb dX9_minute_139 (lv_at hl 0 rfl) ?_
                        refine lv_iconst (v := 4) hx hb dX9_minute_141 (by decide) ?_
                        refine x_Si (wN := fun _ => ([(q, .inl (G.2 0, 54, .inl (row (pMinH r d i))))])) ⟨C0, hK, hP, hD, hS, hA⟩ ((m9_of l G i 4)) (va_cwS 2 hts (lw_S q1254 q1255 q95 q1256) rfl rfl rfl (by decide +kernel) ⟨Nat.le_of_ble_eq_true rfl, Nat.le_of_ble_eq_true rfl⟩) [] [0] rfl (fun _ => rfl) rfl rfl hl.1 rfl (Nat.le_of_ble_eq_true rfl) dX9_minute_142 ⟨(Nat.le_of_ble_eq_true rfl), (Nat.le_of_ble_eq_true rfl)⟩ (fun r_22 u_22 H locs hw_22 hP hD hS => ?_)
                        have hw_22 : (nI (4 + 5 * i + 4) : Int32) = r_22 := hw_22.symm
                        subst hw_22
                        refine x_ialdn (k := (4 + 5 * i + 4)) hx hb hK.1 hP 0 0 rfl rfl (by omega) (by decide) (v := pAir r d i) ((row_at _ (by decide)).trans (pMinH_air (by omega))) dX9_minute_145 ?_
                        refine lv_aload_n hx hb dX9_minute_146 rfl (lv_at hl 3 rfl) ?_
                        refine lv_iload hx hb dX9_minute_147 (lv_at hl 0 rfl) ?_
                        refine lv_iload_n hx hb dX9_minute_149 rfl (lv_at hl 1 rfl) ?_
                        refine x_Si (wN := fun _ => ([(q, .inl (G.2 0, 54, .inl (row (pMinH r d i))))])) ⟨C0, hK, hP, hD, hS, hA⟩ ((m9_habit l G q (pMinH r d i) (Ok.minH hr) i (pLie r) (show i < mny r by omega))) (va_cwS 3 hts (lw_S q1284 q1285 q95 q1286) rfl rfl rfl (by decide +kernel) ⟨Nat.le_of_ble_eq_true rfl, Nat.le_of_ble_eq_true rfl⟩) [0] [1] rfl (fun _ => rfl) rfl rfl hl.1 rfl (Nat.le_of_ble_eq_true rfl) dX9_minute_150 ⟨(Nat.le_of_ble_eq_true rfl), (Nat.le_of_ble_eq_true rfl)⟩ (fun r_23 u_23 H locs hw_23 hP hD hS => ?_)
                        have hw_23 : r_23 = pHabit (r 0 i) (r 1 i) (pLie r) := hw_23.trans rfl
                        have hw_23 : (pHabit (r 0 i) (r 1 i) (pLie r) : Int32) = r_23 := hw_23.symm
                        subst hw_23
                        refine lv_icmp_le (tgt := 165) hx hb dX9_minute_153 (by decide) (fun c_24 => ?_) (fun c_24 => ?_)
                        · skip
                          refine lv_iinc (v := nI (i + 1)) (lv' := [(4, .int (nI (i + 1))), (3, .int (bI (pLie r))), (2, .int (bs (pHl r) (mny r))), (0, .ref q), (1, .int d)]) hx hb dX9_minute_165 hl (k := 0) rfl (x_inc1 _) (by decide) rfl (fun ls hl => ?_)
                          refine lv_goto (tgt := 121) hx hb dX9_minute_168 (by decide) ?_
                          rw [pMinH_n (show pDrop r d i = false by unfold pDrop; rw [show pSt r i = true from (by first | exact bI_n0 c_21 | exact bI_0.mp c_21), decide_eq_false (Int32.not_lt.mpr c_24)]; rfl)] at hP hD
                          exact ih_121 (i + 1) (by omega) (by omega) _ _ _ hP hD hS (lv_sub hl [0, 1, 2, 3, 4] rfl)
                        · skip
                          refine lv_aload_n hx hb dX9_minute_156 rfl (lv_at hl 3 rfl) ?_
                          refine lv_iload hx hb dX9_minute_157 (lv_at hl 0 rfl) ?_
                          refine lv_iconst (v := 3) hx hb dX9_minute_159 (by decide) ?_
                          refine x_Si (wN := fun _ => ([(q, .inl (G.2 0, 54, .inl (row (pMinH r d i))))])) ⟨C0, hK, hP, hD, hS, hA⟩ ((m9_of l G i 3)) (va_cwS 2 hts (lw_S q1254 q1255 q95 q1256) rfl rfl rfl (by decide +kernel) ⟨Nat.le_of_ble_eq_true rfl, Nat.le_of_ble_eq_true rfl⟩) [] [0] rfl (fun _ => rfl) rfl rfl hl.1 rfl (Nat.le_of_ble_eq_true rfl) dX9_minute_160 ⟨(Nat.le_of_ble_eq_true rfl), (Nat.le_of_ble_eq_true rfl)⟩ (fun r_25 u_25 H locs hw_25 hP hD hS => ?_)
                          have hw_25 : (nI (4 + 5 * i + 3) : Int32) = r_25 := hw_25.symm
                          subst hw_25
                          refine lv_iconst (v := 1) hx hb dX9_minute_163 (by decide) ?_
                          refine x_iastn (k := (4 + 5 * i + 3)) hx hb hK.1 hP hD hS 0 0 rfl rfl (by omega) (by decide) (g := row (sf (pMinH r d i) 3 (upd ((pMinH r d i) 3) i 1))) (row_up _ (by decide) _) dX9_minute_164 (fun H locs hP hD hS => ?_)
                          have hP : va_P G.1 vwCl ([(q, .inl (G.2 0, 54, .inl (row (sf (pMinH r d i) 3 (upd ((pMinH r d i) 3) i 1)))))]) H := hP
                          have hD : va_D A ([(q, .inl (G.2 0, 54, .inl (row (sf (pMinH r d i) 3 (upd ((pMinH r d i) 3) i 1)))))]) := hD
                          refine lv_iinc (v := nI (i + 1)) (lv' := [(4, .int (nI (i + 1))), (3, .int (bI (pLie r))), (2, .int (bs (pHl r) (mny r))), (0, .ref q), (1, .int d)]) hx hb dX9_minute_165 hl (k := 0) rfl (x_inc1 _) (by decide) rfl (fun ls hl => ?_)
                          refine lv_goto (tgt := 121) hx hb dX9_minute_168 (by decide) ?_
                          rw [pMinH_s (v := 1) (if_pos (show pDrop r d i = true by unfold pDrop; rw [show pSt r i = true from (by first | exact bI_n0 c_21 | exact bI_0.mp c_21), decide_eq_true (Int32.not_le.mp c_24)]; rfl))] at hP hD
                          exact ih_121 (i + 1) (by omega) (by omega) _ _ _ hP hD hS (lv_sub hl [0, 1, 2, 3, 4] rfl)
                exact loop_121 (mny r + 1) 0 (Nat.zero_le _) (by omega) _ _ _ (by rw [pMinH_0]; exact hP) (by rw [pMinH_0]; exact hD) hS (lv_sub hl [0, 1, 2, 3, 4] rfl)
              · skip
                have g_18 := mt (nI_leI (by omega) (by omega)).mpr c_18
                refine lv_aload_n hx hb dX9_minute_67 rfl (lv_at hl 3 rfl) ?_
                refine lv_iload hx hb dX9_minute_68 (lv_at hl 0 rfl) ?_
                refine x_Si (wN := fun _ => ([(q, .inl (G.2 0, 54, .inl (row (pMinA r d i))))])) ⟨C0, hK, hP, hD, hS, hA⟩ ((m9_stands l G q (pMinA r d i) (Ok.minA hr) i (by omega))) (va_cwS 2 hts (lw_S q1251 q1252 q95 q1253) rfl rfl rfl (by decide +kernel) ⟨Nat.le_of_ble_eq_true rfl, Nat.le_of_ble_eq_true rfl⟩) [0] [1] rfl (fun _ => rfl) rfl rfl hl.1 rfl (Nat.le_of_ble_eq_true rfl) dX9_minute_70 ⟨(Nat.le_of_ble_eq_true rfl), (Nat.le_of_ble_eq_true rfl)⟩ (fun r_26 u_26 H locs hw_26 hP hD hS => ?_)
                have hw_26 : r_26 = bI (pSt r i) := hw_26.trans rfl
                have hw_26 : (bI (pSt r i) : Int32) = r_26 := hw_26.symm
                subst hw_26
                refine lv_if_ne (tgt := 79) hx hb dX9_minute_73 (by decide) (fun c_27 => ?_) (fun c_27 => ?_)
                · skip
                  refine lv_aload_n hx hb dX9_minute_79 rfl (lv_at hl 3 rfl) ?_
                  refine lv_iload hx hb dX9_minute_80 (lv_at hl 0 rfl) ?_
                  refine lv_iconst (v := 4) hx hb dX9_minute_82 (by decide) ?_
                  refine x_Si (wN := fun _ => ([(q, .inl (G.2 0, 54, .inl (row (pMinA r d i))))])) ⟨C0, hK, hP, hD, hS, hA⟩ ((m9_of l G i 4)) (va_cwS 2 hts (lw_S q1254 q1255 q95 q1256) rfl rfl rfl (by decide +kernel) ⟨Nat.le_of_ble_eq_true rfl, Nat.le_of_ble_eq_true rfl⟩) [] [0] rfl (fun _ => rfl) rfl rfl hl.1 rfl (Nat.le_of_ble_eq_true rfl) dX9_minute_83 ⟨(Nat.le_of_ble_eq_true rfl), (Nat.le_of_ble_eq_true rfl)⟩ (fun r_28 u_28 H locs hw_28 hP hD hS => ?_)
                  have hw_28 : (nI (4 + 5 * i + 4) : Int32) = r_28 := hw_28.symm
                  subst hw_28
                  refine lv_iload_n hx hb dX9_minute_86 rfl (lv_at hl 2 rfl) ?_
                  refine lv_iload hx hb dX9_minute_87 (lv_at hl 0 rfl) ?_
                  refine x_Si (wN := fun _ => ([(q, .inl (G.2 0, 54, .inl (row (pMinA r d i))))])) ⟨C0, hK, hP, hD, hS, hA⟩ ((m9_has l G (bs (pHl r) (mny r)) i)) (va_cwS 2 hts (lw_S q1266 q1267 q95 q1268) rfl rfl rfl (by decide +kernel) ⟨Nat.le_of_ble_eq_true rfl, Nat.le_of_ble_eq_true rfl⟩) [] [0] rfl (fun _ => rfl) rfl rfl hl.1 rfl (Nat.le_of_ble_eq_true rfl) dX9_minute_89 ⟨(Nat.le_of_ble_eq_true rfl), (Nat.le_of_ble_eq_true rfl)⟩ (fun r_29 u_29 H locs hw_29 hP hD hS => ?_)
                  have hw_29 : r_29 = bI (pHl r i) := hw_29.trans (congrArg bI (hs_in (by omega) (by omega)))
                  have hw_29 : (bI (pHl r i) : Int32) = r_29 := hw_29.symm
                  subst hw_29
                  refine lv_if_eq (tgt := 99) hx hb dX9_minute_92 (by decide) (fun c_30 => ?_) (fun c_30 => ?_)
                  · skip
                    refine lv_aload_n hx hb dX9_minute_99 rfl (lv_at hl 3 rfl) ?_
                    refine lv_iload hx hb dX9_minute_100 (lv_at hl 0 rfl) ?_
                    refine lv_iconst (v := 4) hx hb dX9_minute_102 (by decide) ?_
                    refine x_Si (wN := fun _ => ([(q, .inl (G.2 0, 54, .inl (row (pMinA r d i))))])) ⟨C0, hK, hP, hD, hS, hA⟩ ((m9_of l G i 4)) (va_cwS 2 hts (lw_S q1254 q1255 q95 q1256) rfl rfl rfl (by decide +kernel) ⟨Nat.le_of_ble_eq_true rfl, Nat.le_of_ble_eq_true rfl⟩) [] [0] rfl (fun _ => rfl) rfl rfl hl.1 rfl (Nat.le_of_ble_eq_true rfl) dX9_minute_103 ⟨(Nat.le_of_ble_eq_true rfl), (Nat.le_of_ble_eq_true rfl)⟩ (fun r_31 u_31 H locs hw_31 hP hD hS => ?_)
                    have hw_31 : (nI (4 + 5 * i + 4) : Int32) = r_31 := hw_31.symm
                    subst hw_31
                    refine x_ialdn (k := (4 + 5 * i + 4)) hx hb hK.1 hP 0 0 rfl rfl (by omega) (by decide) (v := r 4 i) ((row_at _ (by decide)).trans (pMinA_at r d i)) dX9_minute_106 ?_
                    refine lv_iconst (v := 1) hx hb dX9_minute_107 (by decide) ?_
                    refine x_iadd hx hb dX9_minute_108 (v := (r 4 i) + 1) rfl ?_
                    refine lv_iload_n hx hb dX9_minute_109 rfl (lv_at hl 4 rfl) ?_
                    refine x_iadd hx hb dX9_minute_110 (v := ((r 4 i) + 1) + d) rfl ?_
                    have eA : pAir r d i = ((r 4 i) + 1) + d := by unfold pAir; rw [if_pos (show pSt r i = true from (by first | exact bI_n0 c_27 | exact bI_0.mp c_27)), if_neg (by rw [show pHl r i = false from (by first | exact bI_n0 c_30 | exact bI_0.mp c_30)]; decide)]
                    refine x_iastn (k := (4 + 5 * i + 4)) hx hb hK.1 hP hD hS 0 0 rfl rfl (by omega) (by decide) (g := row (sf (pMinA r d i) 4 (upd ((pMinA r d i) 4) i (((r 4 i) + 1) + d)))) (row_up _ (by decide) _) dX9_minute_111 (fun H locs hP hD hS => ?_)
                    have hP : va_P G.1 vwCl ([(q, .inl (G.2 0, 54, .inl (row (sf (pMinA r d i) 4 (upd ((pMinA r d i) 4) i (((r 4 i) + 1) + d))))))]) H := hP
                    have hD : va_D A ([(q, .inl (G.2 0, 54, .inl (row (sf (pMinA r d i) 4 (upd ((pMinA r d i) 4) i (((r 4 i) + 1) + d))))))]) := hD
                    refine lv_iinc (v := nI (i + 1)) (lv' := [(4, .int (nI (i + 1))), (3, .int (bI (pLie r))), (2, .int (bs (pHl r) (mny r))), (0, .ref q), (1, .int d)]) hx hb dX9_minute_112 hl (k := 0) rfl (x_inc1 _) (by decide) rfl (fun ls hl => ?_)
                    refine lv_goto (tgt := 59) hx hb dX9_minute_115 (by decide) ?_
                    rw [pMinA_y eA] at hP hD
                    exact ih_59 (i + 1) (by omega) (by omega) _ _ _ hP hD hS (lv_sub hl [0, 1, 2, 3, 4] rfl)
                  · skip
                    refine lv_iconst (v := 0) hx hb dX9_minute_95 (by decide) ?_
                    refine lv_goto (tgt := 111) hx hb dX9_minute_96 (by decide) ?_
                    have eA : pAir r d i = 0 := by unfold pAir; rw [if_pos (show pSt r i = true from (by first | exact bI_n0 c_27 | exact bI_0.mp c_27)), if_pos (show pHl r i = true from (by first | exact bI_n0 c_30 | exact bI_0.mp c_30))]
                    refine x_iastn (k := (4 + 5 * i + 4)) hx hb hK.1 hP hD hS 0 0 rfl rfl (by omega) (by decide) (g := row (sf (pMinA r d i) 4 (upd ((pMinA r d i) 4) i 0))) (row_up _ (by decide) _) dX9_minute_111 (fun H locs hP hD hS => ?_)
                    have hP : va_P G.1 vwCl ([(q, .inl (G.2 0, 54, .inl (row (sf (pMinA r d i) 4 (upd ((pMinA r d i) 4) i 0)))))]) H := hP
                    have hD : va_D A ([(q, .inl (G.2 0, 54, .inl (row (sf (pMinA r d i) 4 (upd ((pMinA r d i) 4) i 0)))))]) := hD
                    refine lv_iinc (v := nI (i + 1)) (lv' := [(4, .int (nI (i + 1))), (3, .int (bI (pLie r))), (2, .int (bs (pHl r) (mny r))), (0, .ref q), (1, .int d)]) hx hb dX9_minute_112 hl (k := 0) rfl (x_inc1 _) (by decide) rfl (fun ls hl => ?_)
                    refine lv_goto (tgt := 59) hx hb dX9_minute_115 (by decide) ?_
                    rw [pMinA_y eA] at hP hD
                    exact ih_59 (i + 1) (by omega) (by omega) _ _ _ hP hD hS (lv_sub hl [0, 1, 2, 3, 4] rfl)
                · skip
                  refine lv_goto (tgt := 112) hx hb dX9_minute_76 (by decide) ?_
                  refine lv_iinc (v := nI (i + 1)) (lv' := [(4, .int (nI (i + 1))), (3, .int (bI (pLie r))), (2, .int (bs (pHl r) (mny r))), (0, .ref q), (1, .int d)]) hx hb dX9_minute_112 hl (k := 0) rfl (x_inc1 _) (by decide) rfl (fun ls hl => ?_)
                  refine lv_goto (tgt := 59) hx hb dX9_minute_115 (by decide) ?_
                  rw [pMinA_n (show pSt r i = false from (by first | exact bI_n0 c_27 | exact bI_0.mp c_27))] at hP hD
                  exact ih_59 (i + 1) (by omega) (by omega) _ _ _ hP hD hS (lv_sub hl [0, 1, 2, 3, 4] rfl)
          exact loop_59 (mny r + 1) 0 (Nat.zero_le _) (by omega) _ _ _ (by rw [pMinA_0]; exact hP) (by rw [pMinA_0]; exact hD) hS (lv_sub hl [0, 1, 2, 3, 4] rfl)
      · skip
        have g_1 := mt (nI_leI (by omega) (by omega)).mpr c_1
        refine lv_iload_n hx hb dX9_minute_18 rfl (lv_at hl 1 rfl) ?_
        refine lv_aload_n hx hb dX9_minute_19 rfl (lv_at hl 2 rfl) ?_
        refine lv_iload_n hx hb dX9_minute_20 rfl (lv_at hl 0 rfl) ?_
        refine x_Si (wN := fun _ => ([(q, .inl (G.2 0, 54, .inl (row (sf r 5 (upd (r 5) 1 (r 5 1 + 1))))))])) ⟨C0, hK, hP, hD, hS, hA⟩ ((m9_isHeld l G q (sf r 5 (upd (r 5) 1 (r 5 1 + 1))) (Ok.h1 hr) i (show i < mny r by omega))) (va_cwS 2 hts (lw_S q1278 q1279 q95 q1280) rfl rfl rfl (by decide +kernel) ⟨Nat.le_of_ble_eq_true rfl, Nat.le_of_ble_eq_true rfl⟩) [0] [1] rfl (fun _ => rfl) rfl rfl hl.1 rfl (Nat.le_of_ble_eq_true rfl) dX9_minute_21 ⟨(Nat.le_of_ble_eq_true rfl), (Nat.le_of_ble_eq_true rfl)⟩ (fun r_32 u_32 H locs hw_32 hP hD hS => ?_)
        have hw_32 : r_32 = bI (pHl r i) := hw_32.trans rfl
        have hw_32 : (bI (pHl r i) : Int32) = r_32 := hw_32.symm
        subst hw_32
        refine lv_if_eq (tgt := 33) hx hb dX9_minute_24 (by decide) (fun c_33 => ?_) (fun c_33 => ?_)
        · skip
          refine lv_iconst (v := 0) hx hb dX9_minute_33 (by decide) ?_
          refine x_ior hx hb dX9_minute_34 (v := bs (pHl r) (i + 1)) (bs_f (show pHl r i = false from (by first | exact bI_n0 c_33 | exact bI_0.mp c_33))) ?_
          refine lv_istore_n (lv' := [(2, .int (bs (pHl r) (i + 1))), (3, .int (nI i)), (0, .ref q), (1, .int d)]) hx hb dX9_minute_35 rfl hl (by decide) rfl (fun ls hl => ?_)
          refine lv_iinc (v := nI (i + 1)) (lv' := [(3, .int (nI (i + 1))), (2, .int (bs (pHl r) (i + 1))), (0, .ref q), (1, .int d)]) hx hb dX9_minute_36 hl (k := 1) rfl (x_inc1 _) (by decide) rfl (fun ls hl => ?_)
          refine lv_goto (tgt := 11) hx hb dX9_minute_39 (by decide) ?_
          exact ih_11 (i + 1) (by omega) (by omega) _ _ _ hP hD hS (lv_sub hl [0, 1, 2, 3] rfl)
        · skip
          refine lv_iconst (v := 1) hx hb dX9_minute_27 (by decide) ?_
          refine lv_iload_n hx hb dX9_minute_28 rfl (lv_at hl 0 rfl) ?_
          refine x_ishl hx hb dX9_minute_29 (v := b1 i) rfl ?_
          refine lv_goto (tgt := 34) hx hb dX9_minute_30 (by decide) ?_
          refine x_ior hx hb dX9_minute_34 (v := bs (pHl r) (i + 1)) (bs_t (show pHl r i = true from (by first | exact bI_n0 c_33 | exact bI_0.mp c_33))) ?_
          refine lv_istore_n (lv' := [(2, .int (bs (pHl r) (i + 1))), (3, .int (nI i)), (0, .ref q), (1, .int d)]) hx hb dX9_minute_35 rfl hl (by decide) rfl (fun ls hl => ?_)
          refine lv_iinc (v := nI (i + 1)) (lv' := [(3, .int (nI (i + 1))), (2, .int (bs (pHl r) (i + 1))), (0, .ref q), (1, .int d)]) hx hb dX9_minute_36 hl (k := 1) rfl (x_inc1 _) (by decide) rfl (fun ls hl => ?_)
          refine lv_goto (tgt := 11) hx hb dX9_minute_39 (by decide) ?_
          exact ih_11 (i + 1) (by omega) (by omega) _ _ _ hP hD hS (lv_sub hl [0, 1, 2, 3] rfl)
  exact loop_11 (mny r + 1) 0 (Nat.zero_le _) (by omega) _ _ _ hP hD hS (lv_sub hl [0, 1, 2, 3] rfl)
set_option maxHeartbeats 4000000 in
set_option maxRecDepth 100000 in
theorem m9_minutesOn (l : Launch) (G : xG) (q : Nat) (r : Rw) (hr : Ok r) (k : Nat) (hk1 : k < 2 ^ 30) : xCv l G yX9_minutesOn cX9_minutesOn 3 none ({ frames := 4, cells := 0, slots := 0, locals := 88 } : Room) [.ref q, .int (nI k)] ([(q, .inl (G.2 0, 54, .inl (row r)))]) (S := Unit) (fun _ => True) (fun _ => ([(q, .inl (G.2 0, 54, .inl (row (pMins r k))))])) := by
  refine x_openv (by decide) (Nat.le_of_ble_eq_true rfl) ?_
  intro p e s m args below meth c A Q ls C0 hK hP hD hA hl hret
  obtain ⟨hx, hb, hml, hown, hts⟩ := id C0
  have hS : va_S A s.heap s.heap [] := va_S.rf
  have hP : va_P G.1 vwCl ([(q, .inl (G.2 0, 54, .inl (row r)))]) s.heap := hP
  have hD : va_D A ([(q, .inl (G.2 0, 54, .inl (row r)))]) := hD
  have hl : lv_has ls 3 [(0, .ref q), (1, .int (nI k))] := hl
  have hr0 := hr.n
  have hN := hr.le
  refine lv_iconst (v := 0) hx hb dX9_minutesOn_0 (by decide) ?_
  refine lv_istore_n (lv' := [(2, .int 0), (0, .ref q), (1, .int (nI k))]) hx hb dX9_minutesOn_1 rfl hl (by decide) rfl (fun ls hl => ?_)
  have loop_2 : ∀ (n : Nat) (i : Nat), (i ≤ k) → (k < i + n) → ∀ (H : Heap) (locs : List Loc) (ls : Array Slot), va_P G.1 vwCl ([(q, .inl (G.2 0, 54, .inl (row (pMins r i))))]) H → va_D A ([(q, .inl (G.2 0, 54, .inl (row (pMins r i))))]) → va_S A s.heap H locs → lv_has ls 3 [(2, .int (nI i)), (0, .ref q), (1, .int (nI k))] → W p l e ({ frames := 4, cells := 0, slots := 0, locals := 88 } : Room) s m args below meth c H locs 0 0 Q (F0 m 2 ls []) := by
    intro n
    induction n with
    | zero => intro i hi2_0 hi2_1; exact absurd hi2_1 (by omega)
    | succ n ih_2 =>
      intro i hi2_0 hi2_1 H locs ls hP hD hS hl
      refine lv_iload_n hx hb dX9_minutesOn_2 rfl (lv_at hl 0 rfl) ?_
      refine lv_iload_n hx hb dX9_minutesOn_3 rfl (lv_at hl 2 rfl) ?_
      refine lv_icmp_ge (tgt := 18) hx hb dX9_minutesOn_4 (by decide) (fun c_1 => ?_) (fun c_1 => ?_)
      · skip
        have g_1 := (nI_leI (by omega) (by omega)).mp c_1
        have ei : i = k := by omega
        rw [ei] at hP hD
        refine hret _ _ _ _ _ _ () dX9_minutesOn_18 ?_ hP hD hS (Nat.le_of_ble_eq_true rfl) (Nat.le_of_ble_eq_true rfl)
        trivial
      · skip
        have g_1 := mt (nI_leI (by omega) (by omega)).mpr c_1
        refine lv_aload_n hx hb dX9_minutesOn_7 rfl (lv_at hl 1 rfl) ?_
        refine lv_iconst (v := 0) hx hb dX9_minutesOn_8 (by decide) ?_
        refine x_Sv (wN := fun _ => ([(q, .inl (G.2 0, 54, .inl (row (pMin (pMins r i) 0))))])) ⟨C0, hK, hP, hD, hS, hA⟩ ((m9_minute l G q (pMins r i) (hr.mins) 0)) (va_cwS 2 hts (lw_S q1275 q1276 q95 q1277) rfl rfl rfl (by decide +kernel) ⟨Nat.le_of_ble_eq_true rfl, Nat.le_of_ble_eq_true rfl⟩) [0] [1] rfl (fun _ => rfl) rfl rfl hl.1 rfl (Nat.le_of_ble_eq_true rfl) dX9_minutesOn_9 ⟨(Nat.le_of_ble_eq_true rfl), (Nat.le_of_ble_eq_true rfl)⟩ (fun u_2 H locs hw_2 hP hD hS => ?_)
        have hP : va_P G.1 vwCl ([(q, .inl (G.2 0, 54, .inl (row (pMin (pMins r i) 0))))]) H := hP
        have hD : va_D A ([(q, .inl (G.2 0, 54, .inl (row (pMin (pMins r i) 0))))]) := hD
        refine lv_iinc (v := nI (i + 1)) (lv' := [(2, .int (nI (i + 1))), (0, .ref q), (1, .int (nI k))]) hx hb dX9_minutesOn_12 hl (k := 0) rfl (x_inc1 _) (by decide) rfl (fun ls hl => ?_)
        refine lv_goto (tgt := 2) hx hb dX9_minutesOn_15 (by decide) ?_
        exact ih_2 (i + 1) (by omega) (by omega) _ _ _ hP hD hS (lv_sub hl [0, 1, 2] rfl)
  exact loop_2 (k + 1) 0 (Nat.zero_le _) (by omega) _ _ _ hP hD hS (lv_sub hl [0, 1, 2] rfl)

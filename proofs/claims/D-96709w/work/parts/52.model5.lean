/-! the model: the most pulled, keys, props (printed by tools/model5.py) -/
/-! the model: the most pulled, keys, props, orders, what lies, rebuilding -/
set_option maxRecDepth 100000
theorem pPS_c {r : Rw} {x : Int32} : ∀ n q, pPS r x n = some q → mny q = mny r ∧ (∀ f, f ≠ 3 → q f = r f)
  | 0, q, h => by cases h; exact ⟨rfl, fun _ _ => rfl⟩
  | n + 1, q, h => by
    cases e : pPS r x n with
    | none => rw [pPS_n e 1] at h; cases h
    | some q0 =>
      obtain ⟨a1, a2⟩ := pPS_c n q0 e
      rw [pPS_s e] at h
      split at h
      · split at h
        · cases h
          refine ⟨a1, fun f hf => ?_⟩
          rw [← a2 f hf]
          unfold pPull pFall pFallTo pGone
          rw [sf_n _ _ hf, sf_n _ _ hf]
        · cases h
      · cases h; exact ⟨a1, a2⟩
theorem pPS_ok {r : Rw} {x : Int32} (hr : Ok r) : ∀ n q, pPS r x n = some q → Ok q
  | 0, q, h => by cases h; exact hr
  | n + 1, q, h => by
    cases e : pPS r x n with
    | none => rw [pPS_n e 1] at h; cases h
    | some q0 =>
      have ih := pPS_ok hr n q0 e
      rw [pPS_s e] at h
      split at h
      · split at h
        · cases h; exact Ok.pull ih
        · cases h
      · cases h; exact ih
/-- a bool by an option -/
def oB {α : Type} : Option α → Bool
  | none => false
  | some _ => true
theorem pEn_none {r : Rw} {x : Int32} {t n : Nat} (h : pPS r x (mny r) = none) : pEn r x t n = false := by unfold pEn; rw [h]
/-- one thing alone -/
theorem hs_b1 {a i : Nat} (ha : a < 10) (hi : i < 32) : hs (b1 a) i = decide (i = a) := by
  rw [b1_nI a (by omega), hs_nI (by have : 2 ^ a ≤ 2 ^ 10 := Nat.pow_le_pow_right (by omega) (by omega); omega) hi, Nat.testBit_two_pow]
  simp only [decide_eq_decide]
  exact eq_comm
theorem pPS_b1 {r : Rw} {a : Nat} (ha : a < 10) : ∀ n, n ≤ 10 → pPS r (b1 a) n = if a < n then (if pSt r a = true then some (pPull r a 9) else none) else some r
  | 0, _ => by rw [if_neg (Nat.not_lt_zero a)]; rfl
  | n + 1, hn => by
    have ih := pPS_b1 (r := r) ha n (by omega)
    by_cases h : a < n
    · rw [if_pos h] at ih
      rw [if_pos (by omega)]
      by_cases q : pSt r a = true
      · rw [if_pos q] at ih ⊢
        rw [pPS_s ih, if_neg]
        rw [hs_b1 ha (by omega)]
        simp
        omega
      · rw [if_neg q] at ih ⊢
        exact pPS_n ih 1
    · rw [if_neg h] at ih
      rw [pPS_s ih, hs_b1 ha (by omega)]
      by_cases e : n = a
      · subst e
        rw [if_pos (show n < n + 1 by omega), if_pos (decide_eq_true rfl)]
      · rw [if_neg (by simpa using e), if_neg (by omega)]
set_option maxHeartbeats 4000000 in
set_option maxRecDepth 100000 in
theorem m9_pullsSet (l : Launch) (G : xG) (am : Nat → Nat) (r rm r2 r4 : Rw) (ho rn ln pl sd : Int32) (lt ro rf nb : Nat → Int32) (hr : Ok r) (hp : r 5 3 = 0) (x : Int32) : xCi l G yX9_pullsSet cX9_pullsSet 4 (some .boolean) ({ frames := 4, cells := 0, slots := 0, locals := 91 } : Room) [.ref (am 0), .int x] (wM G am ho rn ln pl sd lt ro rf nb ++ [(am 1, .inl (G.2 0, 54, .inl (row r)))] ++ [(am 2, .inl (G.2 0, 54, .inl (row rm)))] ++ [(am 3, .inl (G.2 0, 54, .inl (row r2)))] ++ [(am 4, .inl (G.2 0, 54, .inl (row r4)))]) (S := Rw) (fun v u => (v = 1 ∧ pPS r x (mny r) = some u) ∨ (v = 0 ∧ pPS r x (mny r) = none)) (fun u => (wM G am ho rn ln pl sd lt ro rf nb ++ [(am 1, .inl (G.2 0, 54, .inl (row r)))] ++ [(am 2, .inl (G.2 0, 54, .inl (row u)))] ++ [(am 3, .inl (G.2 0, 54, .inl (row r2)))] ++ [(am 4, .inl (G.2 0, 54, .inl (row r4)))])) := by
  refine x_openi (by decide) (Nat.le_of_ble_eq_true rfl) (fun _ _ h => by rcases h with ⟨h, -⟩ | ⟨h, -⟩ <;> rw [h] <;> decide) ?_
  intro p e s m args below meth c A Q ls C0 hK hP hD hA hl hret
  obtain ⟨hx, hb, hml, hown, hts⟩ := id C0
  have hS : va_S A s.heap s.heap [] := va_S.rf
  have hP : va_P G.1 vwCl (wM G am ho rn ln pl sd lt ro rf nb ++ [(am 1, .inl (G.2 0, 54, .inl (row r)))] ++ [(am 2, .inl (G.2 0, 54, .inl (row rm)))] ++ [(am 3, .inl (G.2 0, 54, .inl (row r2)))] ++ [(am 4, .inl (G.2 0, 54, .inl (row r4)))]) s.heap := hP
  have hD : va_D A (wM G am ho rn ln pl sd lt ro rf nb ++ [(am 1, .inl (G.2 0, 54, .inl (row r)))] ++ [(am 2, .inl (G.2 0, 54, .inl (row rm)))] ++ [(am 3, .inl (G.2 0, 54, .inl (row r2)))] ++ [(am 4, .inl (G.2 0, 54, .inl (row r4)))]) := hD
  have hl : lv_has ls 4 [(0, .ref (am 0)), (1, .int x)] := hl
  have hr0 := hr.n
  have hN := hr.le
  refine lv_aload_n hx hb dX9_pullsSet_0 rfl (lv_at hl 0 rfl) ?_
  refine va_get (D := G.1) (ci := 8) (v := .ref (am 1)) (C := RX9) (T := TX9) (N := 13) hx hb hts in_X9 hown hK.1 hP 0 rfl rfl 0 (by decide) (hts _ q1162) (fun _ h9 => h9) rfl dX9_pullsSet_1 ?_
  refine lv_aload_n hx hb dX9_pullsSet_4 rfl (lv_at hl 0 rfl) ?_
  refine va_get (D := G.1) (ci := 8) (v := .ref (am 2)) (C := RX9) (T := TX9) (N := 13) hx hb hts in_X9 hown hK.1 hP 0 rfl rfl 1 (by decide) (hts _ q1163) (fun _ h9 => h9) rfl dX9_pullsSet_5 ?_
  refine x_Sv (wN := fun _ => (wM G am ho rn ln pl sd lt ro rf nb ++ [(am 1, .inl (G.2 0, 54, .inl (row r)))] ++ [(am 2, .inl (G.2 0, 54, .inl (row r)))] ++ [(am 3, .inl (G.2 0, 54, .inl (row r2)))] ++ [(am 4, .inl (G.2 0, 54, .inl (row r4)))])) ⟨C0, hK, hP, hD, hS, hA⟩ ((m9_copies l G (am 1) (am 2) (row r) (row rm))) (va_cwS 2 hts (lw_S q1236 q1237 q95 q1238) rfl rfl rfl (by decide +kernel) ⟨Nat.le_of_ble_eq_true rfl, Nat.le_of_ble_eq_true rfl⟩) [5, 6] [0, 2, 4, 6, 8, 1, 3, 14, 16] rfl (fun _ => rfl) rfl rfl hl.1 rfl (Nat.le_of_ble_eq_true rfl) dX9_pullsSet_8 ⟨(Nat.le_of_ble_eq_true rfl), (Nat.le_of_ble_eq_true rfl)⟩ (fun u_1 H locs hw_1 hP hD hS => ?_)
  have hP : va_P G.1 vwCl (wM G am ho rn ln pl sd lt ro rf nb ++ [(am 1, .inl (G.2 0, 54, .inl (row r)))] ++ [(am 2, .inl (G.2 0, 54, .inl (row r)))] ++ [(am 3, .inl (G.2 0, 54, .inl (row r2)))] ++ [(am 4, .inl (G.2 0, 54, .inl (row r4)))]) H := hP
  have hD : va_D A (wM G am ho rn ln pl sd lt ro rf nb ++ [(am 1, .inl (G.2 0, 54, .inl (row r)))] ++ [(am 2, .inl (G.2 0, 54, .inl (row r)))] ++ [(am 3, .inl (G.2 0, 54, .inl (row r2)))] ++ [(am 4, .inl (G.2 0, 54, .inl (row r4)))]) := hD
  refine lv_iconst (v := 0) hx hb dX9_pullsSet_11 (by decide) ?_
  refine lv_istore_n (lv' := [(2, .int 0), (0, .ref (am 0)), (1, .int x)]) hx hb dX9_pullsSet_12 rfl hl (by decide) rfl (fun ls hl => ?_)
  have loop_13 : ∀ (n : Nat) (i : Nat) (q : Rw), (i ≤ mny r) → (mny r < i + n) → (pPS r x i = some q) → (Ok q) → (mny q = mny r) → ∀ (H : Heap) (locs : List Loc) (ls : Array Slot), va_P G.1 vwCl (wM G am ho rn ln pl sd lt ro rf nb ++ [(am 1, .inl (G.2 0, 54, .inl (row r)))] ++ [(am 2, .inl (G.2 0, 54, .inl (row q)))] ++ [(am 3, .inl (G.2 0, 54, .inl (row r2)))] ++ [(am 4, .inl (G.2 0, 54, .inl (row r4)))]) H → va_D A (wM G am ho rn ln pl sd lt ro rf nb ++ [(am 1, .inl (G.2 0, 54, .inl (row r)))] ++ [(am 2, .inl (G.2 0, 54, .inl (row q)))] ++ [(am 3, .inl (G.2 0, 54, .inl (row r2)))] ++ [(am 4, .inl (G.2 0, 54, .inl (row r4)))]) → va_S A s.heap H locs → lv_has ls 4 [(2, .int (nI i)), (0, .ref (am 0)), (1, .int x)] → W p l e ({ frames := 4, cells := 0, slots := 0, locals := 91 } : Room) s m args below meth c H locs 0 0 Q (F0 m 13 ls []) := by
    intro n
    induction n with
    | zero => intro i q hi13_0 hi13_1 hi13_2 hi13_3 hi13_4; exact absurd hi13_1 (by omega)
    | succ n ih_13 =>
      intro i q hi13_0 hi13_1 hi13_2 hi13_3 hi13_4 H locs ls hP hD hS hl
      refine lv_iload_n hx hb dX9_pullsSet_13 rfl (lv_at hl 0 rfl) ?_
      refine lv_aload_n hx hb dX9_pullsSet_14 rfl (lv_at hl 1 rfl) ?_
      refine va_get (D := G.1) (ci := 8) (v := .ref (am 1)) (C := RX9) (T := TX9) (N := 13) hx hb hts in_X9 hown hK.1 hP 0 rfl rfl 0 (by decide) (hts _ q1162) (fun _ h9 => h9) rfl dX9_pullsSet_15 ?_
      refine lv_iconst (v := 0) hx hb dX9_pullsSet_18 (by decide) ?_
      refine x_ialdn (k := 0) hx hb hK.1 hP 5 0 rfl rfl (by decide) (by decide) (v := nI (mny r)) (hr0) dX9_pullsSet_19 ?_
      refine lv_icmp_ge (tgt := 64) hx hb dX9_pullsSet_20 (by decide) (fun c_2 => ?_) (fun c_2 => ?_)
      · skip
        have g_2 := (nI_leI (by omega) (by omega)).mp c_2
        refine lv_iconst (v := 1) hx hb dX9_pullsSet_64 (by decide) ?_
        refine hret _ _ _ _ _ _ 1 q dX9_pullsSet_65 ?_ hP hD hS (Nat.le_of_ble_eq_true rfl) (Nat.le_of_ble_eq_true rfl)
        refine Or.inl ⟨rfl, ?_⟩
        rw [show mny r = i by omega]
        exact hi13_2
      · skip
        have g_2 := mt (nI_leI (by omega) (by omega)).mpr c_2
        refine lv_iload_n hx hb dX9_pullsSet_23 rfl (lv_at hl 2 rfl) ?_
        refine lv_iload_n hx hb dX9_pullsSet_24 rfl (lv_at hl 0 rfl) ?_
        refine x_Si (wN := fun _ => (wM G am ho rn ln pl sd lt ro rf nb ++ [(am 1, .inl (G.2 0, 54, .inl (row r)))] ++ [(am 2, .inl (G.2 0, 54, .inl (row q)))] ++ [(am 3, .inl (G.2 0, 54, .inl (row r2)))] ++ [(am 4, .inl (G.2 0, 54, .inl (row r4)))])) ⟨C0, hK, hP, hD, hS, hA⟩ ((m9_has l G x i)) (va_cwS 2 hts (lw_S q1266 q1267 q95 q1268) rfl rfl rfl (by decide +kernel) ⟨Nat.le_of_ble_eq_true rfl, Nat.le_of_ble_eq_true rfl⟩) [] [0, 2, 4, 6, 8, 10, 12, 14, 16] rfl (fun _ => rfl) rfl rfl hl.1 rfl (Nat.le_of_ble_eq_true rfl) dX9_pullsSet_25 ⟨(Nat.le_of_ble_eq_true rfl), (Nat.le_of_ble_eq_true rfl)⟩ (fun r_3 u_3 H locs hw_3 hP hD hS => ?_)
        have hw_3 : (bI (hs x i) : Int32) = r_3 := hw_3.symm
        subst hw_3
        refine lv_if_ne (tgt := 34) hx hb dX9_pullsSet_28 (by decide) (fun c_4 => ?_) (fun c_4 => ?_)
        · skip
          refine lv_aload_n hx hb dX9_pullsSet_34 rfl (lv_at hl 1 rfl) ?_
          refine va_get (D := G.1) (ci := 8) (v := .ref (am 2)) (C := RX9) (T := TX9) (N := 13) hx hb hts in_X9 hown hK.1 hP 0 rfl rfl 1 (by decide) (hts _ q1163) (fun _ h9 => h9) rfl dX9_pullsSet_35 ?_
          refine lv_iload_n hx hb dX9_pullsSet_38 rfl (lv_at hl 0 rfl) ?_
          refine x_Si (wN := fun _ => (wM G am ho rn ln pl sd lt ro rf nb ++ [(am 1, .inl (G.2 0, 54, .inl (row r)))] ++ [(am 2, .inl (G.2 0, 54, .inl (row q)))] ++ [(am 3, .inl (G.2 0, 54, .inl (row r2)))] ++ [(am 4, .inl (G.2 0, 54, .inl (row r4)))])) ⟨C0, hK, hP, hD, hS, hA⟩ ((m9_stands l G (am 2) q hi13_3 i (by omega))) (va_cwS 2 hts (lw_S q1251 q1252 q95 q1253) rfl rfl rfl (by decide +kernel) ⟨Nat.le_of_ble_eq_true rfl, Nat.le_of_ble_eq_true rfl⟩) [6] [0, 2, 4, 6, 8, 10, 1, 14, 16] rfl (fun _ => rfl) rfl rfl hl.1 rfl (Nat.le_of_ble_eq_true rfl) dX9_pullsSet_39 ⟨(Nat.le_of_ble_eq_true rfl), (Nat.le_of_ble_eq_true rfl)⟩ (fun r_5 u_5 H locs hw_5 hP hD hS => ?_)
          have hw_5 : (bI (pSt q i) : Int32) = r_5 := hw_5.symm
          subst hw_5
          refine lv_if_ne (tgt := 47) hx hb dX9_pullsSet_42 (by decide) (fun c_6 => ?_) (fun c_6 => ?_)
          · skip
            refine lv_aload_n hx hb dX9_pullsSet_47 rfl (lv_at hl 1 rfl) ?_
            refine va_get (D := G.1) (ci := 8) (v := .ref (am 2)) (C := RX9) (T := TX9) (N := 13) hx hb hts in_X9 hown hK.1 hP 0 rfl rfl 1 (by decide) (hts _ q1163) (fun _ h9 => h9) rfl dX9_pullsSet_48 ?_
            refine lv_iload_n hx hb dX9_pullsSet_51 rfl (lv_at hl 0 rfl) ?_
            refine lv_bipush (v := 9) hx hb dX9_pullsSet_52 (by decide) ?_
            refine x_Si (wN := fun _ => (wM G am ho rn ln pl sd lt ro rf nb ++ [(am 1, .inl (G.2 0, 54, .inl (row r)))] ++ [(am 2, .inl (G.2 0, 54, .inl (row (pPull q i 9))))] ++ [(am 3, .inl (G.2 0, 54, .inl (row r2)))] ++ [(am 4, .inl (G.2 0, 54, .inl (row r4)))])) ⟨C0, hK, hP, hD, hS, hA⟩ ((m9_pull l G (am 2) q hi13_3 i 9 (by omega))) (va_cwS 3 hts (lw_S q1257 q1258 q95 q1259) rfl rfl rfl (by decide +kernel) ⟨Nat.le_of_ble_eq_true rfl, Nat.le_of_ble_eq_true rfl⟩) [6] [0, 2, 4, 6, 8, 10, 1, 14, 16] rfl (fun _ => rfl) rfl rfl hl.1 rfl (Nat.le_of_ble_eq_true rfl) dX9_pullsSet_54 ⟨(Nat.le_of_ble_eq_true rfl), (Nat.le_of_ble_eq_true rfl)⟩ (fun r_7 u_7 H locs hw_7 hP hD hS => ?_)
            have hw_7 : (pPullN q i 9 : Int32) = r_7 := hw_7.symm
            subst hw_7
            have hP : va_P G.1 vwCl (wM G am ho rn ln pl sd lt ro rf nb ++ [(am 1, .inl (G.2 0, 54, .inl (row r)))] ++ [(am 2, .inl (G.2 0, 54, .inl (row (pPull q i 9))))] ++ [(am 3, .inl (G.2 0, 54, .inl (row r2)))] ++ [(am 4, .inl (G.2 0, 54, .inl (row r4)))]) H := hP
            have hD : va_D A (wM G am ho rn ln pl sd lt ro rf nb ++ [(am 1, .inl (G.2 0, 54, .inl (row r)))] ++ [(am 2, .inl (G.2 0, 54, .inl (row (pPull q i 9))))] ++ [(am 3, .inl (G.2 0, 54, .inl (row r2)))] ++ [(am 4, .inl (G.2 0, 54, .inl (row r4)))]) := hD
            refine lv_istore_n (lv' := [(3, .int (pPullN q i 9)), (2, .int (nI i)), (0, .ref (am 0)), (1, .int x)]) hx hb dX9_pullsSet_57 rfl hl (by decide) rfl (fun ls hl => ?_)
            refine lv_iinc (v := nI (i + 1)) (lv' := [(2, .int (nI (i + 1))), (3, .int (pPullN q i 9)), (0, .ref (am 0)), (1, .int x)]) hx hb dX9_pullsSet_58 hl (k := 1) rfl (x_inc1 _) (by decide) rfl (fun ls hl => ?_)
            refine lv_goto (tgt := 13) hx hb dX9_pullsSet_61 (by decide) ?_
            exact ih_13 (i + 1) (pPull q i 9) (by omega) (by omega) (by rw [pPS_s hi13_2, if_pos (show hs x i = true from (by first | exact bI_n0 c_4 | exact bI_0.mp c_4)), if_pos (show pSt q i = true from (by first | exact bI_n0 c_6 | exact bI_0.mp c_6))]) (Ok.pull hi13_3) hi13_4 _ _ _ hP hD hS (lv_sub hl [0, 2, 3] rfl)
          · skip
            refine lv_iconst (v := 0) hx hb dX9_pullsSet_45 (by decide) ?_
            refine hret _ _ _ _ _ _ 0 q dX9_pullsSet_46 ?_ hP hD hS (Nat.le_of_ble_eq_true rfl) (Nat.le_of_ble_eq_true rfl)
            refine Or.inr ⟨rfl, ?_⟩
            have e9 : pPS r x (i + 1) = none := by rw [pPS_s hi13_2, if_pos (show hs x i = true from (by first | exact bI_n0 c_4 | exact bI_0.mp c_4)), if_neg (by rw [show pSt q i = false from (by first | exact bI_n0 c_6 | exact bI_0.mp c_6)]; decide)]
            have e8 := pPS_n e9 (mny r - (i + 1))
            rw [show i + 1 + (mny r - (i + 1)) = mny r by omega] at e8
            exact e8
        · skip
          refine lv_goto (tgt := 58) hx hb dX9_pullsSet_31 (by decide) ?_
          refine lv_iinc (v := nI (i + 1)) (lv' := [(2, .int (nI (i + 1))), (0, .ref (am 0)), (1, .int x)]) hx hb dX9_pullsSet_58 hl (k := 0) rfl (x_inc1 _) (by decide) rfl (fun ls hl => ?_)
          refine lv_goto (tgt := 13) hx hb dX9_pullsSet_61 (by decide) ?_
          exact ih_13 (i + 1) q (by omega) (by omega) (by rw [pPS_s hi13_2, if_neg (by rw [show hs x i = false from (by first | exact bI_n0 c_4 | exact bI_0.mp c_4)]; decide)]) hi13_3 hi13_4 _ _ _ hP hD hS (lv_sub hl [0, 1, 2] rfl)
  exact loop_13 (mny r + 1) 0 r (by omega) (by omega) rfl hr rfl _ _ _ hP hD hS (lv_sub hl [0, 1, 2] rfl)
theorem bst_s {w : Nat → Nat} {P : Nat → Bool} {n : Nat} : bst w P (n + 1) = match bst w P n with
    | none => if P n = true then some n else none
    | some x => if P n = true ∧ w x < w n then some n else some x := rfl
theorem bst_f {w : Nat → Nat} {P : Nat → Bool} {n : Nat} (h : P n = false) : bst w P (n + 1) = bst w P n := by
  rw [bst_s]
  cases e : bst w P n with
  | none => show (if P n = true then some n else none) = none; rw [if_neg (by rw [h]; decide)]
  | some x => show (if P n = true ∧ w x < w n then some n else some x) = some x; rw [if_neg (fun z => by rw [h] at z; cases z.1)]
theorem bst_l {w : Nat → Nat} {P : Nat → Bool} {n x : Nat} (e : bst w P n = some x) (h : ¬ w x < w n) : bst w P (n + 1) = some x := by
  rw [bst_s, e]
  exact if_neg (fun z => h z.2)
theorem bst_y0 {w : Nat → Nat} {P : Nat → Bool} {n : Nat} (e : bst w P n = none) (h : P n = true) : bst w P (n + 1) = some n := by
  rw [bst_s, e]
  exact if_pos h
theorem bst_y1 {w : Nat → Nat} {P : Nat → Bool} {n x : Nat} (e : bst w P n = some x) (h : P n = true) (h2 : w x < w n) : bst w P (n + 1) = some n := by
  rw [bst_s, e]
  exact if_pos ⟨h, h2⟩
theorem moP_t {r : Rw} {t n k : Nat} (h : k.testBit t = true) : pMoP r t n k = false := by unfold pMoP; rw [h]; simp
theorem moP_n {r : Rw} {t n k : Nat} (h : pPS r (nI k) (mny r) = none) : pMoP r t n k = false := by unfold pMoP; rw [pEn_none h]; rfl
theorem moP_s {r u : Rw} {t n k : Nat} (h : pPS r (nI k) (mny r) = some u) (ht : k.testBit t = false) : pMoP r t n k = pSt (pMins u n) t := by unfold pMoP; rw [pEn_s h, ht]; simp
set_option maxHeartbeats 4000000 in
set_option maxRecDepth 100000 in
theorem n_pullMost (l : Launch) (G : xG) (am : Nat → Nat) (r rm r2 r4 : Rw) (ho rn ln pl sd : Int32) (lt ro rf nb : Nat → Int32) (hr : Ok r) (hp : r 5 3 = 0) (t mi w : Int32) : xCi l G yX9_pullMost cX9_pullMost 7 (some .int) ({ frames := 5, cells := 0, slots := 0, locals := 114 } : Room) [.ref (am 0), .int t, .int mi, .int w] (wM G am ho rn ln pl sd lt ro rf nb ++ [(am 1, .inl (G.2 0, 54, .inl (row r)))] ++ [(am 2, .inl (G.2 0, 54, .inl (row rm)))] ++ [(am 3, .inl (G.2 0, 54, .inl (row r2)))] ++ [(am 4, .inl (G.2 0, 54, .inl (row r4)))]) (S := Rw) (fun v _ => v = sel (eS (tB r t) (-1) (eW (wBy mi.toInt 0 30) (eS (inR w 0 1) (-2) 0))) (pMost r (ix t) (ix mi) w) (eS (tB r t) (-1) (eW (wBy mi.toInt 0 30) (eS (inR w 0 1) (-2) 0)))) (fun u => (wM G am ho rn ln pl sd lt ro (sel (eS (tB r t) (-1) (eW (wBy mi.toInt 0 30) (eS (inR w 0 1) (-2) 0))) rf (rfU rf (eS (tB r t) (-1) (eW (wBy mi.toInt 0 30) (eS (inR w 0 1) (-2) 0))))) nb ++ [(am 1, .inl (G.2 0, 54, .inl (row r)))] ++ [(am 2, .inl (G.2 0, 54, .inl (row u)))] ++ [(am 3, .inl (G.2 0, 54, .inl (row r2)))] ++ [(am 4, .inl (G.2 0, 54, .inl (row r4)))])) := by
  refine x_openi (by decide) (Nat.le_of_ble_eq_true rfl) (fun _ _ _ => rfl) ?_
  intro p e s m args below meth c A Q ls C0 hK hP hD hA hl hret
  obtain ⟨hx, hb, hml, hown, hts⟩ := id C0
  have hS : va_S A s.heap s.heap [] := va_S.rf
  have hP : va_P G.1 vwCl (wM G am ho rn ln pl sd lt ro rf nb ++ [(am 1, .inl (G.2 0, 54, .inl (row r)))] ++ [(am 2, .inl (G.2 0, 54, .inl (row rm)))] ++ [(am 3, .inl (G.2 0, 54, .inl (row r2)))] ++ [(am 4, .inl (G.2 0, 54, .inl (row r4)))]) s.heap := hP
  have hD : va_D A (wM G am ho rn ln pl sd lt ro rf nb ++ [(am 1, .inl (G.2 0, 54, .inl (row r)))] ++ [(am 2, .inl (G.2 0, 54, .inl (row rm)))] ++ [(am 3, .inl (G.2 0, 54, .inl (row r2)))] ++ [(am 4, .inl (G.2 0, 54, .inl (row r4)))]) := hD
  have hl : lv_has ls 7 [(0, .ref (am 0)), (1, .int t), (2, .int mi), (3, .int w)] := hl
  have hr0 := hr.n
  have hN := hr.le
  refine lv_aload_n hx hb dX9_pullMost_0 rfl (lv_at hl 0 rfl) ?_
  refine lv_iload_n hx hb dX9_pullMost_1 rfl (lv_at hl 1 rfl) ?_
  refine x_Vi (wN := fun _ => (wM G am ho rn ln pl sd lt ro rf nb ++ [(am 1, .inl (G.2 0, 54, .inl (row r)))] ++ [(am 2, .inl (G.2 0, 54, .inl (row rm)))] ++ [(am 3, .inl (G.2 0, 54, .inl (row r2)))] ++ [(am 4, .inl (G.2 0, 54, .inl (row r4)))])) ⟨C0, hK, hP, hD, hS, hA⟩ 0 rfl (ci := 8) rfl rfl ((m9_isThing l G am r rm r2 r4 ho rn ln pl sd lt ro rf nb hr hp t)) (cwV 1 hts (lw_V q1247 q1249 qs73 q95 q1250) rfl rfl rfl (by decide +kernel) ⟨Nat.le_of_ble_eq_true rfl, Nat.le_of_ble_eq_true rfl⟩) [0, 1, 2, 3, 4, 5, 6, 7, 8] [1, 3, 5, 7, 9, 11, 13, 15, 17] rfl (fun _ => rfl) rfl rfl hl.1 rfl (Nat.le_of_ble_eq_true rfl) dX9_pullMost_2 ⟨(Nat.le_of_ble_eq_true rfl), (Nat.le_of_ble_eq_true rfl)⟩ (fun r_1 u_1 H locs hw_1 hP hD hS => ?_)
  have hw_1 : (bI (tB r t) : Int32) = r_1 := hw_1.symm
  subst hw_1
  refine lv_if_eq (tgt := 17) hx hb dX9_pullMost_5 (by decide) (fun c_2 => ?_) (fun c_2 => ?_)
  · skip
    refine lv_iconst (v := (-1)) hx hb dX9_pullMost_17 (by decide) ?_
    refine lv_istore (lv' := [(4, .int (-1)), (0, .ref (am 0)), (1, .int t), (2, .int mi), (3, .int w)]) hx hb dX9_pullMost_18 hl (by decide) rfl (fun ls hl => ?_)
    refine lv_iload hx hb dX9_pullMost_20 (lv_at hl 0 rfl) ?_
    refine lv_if_ne (tgt := 38) hx hb dX9_pullMost_22 (by decide) (fun c_3 => ?_) (fun c_3 => ?_)
    · skip
      refine lv_iload hx hb dX9_pullMost_38 (lv_at hl 0 rfl) ?_
      refine lv_if_eq (tgt := 50) hx hb dX9_pullMost_40 (by decide) (fun c_4 => ?_) (fun c_4 => ?_)
      · skip
        exact absurd c_4 (by decide)
      · skip
        refine lv_aload_n hx hb dX9_pullMost_43 rfl (lv_at hl 1 rfl) ?_
        refine lv_iload hx hb dX9_pullMost_44 (lv_at hl 0 rfl) ?_
        refine x_Vi (wN := fun _ => (wM G am ho rn ln pl sd lt ro (rfU rf (-1)) nb ++ [(am 1, .inl (G.2 0, 54, .inl (row r)))] ++ [(am 2, .inl (G.2 0, 54, .inl (row rm)))] ++ [(am 3, .inl (G.2 0, 54, .inl (row r2)))] ++ [(am 4, .inl (G.2 0, 54, .inl (row r4)))])) ⟨C0, hK, hP, hD, hS, hA⟩ 0 rfl (ci := 8) rfl rfl ((m9_no l G am ho rn ln pl sd lt ro rf nb (-1) noOk_k.1)) (cwV 1 hts (lw_V q1206 q1208 qs66 q95 q1209) rfl rfl rfl (by decide +kernel) ⟨Nat.le_of_ble_eq_true rfl, Nat.le_of_ble_eq_true rfl⟩) [0, 1, 2, 3, 4] [1, 3, 5, 7, 9, 10, 12, 14, 16] rfl (fun _ => rfl) rfl rfl hl.1 rfl (Nat.le_of_ble_eq_true rfl) dX9_pullMost_46 ⟨(Nat.le_of_ble_eq_true rfl), (Nat.le_of_ble_eq_true rfl)⟩ (fun r_5 u_5 H locs hw_5 hP hD hS => ?_)
        have hw_5 : ((-1) : Int32) = r_5 := hw_5.symm
        subst hw_5
        have hP : va_P G.1 vwCl (wM G am ho rn ln pl sd lt ro (rfU rf (-1)) nb ++ [(am 1, .inl (G.2 0, 54, .inl (row r)))] ++ [(am 2, .inl (G.2 0, 54, .inl (row rm)))] ++ [(am 3, .inl (G.2 0, 54, .inl (row r2)))] ++ [(am 4, .inl (G.2 0, 54, .inl (row r4)))]) H := hP
        have hD : va_D A (wM G am ho rn ln pl sd lt ro (rfU rf (-1)) nb ++ [(am 1, .inl (G.2 0, 54, .inl (row r)))] ++ [(am 2, .inl (G.2 0, 54, .inl (row rm)))] ++ [(am 3, .inl (G.2 0, 54, .inl (row r2)))] ++ [(am 4, .inl (G.2 0, 54, .inl (row r4)))]) := hD
        have hE : eS (tB r t) (-1) (eW (wBy mi.toInt 0 30) (eS (inR w 0 1) (-2) 0)) = (-1) := by rw [eS_f (show tB r t = false from (by have h9 := c_2; simpa [bI_0] using h9))]
        have hne : ((-1) : Int32) ≠ 0 := (by decide)
        have hP : va_P G.1 vwCl (wM G am ho rn ln pl sd lt ro (sel (eS (tB r t) (-1) (eW (wBy mi.toInt 0 30) (eS (inR w 0 1) (-2) 0))) rf (rfU rf (eS (tB r t) (-1) (eW (wBy mi.toInt 0 30) (eS (inR w 0 1) (-2) 0))))) nb ++ [(am 1, .inl (G.2 0, 54, .inl (row r)))] ++ [(am 2, .inl (G.2 0, 54, .inl (row rm)))] ++ [(am 3, .inl (G.2 0, 54, .inl (row r2)))] ++ [(am 4, .inl (G.2 0, 54, .inl (row r4)))]) H := by rw [hE]; simp only [sel_n hne]; exact hP
        have hD : va_D A (wM G am ho rn ln pl sd lt ro (sel (eS (tB r t) (-1) (eW (wBy mi.toInt 0 30) (eS (inR w 0 1) (-2) 0))) rf (rfU rf (eS (tB r t) (-1) (eW (wBy mi.toInt 0 30) (eS (inR w 0 1) (-2) 0))))) nb ++ [(am 1, .inl (G.2 0, 54, .inl (row r)))] ++ [(am 2, .inl (G.2 0, 54, .inl (row rm)))] ++ [(am 3, .inl (G.2 0, 54, .inl (row r2)))] ++ [(am 4, .inl (G.2 0, 54, .inl (row r4)))]) := by rw [hE]; simp only [sel_n hne]; exact hD
        refine hret _ _ _ _ _ _ (-1) rm dX9_pullMost_49 ?_ hP hD hS (Nat.le_of_ble_eq_true rfl) (Nat.le_of_ble_eq_true rfl)
        rw [hE, sel_n hne]
    · skip
      exact absurd c_3 (by decide)
  · skip
    obtain ⟨hj_t, et_t⟩ := tB_ix hN (by first | exact bI_n0 c_2 | exact bI_0.mp c_2)
    rw [et_t] at hl
    refine lv_iload_n hx hb dX9_pullMost_8 rfl (lv_at hl 2 rfl) ?_
    refine lv_bipush (v := 30) hx hb dX9_pullMost_9 (by decide) ?_
    refine x_Si (wN := fun _ => (wM G am ho rn ln pl sd lt ro rf nb ++ [(am 1, .inl (G.2 0, 54, .inl (row r)))] ++ [(am 2, .inl (G.2 0, 54, .inl (row rm)))] ++ [(am 3, .inl (G.2 0, 54, .inl (row r2)))] ++ [(am 4, .inl (G.2 0, 54, .inl (row r4)))])) ⟨C0, hK, hP, hD, hS, hA⟩ ((m9_wrongBy l G mi 30)) (va_cwS 2 hts (lw_S q1302 q1303 q95 q1304) rfl rfl rfl (by decide +kernel) ⟨Nat.le_of_ble_eq_true rfl, Nat.le_of_ble_eq_true rfl⟩) [] [0, 2, 4, 6, 8, 10, 12, 14, 16] rfl (fun _ => rfl) rfl rfl hl.1 rfl (Nat.le_of_ble_eq_true rfl) dX9_pullMost_11 ⟨(Nat.le_of_ble_eq_true rfl), (Nat.le_of_ble_eq_true rfl)⟩ (fun r_6 u_6 H locs hw_6 hP hD hS => ?_)
    have hw_6 : r_6 = wBy mi.toInt 0 30 := hw_6.trans rfl
    have hw_6 : (wBy mi.toInt 0 30 : Int32) = r_6 := hw_6.symm
    subst hw_6
    refine lv_goto (tgt := 18) hx hb dX9_pullMost_14 (by decide) ?_
    refine lv_istore (lv' := [(4, .int (wBy mi.toInt 0 30)), (0, .ref (am 0)), (1, .int (nI (ix t))), (2, .int mi), (3, .int w)]) hx hb dX9_pullMost_18 hl (by decide) rfl (fun ls hl => ?_)
    refine lv_iload hx hb dX9_pullMost_20 (lv_at hl 0 rfl) ?_
    refine lv_if_ne (tgt := 38) hx hb dX9_pullMost_22 (by decide) (fun c_7 => ?_) (fun c_7 => ?_)
    · skip
      refine lv_iload hx hb dX9_pullMost_38 (lv_at hl 0 rfl) ?_
      refine lv_if_eq (tgt := 50) hx hb dX9_pullMost_40 (by decide) (fun c_8 => ?_) (fun c_8 => ?_)
      · skip
        exact absurd c_8 c_7
      · skip
        refine lv_aload_n hx hb dX9_pullMost_43 rfl (lv_at hl 1 rfl) ?_
        refine lv_iload hx hb dX9_pullMost_44 (lv_at hl 0 rfl) ?_
        refine x_Vi (wN := fun _ => (wM G am ho rn ln pl sd lt ro (rfU rf (wBy mi.toInt 0 30)) nb ++ [(am 1, .inl (G.2 0, 54, .inl (row r)))] ++ [(am 2, .inl (G.2 0, 54, .inl (row rm)))] ++ [(am 3, .inl (G.2 0, 54, .inl (row r2)))] ++ [(am 4, .inl (G.2 0, 54, .inl (row r4)))])) ⟨C0, hK, hP, hD, hS, hA⟩ 0 rfl (ci := 8) rfl rfl ((m9_no l G am ho rn ln pl sd lt ro rf nb (wBy mi.toInt 0 30) (cOk.no cOk_WW c_8))) (cwV 1 hts (lw_V q1206 q1208 qs66 q95 q1209) rfl rfl rfl (by decide +kernel) ⟨Nat.le_of_ble_eq_true rfl, Nat.le_of_ble_eq_true rfl⟩) [0, 1, 2, 3, 4] [1, 3, 5, 7, 9, 10, 12, 14, 16] rfl (fun _ => rfl) rfl rfl hl.1 rfl (Nat.le_of_ble_eq_true rfl) dX9_pullMost_46 ⟨(Nat.le_of_ble_eq_true rfl), (Nat.le_of_ble_eq_true rfl)⟩ (fun r_9 u_9 H locs hw_9 hP hD hS => ?_)
        have hw_9 : (wBy mi.toInt 0 30 : Int32) = r_9 := hw_9.symm
        subst hw_9
        have hP : va_P G.1 vwCl (wM G am ho rn ln pl sd lt ro (rfU rf (wBy mi.toInt 0 30)) nb ++ [(am 1, .inl (G.2 0, 54, .inl (row r)))] ++ [(am 2, .inl (G.2 0, 54, .inl (row rm)))] ++ [(am 3, .inl (G.2 0, 54, .inl (row r2)))] ++ [(am 4, .inl (G.2 0, 54, .inl (row r4)))]) H := hP
        have hD : va_D A (wM G am ho rn ln pl sd lt ro (rfU rf (wBy mi.toInt 0 30)) nb ++ [(am 1, .inl (G.2 0, 54, .inl (row r)))] ++ [(am 2, .inl (G.2 0, 54, .inl (row rm)))] ++ [(am 3, .inl (G.2 0, 54, .inl (row r2)))] ++ [(am 4, .inl (G.2 0, 54, .inl (row r4)))]) := hD
        have hE : eS (tB r t) (-1) (eW (wBy mi.toInt 0 30) (eS (inR w 0 1) (-2) 0)) = wBy mi.toInt 0 30 := by rw [eS_t (show tB r t = true from (by have h9 := c_2; simpa [bI_0] using h9)), eW_n c_7]
        have hne : (wBy mi.toInt 0 30 : Int32) ≠ 0 := c_8
        have hP : va_P G.1 vwCl (wM G am ho rn ln pl sd lt ro (sel (eS (tB r t) (-1) (eW (wBy mi.toInt 0 30) (eS (inR w 0 1) (-2) 0))) rf (rfU rf (eS (tB r t) (-1) (eW (wBy mi.toInt 0 30) (eS (inR w 0 1) (-2) 0))))) nb ++ [(am 1, .inl (G.2 0, 54, .inl (row r)))] ++ [(am 2, .inl (G.2 0, 54, .inl (row rm)))] ++ [(am 3, .inl (G.2 0, 54, .inl (row r2)))] ++ [(am 4, .inl (G.2 0, 54, .inl (row r4)))]) H := by rw [hE]; simp only [sel_n hne]; exact hP
        have hD : va_D A (wM G am ho rn ln pl sd lt ro (sel (eS (tB r t) (-1) (eW (wBy mi.toInt 0 30) (eS (inR w 0 1) (-2) 0))) rf (rfU rf (eS (tB r t) (-1) (eW (wBy mi.toInt 0 30) (eS (inR w 0 1) (-2) 0))))) nb ++ [(am 1, .inl (G.2 0, 54, .inl (row r)))] ++ [(am 2, .inl (G.2 0, 54, .inl (row rm)))] ++ [(am 3, .inl (G.2 0, 54, .inl (row r2)))] ++ [(am 4, .inl (G.2 0, 54, .inl (row r4)))]) := by rw [hE]; simp only [sel_n hne]; exact hD
        refine hret _ _ _ _ _ _ (wBy mi.toInt 0 30) rm dX9_pullMost_49 ?_ hP hD hS (Nat.le_of_ble_eq_true rfl) (Nat.le_of_ble_eq_true rfl)
        rw [hE, sel_n hne]
    · skip
      obtain ⟨hj_mi, et_mi⟩ := wB_ix (n := 30) (by omega) (show wBy mi.toInt 0 30 = 0 from c_7)
      rw [et_mi] at hl
      refine lv_iload_n hx hb dX9_pullMost_25 rfl (lv_at hl 4 rfl) ?_
      refine lv_iconst (v := 0) hx hb dX9_pullMost_26 (by decide) ?_
      refine lv_iconst (v := 1) hx hb dX9_pullMost_27 (by decide) ?_
      refine x_Si (wN := fun _ => (wM G am ho rn ln pl sd lt ro rf nb ++ [(am 1, .inl (G.2 0, 54, .inl (row r)))] ++ [(am 2, .inl (G.2 0, 54, .inl (row rm)))] ++ [(am 3, .inl (G.2 0, 54, .inl (row r2)))] ++ [(am 4, .inl (G.2 0, 54, .inl (row r4)))])) ⟨C0, hK, hP, hD, hS, hA⟩ ((m9_isIn l G w 0 1)) (va_cwS 3 hts (lw_S q1233 q1234 q95 q1235) rfl rfl rfl (by decide +kernel) ⟨Nat.le_of_ble_eq_true rfl, Nat.le_of_ble_eq_true rfl⟩) [] [0, 2, 4, 6, 8, 10, 12, 14, 16] rfl (fun _ => rfl) rfl rfl hl.1 rfl (Nat.le_of_ble_eq_true rfl) dX9_pullMost_28 ⟨(Nat.le_of_ble_eq_true rfl), (Nat.le_of_ble_eq_true rfl)⟩ (fun r_10 u_10 H locs hw_10 hP hD hS => ?_)
      have hw_10 : r_10 = bI (inR w 0 1) := hw_10.trans rfl
      have hw_10 : (bI (inR w 0 1) : Int32) = r_10 := hw_10.symm
      subst hw_10
      refine lv_if_ne (tgt := 38) hx hb dX9_pullMost_31 (by decide) (fun c_11 => ?_) (fun c_11 => ?_)
      · skip
        refine lv_iload hx hb dX9_pullMost_38 (lv_at hl 0 rfl) ?_
        refine lv_if_eq (tgt := 50) hx hb dX9_pullMost_40 (by decide) (fun c_12 => ?_) (fun c_12 => ?_)
        · skip
          refine lv_bipush (v := (-9)) hx hb dX9_pullMost_50 (by decide) ?_
          refine lv_istore (lv' := [(5, .int (-9)), (4, .int (wBy (nI (ix mi)).toInt 0 30)), (0, .ref (am 0)), (1, .int (nI (ix t))), (2, .int (nI (ix mi))), (3, .int w)]) hx hb dX9_pullMost_52 hl (by decide) rfl (fun ls hl => ?_)
          refine lv_iconst (v := 0) hx hb dX9_pullMost_54 (by decide) ?_
          refine lv_istore (lv' := [(6, .int 0), (5, .int (-9)), (4, .int (wBy (nI (ix mi)).toInt 0 30)), (0, .ref (am 0)), (1, .int (nI (ix t))), (2, .int (nI (ix mi))), (3, .int w)]) hx hb dX9_pullMost_55 hl (by decide) rfl (fun ls hl => ?_)
          have loop_57 : ∀ (n : Nat) (k : Nat) (b : Option Nat) (q9 : Rw), (k ≤ 2 ^ mny r) → (2 ^ mny r < k + n) → (bst pc (pMoP r (ix t) (ix mi)) k = b) → ∀ (H : Heap) (locs : List Loc) (ls : Array Slot), va_P G.1 vwCl (wM G am ho rn ln pl sd lt ro rf nb ++ [(am 1, .inl (G.2 0, 54, .inl (row r)))] ++ [(am 2, .inl (G.2 0, 54, .inl (row q9)))] ++ [(am 3, .inl (G.2 0, 54, .inl (row r2)))] ++ [(am 4, .inl (G.2 0, 54, .inl (row r4)))]) H → va_D A (wM G am ho rn ln pl sd lt ro rf nb ++ [(am 1, .inl (G.2 0, 54, .inl (row r)))] ++ [(am 2, .inl (G.2 0, 54, .inl (row q9)))] ++ [(am 3, .inl (G.2 0, 54, .inl (row r2)))] ++ [(am 4, .inl (G.2 0, 54, .inl (row r4)))]) → va_S A s.heap H locs → lv_has ls 7 [(6, .int (nI k)), (5, .int (enc b)), (4, .int (wBy (nI (ix mi)).toInt 0 30)), (0, .ref (am 0)), (1, .int (nI (ix t))), (2, .int (nI (ix mi))), (3, .int w)] → W p l e ({ frames := 5, cells := 0, slots := 0, locals := 114 } : Room) s m args below meth c H locs 0 0 Q (F0 m 57 ls []) := by
            intro n
            induction n with
            | zero => intro k b q9 hi57_0 hi57_1 hi57_2; exact absurd hi57_1 (by omega)
            | succ n ih_57 =>
              intro k b q9 hi57_0 hi57_1 hi57_2 H locs ls hP hD hS hl
              have h2N : 2 ^ mny r ≤ 2 ^ 10 := Nat.pow_le_pow_right (by omega) hN
              refine lv_iload hx hb dX9_pullMost_57 (lv_at hl 0 rfl) ?_
              refine lv_iconst (v := 1) hx hb dX9_pullMost_59 (by decide) ?_
              refine lv_aload_n hx hb dX9_pullMost_60 rfl (lv_at hl 3 rfl) ?_
              refine va_get (D := G.1) (ci := 8) (v := .ref (am 1)) (C := RX9) (T := TX9) (N := 13) hx hb hts in_X9 hown hK.1 hP 0 rfl rfl 0 (by decide) (hts _ q1162) (fun _ h9 => h9) rfl dX9_pullMost_61 ?_
              refine lv_iconst (v := 0) hx hb dX9_pullMost_64 (by decide) ?_
              refine x_ialdn (k := 0) hx hb hK.1 hP 5 0 rfl rfl (by decide) (by decide) (v := nI (mny r)) (hr0) dX9_pullMost_65 ?_
              refine x_ishl hx hb dX9_pullMost_66 (v := b1 (mny r)) rfl ?_
              rw [show (b1 (mny r) : Int32) = nI (2 ^ mny r) from (b1_nI (mny r) (by omega))]
              refine lv_icmp_ge (tgt := 138) hx hb dX9_pullMost_67 (by decide) (fun c_13 => ?_) (fun c_13 => ?_)
              · skip
                have g_13 := (nI_leI (by omega) (by omega)).mp c_13
                rcases b with _ | x
                · skip
                  have hl : lv_has ls 7 [(6, .int (nI k)), (5, .int (-9)), (4, .int (wBy (nI (ix mi)).toInt 0 30)), (0, .ref (am 0)), (1, .int (nI (ix t))), (2, .int (nI (ix mi))), (3, .int w)] := hl
                  refine lv_iload hx hb dX9_pullMost_138 (lv_at hl 1 rfl) ?_
                  refine lv_if_lt (tgt := 148) hx hb dX9_pullMost_140 (by decide) (fun c_14 => ?_) (fun c_14 => ?_)
                  · skip
                    refine lv_iload hx hb dX9_pullMost_148 (lv_at hl 1 rfl) ?_
                    refine lv_goto (tgt := 158) hx hb dX9_pullMost_150 (by decide) ?_
                    have hE : eS (tB r t) (-1) (eW (wBy mi.toInt 0 30) (eS (inR w 0 1) (-2) 0)) = 0 := by rw [eS_t (show tB r t = true from (by have h9 := c_2; simpa [bI_0] using h9)), eW_0 c_7, eS_t (show inR w 0 1 = true from (by have h9 := c_11; simpa [bI_0] using h9))]
                    have hP : va_P G.1 vwCl (wM G am ho rn ln pl sd lt ro (sel (eS (tB r t) (-1) (eW (wBy mi.toInt 0 30) (eS (inR w 0 1) (-2) 0))) rf (rfU rf (eS (tB r t) (-1) (eW (wBy mi.toInt 0 30) (eS (inR w 0 1) (-2) 0))))) nb ++ [(am 1, .inl (G.2 0, 54, .inl (row r)))] ++ [(am 2, .inl (G.2 0, 54, .inl (row q9)))] ++ [(am 3, .inl (G.2 0, 54, .inl (row r2)))] ++ [(am 4, .inl (G.2 0, 54, .inl (row r4)))]) H := by rw [hE]; simp only [sel_0 rfl]; exact hP
                    have hD : va_D A (wM G am ho rn ln pl sd lt ro (sel (eS (tB r t) (-1) (eW (wBy mi.toInt 0 30) (eS (inR w 0 1) (-2) 0))) rf (rfU rf (eS (tB r t) (-1) (eW (wBy mi.toInt 0 30) (eS (inR w 0 1) (-2) 0))))) nb ++ [(am 1, .inl (G.2 0, 54, .inl (row r)))] ++ [(am 2, .inl (G.2 0, 54, .inl (row q9)))] ++ [(am 3, .inl (G.2 0, 54, .inl (row r2)))] ++ [(am 4, .inl (G.2 0, 54, .inl (row r4)))]) := by rw [hE]; simp only [sel_0 rfl]; exact hD
                    refine hret _ _ _ _ _ _ (-9) q9 dX9_pullMost_158 ?_ hP hD hS (Nat.le_of_ble_eq_true rfl) (Nat.le_of_ble_eq_true rfl)
                    rw [hE, sel_0 rfl]
                    rw [show pMost r (ix t) (ix mi) w = moA w none by unfold pMost pMo; rw [show 2 ^ mny r = k by omega, hi57_2]]
                    rfl
                  · skip
                    exact absurd c_14 (by decide)
                · skip
                  have hx1 := bst_lt hi57_2
                  have hx9 := pc_le x
                  have hk9 := pc_le k
                  have hl : lv_has ls 7 [(6, .int (nI k)), (5, .int (nI x)), (4, .int (wBy (nI (ix mi)).toInt 0 30)), (0, .ref (am 0)), (1, .int (nI (ix t))), (2, .int (nI (ix mi))), (3, .int w)] := hl
                  refine lv_iload hx hb dX9_pullMost_138 (lv_at hl 1 rfl) ?_
                  refine lv_if_lt (tgt := 148) hx hb dX9_pullMost_140 (by decide) (fun c_15 => ?_) (fun c_15 => ?_)
                  · skip
                    exact absurd c_15 (nI_nn (by omega))
                  · skip
                    have g_15 := mt (nI_ltI (by omega) (by omega)).mpr (show ¬ (nI x < nI 0) from c_15)
                    refine lv_iload_n hx hb dX9_pullMost_143 rfl (lv_at hl 6 rfl) ?_
                    refine lv_iconst (v := 1) hx hb dX9_pullMost_144 (by decide) ?_
                    refine lv_icmp_ne (tgt := 153) hx hb dX9_pullMost_145 (by decide) (fun c_16 => ?_) (fun c_16 => ?_)
                    · skip
                      refine lv_iload hx hb dX9_pullMost_153 (lv_at hl 1 rfl) ?_
                      refine x_Si (wN := fun _ => (wM G am ho rn ln pl sd lt ro rf nb ++ [(am 1, .inl (G.2 0, 54, .inl (row r)))] ++ [(am 2, .inl (G.2 0, 54, .inl (row q9)))] ++ [(am 3, .inl (G.2 0, 54, .inl (row r2)))] ++ [(am 4, .inl (G.2 0, 54, .inl (row r4)))])) ⟨C0, hK, hP, hD, hS, hA⟩ ((m9_bits l G x (by omega))) (va_cwS 1 hts (lw_S q1269 q1270 q95 q1271) rfl rfl rfl (by decide +kernel) ⟨Nat.le_of_ble_eq_true rfl, Nat.le_of_ble_eq_true rfl⟩) [] [0, 2, 4, 6, 8, 10, 12, 14, 16] rfl (fun _ => rfl) rfl rfl hl.1 rfl (Nat.le_of_ble_eq_true rfl) dX9_pullMost_155 ⟨(Nat.le_of_ble_eq_true rfl), (Nat.le_of_ble_eq_true rfl)⟩ (fun r_17 u_17 H locs hw_17 hP hD hS => ?_)
                      have hw_17 : (nI (pc x) : Int32) = r_17 := hw_17.symm
                      subst hw_17
                      have hE : eS (tB r t) (-1) (eW (wBy mi.toInt 0 30) (eS (inR w 0 1) (-2) 0)) = 0 := by rw [eS_t (show tB r t = true from (by have h9 := c_2; simpa [bI_0] using h9)), eW_0 c_7, eS_t (show inR w 0 1 = true from (by have h9 := c_11; simpa [bI_0] using h9))]
                      have hP : va_P G.1 vwCl (wM G am ho rn ln pl sd lt ro (sel (eS (tB r t) (-1) (eW (wBy mi.toInt 0 30) (eS (inR w 0 1) (-2) 0))) rf (rfU rf (eS (tB r t) (-1) (eW (wBy mi.toInt 0 30) (eS (inR w 0 1) (-2) 0))))) nb ++ [(am 1, .inl (G.2 0, 54, .inl (row r)))] ++ [(am 2, .inl (G.2 0, 54, .inl (row q9)))] ++ [(am 3, .inl (G.2 0, 54, .inl (row r2)))] ++ [(am 4, .inl (G.2 0, 54, .inl (row r4)))]) H := by rw [hE]; simp only [sel_0 rfl]; exact hP
                      have hD : va_D A (wM G am ho rn ln pl sd lt ro (sel (eS (tB r t) (-1) (eW (wBy mi.toInt 0 30) (eS (inR w 0 1) (-2) 0))) rf (rfU rf (eS (tB r t) (-1) (eW (wBy mi.toInt 0 30) (eS (inR w 0 1) (-2) 0))))) nb ++ [(am 1, .inl (G.2 0, 54, .inl (row r)))] ++ [(am 2, .inl (G.2 0, 54, .inl (row q9)))] ++ [(am 3, .inl (G.2 0, 54, .inl (row r2)))] ++ [(am 4, .inl (G.2 0, 54, .inl (row r4)))]) := by rw [hE]; simp only [sel_0 rfl]; exact hD
                      refine hret _ _ _ _ _ _ (nI (pc x)) q9 dX9_pullMost_158 ?_ hP hD hS (Nat.le_of_ble_eq_true rfl) (Nat.le_of_ble_eq_true rfl)
                      rw [hE, sel_0 rfl]
                      rw [show pMost r (ix t) (ix mi) w = moA w (some x) by unfold pMost pMo; rw [show 2 ^ mny r = k by omega, hi57_2]]
                      exact (if_neg c_16).symm
                    · skip
                      refine lv_iload hx hb dX9_pullMost_148 (lv_at hl 1 rfl) ?_
                      refine lv_goto (tgt := 158) hx hb dX9_pullMost_150 (by decide) ?_
                      have hE : eS (tB r t) (-1) (eW (wBy mi.toInt 0 30) (eS (inR w 0 1) (-2) 0)) = 0 := by rw [eS_t (show tB r t = true from (by have h9 := c_2; simpa [bI_0] using h9)), eW_0 c_7, eS_t (show inR w 0 1 = true from (by have h9 := c_11; simpa [bI_0] using h9))]
                      have hP : va_P G.1 vwCl (wM G am ho rn ln pl sd lt ro (sel (eS (tB r t) (-1) (eW (wBy mi.toInt 0 30) (eS (inR w 0 1) (-2) 0))) rf (rfU rf (eS (tB r t) (-1) (eW (wBy mi.toInt 0 30) (eS (inR w 0 1) (-2) 0))))) nb ++ [(am 1, .inl (G.2 0, 54, .inl (row r)))] ++ [(am 2, .inl (G.2 0, 54, .inl (row q9)))] ++ [(am 3, .inl (G.2 0, 54, .inl (row r2)))] ++ [(am 4, .inl (G.2 0, 54, .inl (row r4)))]) H := by rw [hE]; simp only [sel_0 rfl]; exact hP
                      have hD : va_D A (wM G am ho rn ln pl sd lt ro (sel (eS (tB r t) (-1) (eW (wBy mi.toInt 0 30) (eS (inR w 0 1) (-2) 0))) rf (rfU rf (eS (tB r t) (-1) (eW (wBy mi.toInt 0 30) (eS (inR w 0 1) (-2) 0))))) nb ++ [(am 1, .inl (G.2 0, 54, .inl (row r)))] ++ [(am 2, .inl (G.2 0, 54, .inl (row q9)))] ++ [(am 3, .inl (G.2 0, 54, .inl (row r2)))] ++ [(am 4, .inl (G.2 0, 54, .inl (row r4)))]) := by rw [hE]; simp only [sel_0 rfl]; exact hD
                      refine hret _ _ _ _ _ _ (nI x) q9 dX9_pullMost_158 ?_ hP hD hS (Nat.le_of_ble_eq_true rfl) (Nat.le_of_ble_eq_true rfl)
                      rw [hE, sel_0 rfl]
                      rw [show pMost r (ix t) (ix mi) w = moA w (some x) by unfold pMost pMo; rw [show 2 ^ mny r = k by omega, hi57_2]]
                      exact (if_pos c_16).symm
              · skip
                have g_13 := mt (nI_leI (by omega) (by omega)).mpr c_13
                refine lv_iload hx hb dX9_pullMost_70 (lv_at hl 0 rfl) ?_
                refine lv_iload_n hx hb dX9_pullMost_72 rfl (lv_at hl 4 rfl) ?_
                refine x_Si (wN := fun _ => (wM G am ho rn ln pl sd lt ro rf nb ++ [(am 1, .inl (G.2 0, 54, .inl (row r)))] ++ [(am 2, .inl (G.2 0, 54, .inl (row q9)))] ++ [(am 3, .inl (G.2 0, 54, .inl (row r2)))] ++ [(am 4, .inl (G.2 0, 54, .inl (row r4)))])) ⟨C0, hK, hP, hD, hS, hA⟩ ((m9_has l G (nI k) (ix t))) (va_cwS 2 hts (lw_S q1266 q1267 q95 q1268) rfl rfl rfl (by decide +kernel) ⟨Nat.le_of_ble_eq_true rfl, Nat.le_of_ble_eq_true rfl⟩) [] [0, 2, 4, 6, 8, 10, 12, 14, 16] rfl (fun _ => rfl) rfl rfl hl.1 rfl (Nat.le_of_ble_eq_true rfl) dX9_pullMost_73 ⟨(Nat.le_of_ble_eq_true rfl), (Nat.le_of_ble_eq_true rfl)⟩ (fun r_18 u_18 H locs hw_18 hP hD hS => ?_)
                have hw_18 : (bI (hs (nI k) (ix t)) : Int32) = r_18 := hw_18.symm
                subst hw_18
                refine lv_if_ne (tgt := 132) hx hb dX9_pullMost_76 (by decide) (fun c_19 => ?_) (fun c_19 => ?_)
                · skip
                  refine lv_iinc (v := nI (k + 1)) (lv' := [(6, .int (nI (k + 1))), (5, .int (enc b)), (4, .int (wBy (nI (ix mi)).toInt 0 30)), (0, .ref (am 0)), (1, .int (nI (ix t))), (2, .int (nI (ix mi))), (3, .int w)]) hx hb dX9_pullMost_132 hl (k := 0) rfl (x_inc1 _) (by decide) rfl (fun ls hl => ?_)
                  refine lv_goto (tgt := 57) hx hb dX9_pullMost_135 (by decide) ?_
                  exact ih_57 (k + 1) b _ (by omega) (by omega) (by rw [bst_f (moP_t (show k.testBit (ix t) = true from by rw [← hs_nI (by omega) (by omega)]; exact (by first | exact bI_n0 c_19 | exact bI_0.mp c_19)))]; exact hi57_2) _ _ _ hP hD hS (lv_sub hl [0, 1, 2, 3, 4, 5, 6] rfl)
                · skip
                  rcases b with _ | x
                  · skip
                    have hl : lv_has ls 7 [(6, .int (nI k)), (5, .int (-9)), (4, .int (wBy (nI (ix mi)).toInt 0 30)), (0, .ref (am 0)), (1, .int (nI (ix t))), (2, .int (nI (ix mi))), (3, .int w)] := hl
                    refine lv_iload hx hb dX9_pullMost_79 (lv_at hl 1 rfl) ?_
                    refine lv_if_lt (tgt := 97) hx hb dX9_pullMost_81 (by decide) (fun c_20 => ?_) (fun c_20 => ?_)
                    · skip
                      refine lv_aload_n hx hb dX9_pullMost_97 rfl (lv_at hl 3 rfl) ?_
                      refine lv_iload hx hb dX9_pullMost_98 (lv_at hl 0 rfl) ?_
                      refine x_Vi (wN := fun u_21 => (wM G am ho rn ln pl sd lt ro rf nb ++ [(am 1, .inl (G.2 0, 54, .inl (row r)))] ++ [(am 2, .inl (G.2 0, 54, .inl (row u_21)))] ++ [(am 3, .inl (G.2 0, 54, .inl (row r2)))] ++ [(am 4, .inl (G.2 0, 54, .inl (row r4)))])) ⟨C0, hK, hP, hD, hS, hA⟩ 0 rfl (ci := 8) rfl rfl ((m9_pullsSet l G am r q9 r2 r4 ho rn ln pl sd lt ro rf nb hr hp (nI k))) (cwV 1 hts (lw_V q1382 q1384 qs80 q95 q1385) rfl rfl rfl (by decide +kernel) ⟨Nat.le_of_ble_eq_true rfl, Nat.le_of_ble_eq_true rfl⟩) [0, 1, 2, 3, 4, 5, 6, 7, 8] [1, 3, 5, 7, 9, 11, 13, 15, 17] rfl (fun _ => rfl) rfl rfl hl.1 rfl (Nat.le_of_ble_eq_true rfl) dX9_pullMost_100 ⟨(Nat.le_of_ble_eq_true rfl), (Nat.le_of_ble_eq_true rfl)⟩ (fun r_21 u_21 H locs hw_21 hP hD hS => ?_)
                      have hP : va_P G.1 vwCl (wM G am ho rn ln pl sd lt ro rf nb ++ [(am 1, .inl (G.2 0, 54, .inl (row r)))] ++ [(am 2, .inl (G.2 0, 54, .inl (row u_21)))] ++ [(am 3, .inl (G.2 0, 54, .inl (row r2)))] ++ [(am 4, .inl (G.2 0, 54, .inl (row r4)))]) H := hP
                      have hD : va_D A (wM G am ho rn ln pl sd lt ro rf nb ++ [(am 1, .inl (G.2 0, 54, .inl (row r)))] ++ [(am 2, .inl (G.2 0, 54, .inl (row u_21)))] ++ [(am 3, .inl (G.2 0, 54, .inl (row r2)))] ++ [(am 4, .inl (G.2 0, 54, .inl (row r4)))]) := hD
                      rcases hw_21 with ⟨er, hps⟩ | ⟨er, hps⟩
                      · skip
                        subst er
                        obtain ⟨hmu, hfu⟩ := pPS_c _ _ hps
                        have hou := pPS_ok hr _ _ hps
                        have hP : va_P G.1 vwCl (wM G am ho rn ln pl sd lt ro rf nb ++ [(am 1, .inl (G.2 0, 54, .inl (row r)))] ++ [(am 2, .inl (G.2 0, 54, .inl (row u_21)))] ++ [(am 3, .inl (G.2 0, 54, .inl (row r2)))] ++ [(am 4, .inl (G.2 0, 54, .inl (row r4)))]) H := hP
                        have hD : va_D A (wM G am ho rn ln pl sd lt ro rf nb ++ [(am 1, .inl (G.2 0, 54, .inl (row r)))] ++ [(am 2, .inl (G.2 0, 54, .inl (row u_21)))] ++ [(am 3, .inl (G.2 0, 54, .inl (row r2)))] ++ [(am 4, .inl (G.2 0, 54, .inl (row r4)))]) := hD
                        refine lv_if_ne (tgt := 109) hx hb dX9_pullMost_103 (by decide) (fun c_22 => ?_) (fun c_22 => ?_)
                        · skip
                          refine lv_aload_n hx hb dX9_pullMost_109 rfl (lv_at hl 3 rfl) ?_
                          refine va_get (D := G.1) (ci := 8) (v := .ref (am 2)) (C := RX9) (T := TX9) (N := 13) hx hb hts in_X9 hown hK.1 hP 0 rfl rfl 1 (by decide) (hts _ q1163) (fun _ h9 => h9) rfl dX9_pullMost_110 ?_
                          refine lv_iload_n hx hb dX9_pullMost_113 rfl (lv_at hl 5 rfl) ?_
                          refine x_Sv (wN := fun _ => (wM G am ho rn ln pl sd lt ro rf nb ++ [(am 1, .inl (G.2 0, 54, .inl (row r)))] ++ [(am 2, .inl (G.2 0, 54, .inl (row (pMins u_21 (ix mi)))))] ++ [(am 3, .inl (G.2 0, 54, .inl (row r2)))] ++ [(am 4, .inl (G.2 0, 54, .inl (row r4)))])) ⟨C0, hK, hP, hD, hS, hA⟩ ((m9_minutesOn l G (am 2) u_21 hou (ix mi) (by omega))) (va_cwS 2 hts (lw_S q1272 q1273 q95 q1274) rfl rfl rfl (by decide +kernel) ⟨Nat.le_of_ble_eq_true rfl, Nat.le_of_ble_eq_true rfl⟩) [6] [0, 2, 4, 6, 8, 10, 1, 14, 16] rfl (fun _ => rfl) rfl rfl hl.1 rfl (Nat.le_of_ble_eq_true rfl) dX9_pullMost_114 ⟨(Nat.le_of_ble_eq_true rfl), (Nat.le_of_ble_eq_true rfl)⟩ (fun u_23 H locs hw_23 hP hD hS => ?_)
                          have hP : va_P G.1 vwCl (wM G am ho rn ln pl sd lt ro rf nb ++ [(am 1, .inl (G.2 0, 54, .inl (row r)))] ++ [(am 2, .inl (G.2 0, 54, .inl (row (pMins u_21 (ix mi)))))] ++ [(am 3, .inl (G.2 0, 54, .inl (row r2)))] ++ [(am 4, .inl (G.2 0, 54, .inl (row r4)))]) H := hP
                          have hD : va_D A (wM G am ho rn ln pl sd lt ro rf nb ++ [(am 1, .inl (G.2 0, 54, .inl (row r)))] ++ [(am 2, .inl (G.2 0, 54, .inl (row (pMins u_21 (ix mi)))))] ++ [(am 3, .inl (G.2 0, 54, .inl (row r2)))] ++ [(am 4, .inl (G.2 0, 54, .inl (row r4)))]) := hD
                          refine lv_aload_n hx hb dX9_pullMost_117 rfl (lv_at hl 3 rfl) ?_
                          refine va_get (D := G.1) (ci := 8) (v := .ref (am 2)) (C := RX9) (T := TX9) (N := 13) hx hb hts in_X9 hown hK.1 hP 0 rfl rfl 1 (by decide) (hts _ q1163) (fun _ h9 => h9) rfl dX9_pullMost_118 ?_
                          refine lv_iload_n hx hb dX9_pullMost_121 rfl (lv_at hl 4 rfl) ?_
                          refine x_Si (wN := fun _ => (wM G am ho rn ln pl sd lt ro rf nb ++ [(am 1, .inl (G.2 0, 54, .inl (row r)))] ++ [(am 2, .inl (G.2 0, 54, .inl (row (pMins u_21 (ix mi)))))] ++ [(am 3, .inl (G.2 0, 54, .inl (row r2)))] ++ [(am 4, .inl (G.2 0, 54, .inl (row r4)))])) ⟨C0, hK, hP, hD, hS, hA⟩ ((m9_stands l G (am 2) (pMins u_21 (ix mi)) (Ok.mins hou) (ix t) (by omega))) (va_cwS 2 hts (lw_S q1251 q1252 q95 q1253) rfl rfl rfl (by decide +kernel) ⟨Nat.le_of_ble_eq_true rfl, Nat.le_of_ble_eq_true rfl⟩) [6] [0, 2, 4, 6, 8, 10, 1, 14, 16] rfl (fun _ => rfl) rfl rfl hl.1 rfl (Nat.le_of_ble_eq_true rfl) dX9_pullMost_122 ⟨(Nat.le_of_ble_eq_true rfl), (Nat.le_of_ble_eq_true rfl)⟩ (fun r_24 u_24 H locs hw_24 hP hD hS => ?_)
                          have hw_24 : (bI (pSt (pMins u_21 (ix mi)) (ix t)) : Int32) = r_24 := hw_24.symm
                          subst hw_24
                          refine lv_if_eq (tgt := 132) hx hb dX9_pullMost_125 (by decide) (fun c_25 => ?_) (fun c_25 => ?_)
                          · skip
                            refine lv_iinc (v := nI (k + 1)) (lv' := [(6, .int (nI (k + 1))), (5, .int (-9)), (4, .int (wBy (nI (ix mi)).toInt 0 30)), (0, .ref (am 0)), (1, .int (nI (ix t))), (2, .int (nI (ix mi))), (3, .int w)]) hx hb dX9_pullMost_132 hl (k := 0) rfl (x_inc1 _) (by decide) rfl (fun ls hl => ?_)
                            refine lv_goto (tgt := 57) hx hb dX9_pullMost_135 (by decide) ?_
                            exact ih_57 (k + 1) none _ (by omega) (by omega) (by rw [bst_f ((moP_s hps (show k.testBit (ix t) = false from by rw [← hs_nI (by omega) (by omega)]; exact (by first | exact bI_n0 c_19 | exact bI_0.mp c_19))).trans (show pSt (pMins u_21 (ix mi)) (ix t) = false from (by first | exact bI_n0 c_25 | exact bI_0.mp c_25)))]; exact hi57_2) _ _ _ hP hD hS (lv_sub hl [0, 1, 2, 3, 4, 5, 6] rfl)
                          · skip
                            refine lv_iload hx hb dX9_pullMost_128 (lv_at hl 0 rfl) ?_
                            refine lv_istore (lv' := [(5, .int (nI k)), (6, .int (nI k)), (4, .int (wBy (nI (ix mi)).toInt 0 30)), (0, .ref (am 0)), (1, .int (nI (ix t))), (2, .int (nI (ix mi))), (3, .int w)]) hx hb dX9_pullMost_130 hl (by decide) rfl (fun ls hl => ?_)
                            refine lv_iinc (v := nI (k + 1)) (lv' := [(6, .int (nI (k + 1))), (5, .int (nI k)), (4, .int (wBy (nI (ix mi)).toInt 0 30)), (0, .ref (am 0)), (1, .int (nI (ix t))), (2, .int (nI (ix mi))), (3, .int w)]) hx hb dX9_pullMost_132 hl (k := 1) rfl (x_inc1 _) (by decide) rfl (fun ls hl => ?_)
                            refine lv_goto (tgt := 57) hx hb dX9_pullMost_135 (by decide) ?_
                            exact ih_57 (k + 1) (some k) _ (by omega) (by omega) (bst_y0 hi57_2 ((moP_s hps (show k.testBit (ix t) = false from by rw [← hs_nI (by omega) (by omega)]; exact (by first | exact bI_n0 c_19 | exact bI_0.mp c_19))).trans (show pSt (pMins u_21 (ix mi)) (ix t) = true from (by first | exact bI_n0 c_25 | exact bI_0.mp c_25)))) _ _ _ hP hD hS (lv_sub hl [0, 1, 2, 3, 4, 5, 6] rfl)
                        · skip
                          exact absurd c_22 (by decide)
                      · skip
                        subst er
                        refine lv_if_ne (tgt := 109) hx hb dX9_pullMost_103 (by decide) (fun c_26 => ?_) (fun c_26 => ?_)
                        · skip
                          exact absurd c_26 (by decide)
                        · skip
                          refine lv_goto (tgt := 132) hx hb dX9_pullMost_106 (by decide) ?_
                          refine lv_iinc (v := nI (k + 1)) (lv' := [(6, .int (nI (k + 1))), (5, .int (-9)), (4, .int (wBy (nI (ix mi)).toInt 0 30)), (0, .ref (am 0)), (1, .int (nI (ix t))), (2, .int (nI (ix mi))), (3, .int w)]) hx hb dX9_pullMost_132 hl (k := 0) rfl (x_inc1 _) (by decide) rfl (fun ls hl => ?_)
                          refine lv_goto (tgt := 57) hx hb dX9_pullMost_135 (by decide) ?_
                          exact ih_57 (k + 1) none _ (by omega) (by omega) (by rw [bst_f (moP_n hps)]; exact hi57_2) _ _ _ hP hD hS (lv_sub hl [0, 1, 2, 3, 4, 5, 6] rfl)
                    · skip
                      exact absurd c_20 (by decide)
                  · skip
                    have hx1 := bst_lt hi57_2
                    have hx9 := pc_le x
                    have hk9 := pc_le k
                    have hl : lv_has ls 7 [(6, .int (nI k)), (5, .int (nI x)), (4, .int (wBy (nI (ix mi)).toInt 0 30)), (0, .ref (am 0)), (1, .int (nI (ix t))), (2, .int (nI (ix mi))), (3, .int w)] := hl
                    refine lv_iload hx hb dX9_pullMost_79 (lv_at hl 1 rfl) ?_
                    refine lv_if_lt (tgt := 97) hx hb dX9_pullMost_81 (by decide) (fun c_27 => ?_) (fun c_27 => ?_)
                    · skip
                      exact absurd c_27 (nI_nn (by omega))
                    · skip
                      have g_27 := mt (nI_ltI (by omega) (by omega)).mpr (show ¬ (nI x < nI 0) from c_27)
                      refine lv_iload hx hb dX9_pullMost_84 (lv_at hl 0 rfl) ?_
                      refine x_Si (wN := fun _ => (wM G am ho rn ln pl sd lt ro rf nb ++ [(am 1, .inl (G.2 0, 54, .inl (row r)))] ++ [(am 2, .inl (G.2 0, 54, .inl (row q9)))] ++ [(am 3, .inl (G.2 0, 54, .inl (row r2)))] ++ [(am 4, .inl (G.2 0, 54, .inl (row r4)))])) ⟨C0, hK, hP, hD, hS, hA⟩ ((m9_bits l G k (by omega))) (va_cwS 1 hts (lw_S q1269 q1270 q95 q1271) rfl rfl rfl (by decide +kernel) ⟨Nat.le_of_ble_eq_true rfl, Nat.le_of_ble_eq_true rfl⟩) [] [0, 2, 4, 6, 8, 10, 12, 14, 16] rfl (fun _ => rfl) rfl rfl hl.1 rfl (Nat.le_of_ble_eq_true rfl) dX9_pullMost_86 ⟨(Nat.le_of_ble_eq_true rfl), (Nat.le_of_ble_eq_true rfl)⟩ (fun r_28 u_28 H locs hw_28 hP hD hS => ?_)
                      have hw_28 : (nI (pc k) : Int32) = r_28 := hw_28.symm
                      subst hw_28
                      refine lv_iload hx hb dX9_pullMost_89 (lv_at hl 1 rfl) ?_
                      refine x_Si (wN := fun _ => (wM G am ho rn ln pl sd lt ro rf nb ++ [(am 1, .inl (G.2 0, 54, .inl (row r)))] ++ [(am 2, .inl (G.2 0, 54, .inl (row q9)))] ++ [(am 3, .inl (G.2 0, 54, .inl (row r2)))] ++ [(am 4, .inl (G.2 0, 54, .inl (row r4)))])) ⟨C0, hK, hP, hD, hS, hA⟩ ((m9_bits l G x (by omega))) (va_cwS 1 hts (lw_S q1269 q1270 q95 q1271) rfl rfl rfl (by decide +kernel) ⟨Nat.le_of_ble_eq_true rfl, Nat.le_of_ble_eq_true rfl⟩) [] [0, 2, 4, 6, 8, 10, 12, 14, 16] rfl (fun _ => rfl) rfl rfl hl.1 rfl (Nat.le_of_ble_eq_true rfl) dX9_pullMost_91 ⟨(Nat.le_of_ble_eq_true rfl), (Nat.le_of_ble_eq_true rfl)⟩ (fun r_29 u_29 H locs hw_29 hP hD hS => ?_)
                      have hw_29 : (nI (pc x) : Int32) = r_29 := hw_29.symm
                      subst hw_29
                      refine lv_icmp_le (tgt := 132) hx hb dX9_pullMost_94 (by decide) (fun c_30 => ?_) (fun c_30 => ?_)
                      · skip
                        have g_30 := (nI_leI (by omega) (by omega)).mp c_30
                        refine lv_iinc (v := nI (k + 1)) (lv' := [(6, .int (nI (k + 1))), (5, .int (nI x)), (4, .int (wBy (nI (ix mi)).toInt 0 30)), (0, .ref (am 0)), (1, .int (nI (ix t))), (2, .int (nI (ix mi))), (3, .int w)]) hx hb dX9_pullMost_132 hl (k := 0) rfl (x_inc1 _) (by decide) rfl (fun ls hl => ?_)
                        refine lv_goto (tgt := 57) hx hb dX9_pullMost_135 (by decide) ?_
                        exact ih_57 (k + 1) (some x) _ (by omega) (by omega) (bst_l hi57_2 (by omega)) _ _ _ hP hD hS (lv_sub hl [0, 1, 2, 3, 4, 5, 6] rfl)
                      · skip
                        have g_30 := mt (nI_leI (by omega) (by omega)).mpr c_30
                        refine lv_aload_n hx hb dX9_pullMost_97 rfl (lv_at hl 3 rfl) ?_
                        refine lv_iload hx hb dX9_pullMost_98 (lv_at hl 0 rfl) ?_
                        refine x_Vi (wN := fun u_31 => (wM G am ho rn ln pl sd lt ro rf nb ++ [(am 1, .inl (G.2 0, 54, .inl (row r)))] ++ [(am 2, .inl (G.2 0, 54, .inl (row u_31)))] ++ [(am 3, .inl (G.2 0, 54, .inl (row r2)))] ++ [(am 4, .inl (G.2 0, 54, .inl (row r4)))])) ⟨C0, hK, hP, hD, hS, hA⟩ 0 rfl (ci := 8) rfl rfl ((m9_pullsSet l G am r q9 r2 r4 ho rn ln pl sd lt ro rf nb hr hp (nI k))) (cwV 1 hts (lw_V q1382 q1384 qs80 q95 q1385) rfl rfl rfl (by decide +kernel) ⟨Nat.le_of_ble_eq_true rfl, Nat.le_of_ble_eq_true rfl⟩) [0, 1, 2, 3, 4, 5, 6, 7, 8] [1, 3, 5, 7, 9, 11, 13, 15, 17] rfl (fun _ => rfl) rfl rfl hl.1 rfl (Nat.le_of_ble_eq_true rfl) dX9_pullMost_100 ⟨(Nat.le_of_ble_eq_true rfl), (Nat.le_of_ble_eq_true rfl)⟩ (fun r_31 u_31 H locs hw_31 hP hD hS => ?_)
                        have hP : va_P G.1 vwCl (wM G am ho rn ln pl sd lt ro rf nb ++ [(am 1, .inl (G.2 0, 54, .inl (row r)))] ++ [(am 2, .inl (G.2 0, 54, .inl (row u_31)))] ++ [(am 3, .inl (G.2 0, 54, .inl (row r2)))] ++ [(am 4, .inl (G.2 0, 54, .inl (row r4)))]) H := hP
                        have hD : va_D A (wM G am ho rn ln pl sd lt ro rf nb ++ [(am 1, .inl (G.2 0, 54, .inl (row r)))] ++ [(am 2, .inl (G.2 0, 54, .inl (row u_31)))] ++ [(am 3, .inl (G.2 0, 54, .inl (row r2)))] ++ [(am 4, .inl (G.2 0, 54, .inl (row r4)))]) := hD
                        rcases hw_31 with ⟨er, hps⟩ | ⟨er, hps⟩
                        · skip
                          subst er
                          obtain ⟨hmu, hfu⟩ := pPS_c _ _ hps
                          have hou := pPS_ok hr _ _ hps
                          have hP : va_P G.1 vwCl (wM G am ho rn ln pl sd lt ro rf nb ++ [(am 1, .inl (G.2 0, 54, .inl (row r)))] ++ [(am 2, .inl (G.2 0, 54, .inl (row u_31)))] ++ [(am 3, .inl (G.2 0, 54, .inl (row r2)))] ++ [(am 4, .inl (G.2 0, 54, .inl (row r4)))]) H := hP
                          have hD : va_D A (wM G am ho rn ln pl sd lt ro rf nb ++ [(am 1, .inl (G.2 0, 54, .inl (row r)))] ++ [(am 2, .inl (G.2 0, 54, .inl (row u_31)))] ++ [(am 3, .inl (G.2 0, 54, .inl (row r2)))] ++ [(am 4, .inl (G.2 0, 54, .inl (row r4)))]) := hD
                          refine lv_if_ne (tgt := 109) hx hb dX9_pullMost_103 (by decide) (fun c_32 => ?_) (fun c_32 => ?_)
                          · skip
                            refine lv_aload_n hx hb dX9_pullMost_109 rfl (lv_at hl 3 rfl) ?_
                            refine va_get (D := G.1) (ci := 8) (v := .ref (am 2)) (C := RX9) (T := TX9) (N := 13) hx hb hts in_X9 hown hK.1 hP 0 rfl rfl 1 (by decide) (hts _ q1163) (fun _ h9 => h9) rfl dX9_pullMost_110 ?_
                            refine lv_iload_n hx hb dX9_pullMost_113 rfl (lv_at hl 5 rfl) ?_
                            refine x_Sv (wN := fun _ => (wM G am ho rn ln pl sd lt ro rf nb ++ [(am 1, .inl (G.2 0, 54, .inl (row r)))] ++ [(am 2, .inl (G.2 0, 54, .inl (row (pMins u_31 (ix mi)))))] ++ [(am 3, .inl (G.2 0, 54, .inl (row r2)))] ++ [(am 4, .inl (G.2 0, 54, .inl (row r4)))])) ⟨C0, hK, hP, hD, hS, hA⟩ ((m9_minutesOn l G (am 2) u_31 hou (ix mi) (by omega))) (va_cwS 2 hts (lw_S q1272 q1273 q95 q1274) rfl rfl rfl (by decide +kernel) ⟨Nat.le_of_ble_eq_true rfl, Nat.le_of_ble_eq_true rfl⟩) [6] [0, 2, 4, 6, 8, 10, 1, 14, 16] rfl (fun _ => rfl) rfl rfl hl.1 rfl (Nat.le_of_ble_eq_true rfl) dX9_pullMost_114 ⟨(Nat.le_of_ble_eq_true rfl), (Nat.le_of_ble_eq_true rfl)⟩ (fun u_33 H locs hw_33 hP hD hS => ?_)
                            have hP : va_P G.1 vwCl (wM G am ho rn ln pl sd lt ro rf nb ++ [(am 1, .inl (G.2 0, 54, .inl (row r)))] ++ [(am 2, .inl (G.2 0, 54, .inl (row (pMins u_31 (ix mi)))))] ++ [(am 3, .inl (G.2 0, 54, .inl (row r2)))] ++ [(am 4, .inl (G.2 0, 54, .inl (row r4)))]) H := hP
                            have hD : va_D A (wM G am ho rn ln pl sd lt ro rf nb ++ [(am 1, .inl (G.2 0, 54, .inl (row r)))] ++ [(am 2, .inl (G.2 0, 54, .inl (row (pMins u_31 (ix mi)))))] ++ [(am 3, .inl (G.2 0, 54, .inl (row r2)))] ++ [(am 4, .inl (G.2 0, 54, .inl (row r4)))]) := hD
                            refine lv_aload_n hx hb dX9_pullMost_117 rfl (lv_at hl 3 rfl) ?_
                            refine va_get (D := G.1) (ci := 8) (v := .ref (am 2)) (C := RX9) (T := TX9) (N := 13) hx hb hts in_X9 hown hK.1 hP 0 rfl rfl 1 (by decide) (hts _ q1163) (fun _ h9 => h9) rfl dX9_pullMost_118 ?_
                            refine lv_iload_n hx hb dX9_pullMost_121 rfl (lv_at hl 4 rfl) ?_
                            refine x_Si (wN := fun _ => (wM G am ho rn ln pl sd lt ro rf nb ++ [(am 1, .inl (G.2 0, 54, .inl (row r)))] ++ [(am 2, .inl (G.2 0, 54, .inl (row (pMins u_31 (ix mi)))))] ++ [(am 3, .inl (G.2 0, 54, .inl (row r2)))] ++ [(am 4, .inl (G.2 0, 54, .inl (row r4)))])) ⟨C0, hK, hP, hD, hS, hA⟩ ((m9_stands l G (am 2) (pMins u_31 (ix mi)) (Ok.mins hou) (ix t) (by omega))) (va_cwS 2 hts (lw_S q1251 q1252 q95 q1253) rfl rfl rfl (by decide +kernel) ⟨Nat.le_of_ble_eq_true rfl, Nat.le_of_ble_eq_true rfl⟩) [6] [0, 2, 4, 6, 8, 10, 1, 14, 16] rfl (fun _ => rfl) rfl rfl hl.1 rfl (Nat.le_of_ble_eq_true rfl) dX9_pullMost_122 ⟨(Nat.le_of_ble_eq_true rfl), (Nat.le_of_ble_eq_true rfl)⟩ (fun r_34 u_34 H locs hw_34 hP hD hS => ?_)
                            have hw_34 : (bI (pSt (pMins u_31 (ix mi)) (ix t)) : Int32) = r_34 := hw_34.symm
                            subst hw_34
                            refine lv_if_eq (tgt := 132) hx hb dX9_pullMost_125 (by decide) (fun c_35 => ?_) (fun c_35 => ?_)
                            · skip
                              refine lv_iinc (v := nI (k + 1)) (lv' := [(6, .int (nI (k + 1))), (5, .int (nI x)), (4, .int (wBy (nI (ix mi)).toInt 0 30)), (0, .ref (am 0)), (1, .int (nI (ix t))), (2, .int (nI (ix mi))), (3, .int w)]) hx hb dX9_pullMost_132 hl (k := 0) rfl (x_inc1 _) (by decide) rfl (fun ls hl => ?_)
                              refine lv_goto (tgt := 57) hx hb dX9_pullMost_135 (by decide) ?_
                              exact ih_57 (k + 1) (some x) _ (by omega) (by omega) (by rw [bst_f ((moP_s hps (show k.testBit (ix t) = false from by rw [← hs_nI (by omega) (by omega)]; exact (by first | exact bI_n0 c_19 | exact bI_0.mp c_19))).trans (show pSt (pMins u_31 (ix mi)) (ix t) = false from (by first | exact bI_n0 c_35 | exact bI_0.mp c_35)))]; exact hi57_2) _ _ _ hP hD hS (lv_sub hl [0, 1, 2, 3, 4, 5, 6] rfl)
                            · skip
                              refine lv_iload hx hb dX9_pullMost_128 (lv_at hl 0 rfl) ?_
                              refine lv_istore (lv' := [(5, .int (nI k)), (6, .int (nI k)), (4, .int (wBy (nI (ix mi)).toInt 0 30)), (0, .ref (am 0)), (1, .int (nI (ix t))), (2, .int (nI (ix mi))), (3, .int w)]) hx hb dX9_pullMost_130 hl (by decide) rfl (fun ls hl => ?_)
                              refine lv_iinc (v := nI (k + 1)) (lv' := [(6, .int (nI (k + 1))), (5, .int (nI k)), (4, .int (wBy (nI (ix mi)).toInt 0 30)), (0, .ref (am 0)), (1, .int (nI (ix t))), (2, .int (nI (ix mi))), (3, .int w)]) hx hb dX9_pullMost_132 hl (k := 1) rfl (x_inc1 _) (by decide) rfl (fun ls hl => ?_)
                              refine lv_goto (tgt := 57) hx hb dX9_pullMost_135 (by decide) ?_
                              exact ih_57 (k + 1) (some k) _ (by omega) (by omega) (bst_y1 hi57_2 ((moP_s hps (show k.testBit (ix t) = false from by rw [← hs_nI (by omega) (by omega)]; exact (by first | exact bI_n0 c_19 | exact bI_0.mp c_19))).trans (show pSt (pMins u_31 (ix mi)) (ix t) = true from (by first | exact bI_n0 c_35 | exact bI_0.mp c_35))) (by omega)) _ _ _ hP hD hS (lv_sub hl [0, 1, 2, 3, 4, 5, 6] rfl)
                          · skip
                            exact absurd c_32 (by decide)
                        · skip
                          subst er
                          refine lv_if_ne (tgt := 109) hx hb dX9_pullMost_103 (by decide) (fun c_36 => ?_) (fun c_36 => ?_)
                          · skip
                            exact absurd c_36 (by decide)
                          · skip
                            refine lv_goto (tgt := 132) hx hb dX9_pullMost_106 (by decide) ?_
                            refine lv_iinc (v := nI (k + 1)) (lv' := [(6, .int (nI (k + 1))), (5, .int (nI x)), (4, .int (wBy (nI (ix mi)).toInt 0 30)), (0, .ref (am 0)), (1, .int (nI (ix t))), (2, .int (nI (ix mi))), (3, .int w)]) hx hb dX9_pullMost_132 hl (k := 0) rfl (x_inc1 _) (by decide) rfl (fun ls hl => ?_)
                            refine lv_goto (tgt := 57) hx hb dX9_pullMost_135 (by decide) ?_
                            exact ih_57 (k + 1) (some x) _ (by omega) (by omega) (by rw [bst_f (moP_n hps)]; exact hi57_2) _ _ _ hP hD hS (lv_sub hl [0, 1, 2, 3, 4, 5, 6] rfl)
          exact loop_57 (2 ^ mny r + 1) 0 none _ (Nat.zero_le _) (by omega) rfl _ _ _ hP hD hS (lv_sub hl [0, 1, 2, 3, 4, 5, 6] rfl)
        · skip
          exact absurd (by rw [← et_mi]; exact c_7) c_12
      · skip
        refine lv_bipush (v := (-2)) hx hb dX9_pullMost_34 (by decide) ?_
        refine lv_istore (lv' := [(4, .int (-2)), (0, .ref (am 0)), (1, .int (nI (ix t))), (2, .int (nI (ix mi))), (3, .int w)]) hx hb dX9_pullMost_36 hl (by decide) rfl (fun ls hl => ?_)
        refine lv_iload hx hb dX9_pullMost_38 (lv_at hl 0 rfl) ?_
        refine lv_if_eq (tgt := 50) hx hb dX9_pullMost_40 (by decide) (fun c_37 => ?_) (fun c_37 => ?_)
        · skip
          exact absurd c_37 (by decide)
        · skip
          refine lv_aload_n hx hb dX9_pullMost_43 rfl (lv_at hl 1 rfl) ?_
          refine lv_iload hx hb dX9_pullMost_44 (lv_at hl 0 rfl) ?_
          refine x_Vi (wN := fun _ => (wM G am ho rn ln pl sd lt ro (rfU rf (-2)) nb ++ [(am 1, .inl (G.2 0, 54, .inl (row r)))] ++ [(am 2, .inl (G.2 0, 54, .inl (row rm)))] ++ [(am 3, .inl (G.2 0, 54, .inl (row r2)))] ++ [(am 4, .inl (G.2 0, 54, .inl (row r4)))])) ⟨C0, hK, hP, hD, hS, hA⟩ 0 rfl (ci := 8) rfl rfl ((m9_no l G am ho rn ln pl sd lt ro rf nb (-2) noOk_k.2.1)) (cwV 1 hts (lw_V q1206 q1208 qs66 q95 q1209) rfl rfl rfl (by decide +kernel) ⟨Nat.le_of_ble_eq_true rfl, Nat.le_of_ble_eq_true rfl⟩) [0, 1, 2, 3, 4] [1, 3, 5, 7, 9, 10, 12, 14, 16] rfl (fun _ => rfl) rfl rfl hl.1 rfl (Nat.le_of_ble_eq_true rfl) dX9_pullMost_46 ⟨(Nat.le_of_ble_eq_true rfl), (Nat.le_of_ble_eq_true rfl)⟩ (fun r_38 u_38 H locs hw_38 hP hD hS => ?_)
          have hw_38 : ((-2) : Int32) = r_38 := hw_38.symm
          subst hw_38
          have hP : va_P G.1 vwCl (wM G am ho rn ln pl sd lt ro (rfU rf (-2)) nb ++ [(am 1, .inl (G.2 0, 54, .inl (row r)))] ++ [(am 2, .inl (G.2 0, 54, .inl (row rm)))] ++ [(am 3, .inl (G.2 0, 54, .inl (row r2)))] ++ [(am 4, .inl (G.2 0, 54, .inl (row r4)))]) H := hP
          have hD : va_D A (wM G am ho rn ln pl sd lt ro (rfU rf (-2)) nb ++ [(am 1, .inl (G.2 0, 54, .inl (row r)))] ++ [(am 2, .inl (G.2 0, 54, .inl (row rm)))] ++ [(am 3, .inl (G.2 0, 54, .inl (row r2)))] ++ [(am 4, .inl (G.2 0, 54, .inl (row r4)))]) := hD
          have hE : eS (tB r t) (-1) (eW (wBy mi.toInt 0 30) (eS (inR w 0 1) (-2) 0)) = (-2) := by rw [eS_t (show tB r t = true from (by have h9 := c_2; simpa [bI_0] using h9)), eW_0 c_7, eS_f (show inR w 0 1 = false from (by have h9 := c_11; simpa [bI_0] using h9))]
          have hne : ((-2) : Int32) ≠ 0 := (by decide)
          have hP : va_P G.1 vwCl (wM G am ho rn ln pl sd lt ro (sel (eS (tB r t) (-1) (eW (wBy mi.toInt 0 30) (eS (inR w 0 1) (-2) 0))) rf (rfU rf (eS (tB r t) (-1) (eW (wBy mi.toInt 0 30) (eS (inR w 0 1) (-2) 0))))) nb ++ [(am 1, .inl (G.2 0, 54, .inl (row r)))] ++ [(am 2, .inl (G.2 0, 54, .inl (row rm)))] ++ [(am 3, .inl (G.2 0, 54, .inl (row r2)))] ++ [(am 4, .inl (G.2 0, 54, .inl (row r4)))]) H := by rw [hE]; simp only [sel_n hne]; exact hP
          have hD : va_D A (wM G am ho rn ln pl sd lt ro (sel (eS (tB r t) (-1) (eW (wBy mi.toInt 0 30) (eS (inR w 0 1) (-2) 0))) rf (rfU rf (eS (tB r t) (-1) (eW (wBy mi.toInt 0 30) (eS (inR w 0 1) (-2) 0))))) nb ++ [(am 1, .inl (G.2 0, 54, .inl (row r)))] ++ [(am 2, .inl (G.2 0, 54, .inl (row rm)))] ++ [(am 3, .inl (G.2 0, 54, .inl (row r2)))] ++ [(am 4, .inl (G.2 0, 54, .inl (row r4)))]) := by rw [hE]; simp only [sel_n hne]; exact hD
          refine hret _ _ _ _ _ _ (-2) rm dX9_pullMost_49 ?_ hP hD hS (Nat.le_of_ble_eq_true rfl) (Nat.le_of_ble_eq_true rfl)
          rw [hE, sel_n hne]
/-- the key: as the model keeps it -/
def kB9 (x : Int32) : Int32 := if x = 11 then 1000000000 else x
theorem pKy_c {r : Rw} {n : Nat} (hN : mny r ≤ 10) : ∀ i, (pKy r n i).2 = 11 ∨ ∃ j, j ≤ 10 ∧ (pKy r n i).2 = nI j
  | 0 => Or.inl rfl
  | i + 1 => by
    have ih := pKy_c (n := n) hN i
    cases e : pSt r i with
    | false => rw [pKy_n e]; exact ih
    | true =>
      rw [pKy_2 e]
      split
      · right
        have hj : ∃ j, j ≤ 10 ∧ pKyV r n i = nI j := ⟨_, Nat.le_trans (cn_le _ _) (by rw [pMins_n]; exact hN), rfl⟩
        exact hj
      · exact ih
theorem kB_lt {r : Rw} {n i : Nat} (hN : mny r ≤ 10) : pKyV r n i < kB9 (pKy r n i).2 ↔ pKyV r n i < (pKy r n i).2 := by
  have hj : ∃ j, j ≤ 10 ∧ pKyV r n i = nI j := ⟨_, Nat.le_trans (cn_le _ _) (by rw [pMins_n]; exact hN), rfl⟩
  obtain ⟨j, hj, ej⟩ := hj
  unfold kB9
  split
  · rename_i e
    rw [e, ej, show (1000000000 : Int32) = nI 1000000000 from rfl, show (11 : Int32) = nI 11 from rfl, nI_ltI (by omega) (by omega), nI_ltI (by omega) (by omega)]
    omega
  · exact Iff.rfl
theorem kB_v {r : Rw} {n i : Nat} (hN : mny r ≤ 10) : kB9 (pKyV r n i) = pKyV r n i := by
  have hj : ∃ j, j ≤ 10 ∧ pKyV r n i = nI j := ⟨_, Nat.le_trans (cn_le _ _) (by rw [pMins_n]; exact hN), rfl⟩
  obtain ⟨j, hj, ej⟩ := hj
  rw [ej]
  exact if_neg (fun q => by have := (nI_eq (b := 11) (by omega) (by omega)).mp q; omega)
theorem pPS_1 {r : Rw} {i : Nat} (hN : mny r ≤ 10) (hi : i < mny r) : pPS r (b1 i) (mny r) = if pSt r i = true then some (pPull r i 9) else none := by
  rw [pPS_b1 (by omega) _ hN, if_pos hi]
theorem pPS_1s {r u : Rw} {i : Nat} (hN : mny r ≤ 10) (hi : i < mny r) (h : pPS r (b1 i) (mny r) = some u) : pSt r i = true ∧ u = pPull r i 9 := by
  rw [pPS_1 hN hi] at h
  split at h
  · rename_i q; exact ⟨q, (Option.some.inj h).symm⟩
  · cases h
theorem pPS_1n {r : Rw} {i : Nat} (hN : mny r ≤ 10) (hi : i < mny r) (h : pPS r (b1 i) (mny r) = none) : pSt r i = false := by
  rw [pPS_1 hN hi] at h
  split at h
  · cases h
  · rename_i q; simpa using q
set_option maxHeartbeats 4000000 in
set_option maxRecDepth 100000 in
theorem n_key (l : Launch) (G : xG) (am : Nat → Nat) (r rm r2 r4 : Rw) (ho rn ln pl sd : Int32) (lt ro rf nb : Nat → Int32) (hr : Ok r) (hp : r 5 3 = 0) (mi : Int32) : xCi l G yX9_key cX9_key 6 (some .int) ({ frames := 5, cells := 0, slots := 0, locals := 114 } : Room) [.ref (am 0), .int mi] (wM G am ho rn ln pl sd lt ro rf nb ++ [(am 1, .inl (G.2 0, 54, .inl (row r)))] ++ [(am 2, .inl (G.2 0, 54, .inl (row rm)))] ++ [(am 3, .inl (G.2 0, 54, .inl (row r2)))] ++ [(am 4, .inl (G.2 0, 54, .inl (row r4)))]) (S := Rw) (fun v _ => v = sel (eW (wBy mi.toInt 0 99) 0) ((pKy r (ix mi) (mny r)).1) (eW (wBy mi.toInt 0 99) 0)) (fun u => (wM G am ho rn ln pl sd lt ro (sel (eW (wBy mi.toInt 0 99) 0) rf (rfU rf (eW (wBy mi.toInt 0 99) 0))) nb ++ [(am 1, .inl (G.2 0, 54, .inl (row r)))] ++ [(am 2, .inl (G.2 0, 54, .inl (row u)))] ++ [(am 3, .inl (G.2 0, 54, .inl (row r2)))] ++ [(am 4, .inl (G.2 0, 54, .inl (row r4)))])) := by
  refine x_openi (by decide) (Nat.le_of_ble_eq_true rfl) (fun _ _ _ => rfl) ?_
  intro p e s m args below meth c A Q ls C0 hK hP hD hA hl hret
  obtain ⟨hx, hb, hml, hown, hts⟩ := id C0
  have hS : va_S A s.heap s.heap [] := va_S.rf
  have hP : va_P G.1 vwCl (wM G am ho rn ln pl sd lt ro rf nb ++ [(am 1, .inl (G.2 0, 54, .inl (row r)))] ++ [(am 2, .inl (G.2 0, 54, .inl (row rm)))] ++ [(am 3, .inl (G.2 0, 54, .inl (row r2)))] ++ [(am 4, .inl (G.2 0, 54, .inl (row r4)))]) s.heap := hP
  have hD : va_D A (wM G am ho rn ln pl sd lt ro rf nb ++ [(am 1, .inl (G.2 0, 54, .inl (row r)))] ++ [(am 2, .inl (G.2 0, 54, .inl (row rm)))] ++ [(am 3, .inl (G.2 0, 54, .inl (row r2)))] ++ [(am 4, .inl (G.2 0, 54, .inl (row r4)))]) := hD
  have hl : lv_has ls 6 [(0, .ref (am 0)), (1, .int mi)] := hl
  have hr0 := hr.n
  have hN := hr.le
  refine lv_iload_n hx hb dX9_key_0 rfl (lv_at hl 1 rfl) ?_
  refine lv_bipush (v := 99) hx hb dX9_key_1 (by decide) ?_
  refine x_Si (wN := fun _ => (wM G am ho rn ln pl sd lt ro rf nb ++ [(am 1, .inl (G.2 0, 54, .inl (row r)))] ++ [(am 2, .inl (G.2 0, 54, .inl (row rm)))] ++ [(am 3, .inl (G.2 0, 54, .inl (row r2)))] ++ [(am 4, .inl (G.2 0, 54, .inl (row r4)))])) ⟨C0, hK, hP, hD, hS, hA⟩ ((m9_wrongBy l G mi 99)) (va_cwS 2 hts (lw_S q1302 q1303 q95 q1304) rfl rfl rfl (by decide +kernel) ⟨Nat.le_of_ble_eq_true rfl, Nat.le_of_ble_eq_true rfl⟩) [] [0, 2, 4, 6, 8, 10, 12, 14, 16] rfl (fun _ => rfl) rfl rfl hl.1 rfl (Nat.le_of_ble_eq_true rfl) dX9_key_3 ⟨(Nat.le_of_ble_eq_true rfl), (Nat.le_of_ble_eq_true rfl)⟩ (fun r_1 u_1 H locs hw_1 hP hD hS => ?_)
  have hw_1 : r_1 = wBy mi.toInt 0 99 := hw_1.trans rfl
  have hw_1 : (wBy mi.toInt 0 99 : Int32) = r_1 := hw_1.symm
  subst hw_1
  refine lv_istore_n (lv' := [(2, .int (wBy mi.toInt 0 99)), (0, .ref (am 0)), (1, .int mi)]) hx hb dX9_key_6 rfl hl (by decide) rfl (fun ls hl => ?_)
  refine lv_iload_n hx hb dX9_key_7 rfl (lv_at hl 0 rfl) ?_
  refine lv_if_eq (tgt := 17) hx hb dX9_key_8 (by decide) (fun c_2 => ?_) (fun c_2 => ?_)
  · skip
    obtain ⟨hj_mi, et_mi⟩ := wB_ix (n := 99) (by omega) (show wBy mi.toInt 0 99 = 0 from c_2)
    rw [et_mi] at hl
    refine lv_bipush (v := (-9)) hx hb dX9_key_17 (by decide) ?_
    refine lv_istore_n (lv' := [(3, .int (-9)), (2, .int (wBy (nI (ix mi)).toInt 0 99)), (0, .ref (am 0)), (1, .int (nI (ix mi)))]) hx hb dX9_key_19 rfl hl (by decide) rfl (fun ls hl => ?_)
    refine lv_ldc (v := 1000000000) hx hb hown (hts _ q1353) dX9_key_20 ?_
    refine lv_istore (lv' := [(4, .int 1000000000), (3, .int (-9)), (2, .int (wBy (nI (ix mi)).toInt 0 99)), (0, .ref (am 0)), (1, .int (nI (ix mi)))]) hx hb dX9_key_22 hl (by decide) rfl (fun ls hl => ?_)
    refine lv_iconst (v := 0) hx hb dX9_key_24 (by decide) ?_
    refine lv_istore (lv' := [(5, .int 0), (4, .int 1000000000), (3, .int (-9)), (2, .int (wBy (nI (ix mi)).toInt 0 99)), (0, .ref (am 0)), (1, .int (nI (ix mi)))]) hx hb dX9_key_25 hl (by decide) rfl (fun ls hl => ?_)
    have loop_27 : ∀ (n : Nat) (i : Nat) (q9 : Rw), (i ≤ mny r) → (mny r < i + n) → ∀ (H : Heap) (locs : List Loc) (ls : Array Slot), va_P G.1 vwCl (wM G am ho rn ln pl sd lt ro rf nb ++ [(am 1, .inl (G.2 0, 54, .inl (row r)))] ++ [(am 2, .inl (G.2 0, 54, .inl (row q9)))] ++ [(am 3, .inl (G.2 0, 54, .inl (row r2)))] ++ [(am 4, .inl (G.2 0, 54, .inl (row r4)))]) H → va_D A (wM G am ho rn ln pl sd lt ro rf nb ++ [(am 1, .inl (G.2 0, 54, .inl (row r)))] ++ [(am 2, .inl (G.2 0, 54, .inl (row q9)))] ++ [(am 3, .inl (G.2 0, 54, .inl (row r2)))] ++ [(am 4, .inl (G.2 0, 54, .inl (row r4)))]) → va_S A s.heap H locs → lv_has ls 6 [(5, .int (nI i)), (4, .int (kB9 (pKy r (ix mi) i).2)), (3, .int ((pKy r (ix mi) i).1)), (2, .int (wBy (nI (ix mi)).toInt 0 99)), (0, .ref (am 0)), (1, .int (nI (ix mi)))] → W p l e ({ frames := 5, cells := 0, slots := 0, locals := 114 } : Room) s m args below meth c H locs 0 0 Q (F0 m 27 ls []) := by
      intro n
      induction n with
      | zero => intro i q9 hi27_0 hi27_1; exact absurd hi27_1 (by omega)
      | succ n ih_27 =>
        intro i q9 hi27_0 hi27_1 H locs ls hP hD hS hl
        refine lv_iload hx hb dX9_key_27 (lv_at hl 0 rfl) ?_
        refine lv_aload_n hx hb dX9_key_29 rfl (lv_at hl 4 rfl) ?_
        refine va_get (D := G.1) (ci := 8) (v := .ref (am 1)) (C := RX9) (T := TX9) (N := 13) hx hb hts in_X9 hown hK.1 hP 0 rfl rfl 0 (by decide) (hts _ q1162) (fun _ h9 => h9) rfl dX9_key_30 ?_
        refine lv_iconst (v := 0) hx hb dX9_key_33 (by decide) ?_
        refine x_ialdn (k := 0) hx hb hK.1 hP 5 0 rfl rfl (by decide) (by decide) (v := nI (mny r)) (hr0) dX9_key_34 ?_
        refine lv_icmp_ge (tgt := 87) hx hb dX9_key_35 (by decide) (fun c_3 => ?_) (fun c_3 => ?_)
        · skip
          have g_3 := (nI_leI (by omega) (by omega)).mp c_3
          refine lv_iload_n hx hb dX9_key_87 rfl (lv_at hl 2 rfl) ?_
          have hE : eW (wBy mi.toInt 0 99) 0 = 0 := by rw [eW_0 c_2]
          have hP : va_P G.1 vwCl (wM G am ho rn ln pl sd lt ro (sel (eW (wBy mi.toInt 0 99) 0) rf (rfU rf (eW (wBy mi.toInt 0 99) 0))) nb ++ [(am 1, .inl (G.2 0, 54, .inl (row r)))] ++ [(am 2, .inl (G.2 0, 54, .inl (row q9)))] ++ [(am 3, .inl (G.2 0, 54, .inl (row r2)))] ++ [(am 4, .inl (G.2 0, 54, .inl (row r4)))]) H := by rw [hE]; simp only [sel_0 rfl]; exact hP
          have hD : va_D A (wM G am ho rn ln pl sd lt ro (sel (eW (wBy mi.toInt 0 99) 0) rf (rfU rf (eW (wBy mi.toInt 0 99) 0))) nb ++ [(am 1, .inl (G.2 0, 54, .inl (row r)))] ++ [(am 2, .inl (G.2 0, 54, .inl (row q9)))] ++ [(am 3, .inl (G.2 0, 54, .inl (row r2)))] ++ [(am 4, .inl (G.2 0, 54, .inl (row r4)))]) := by rw [hE]; simp only [sel_0 rfl]; exact hD
          refine hret _ _ _ _ _ _ ((pKy r (ix mi) i).1) q9 dX9_key_88 ?_ hP hD hS (Nat.le_of_ble_eq_true rfl) (Nat.le_of_ble_eq_true rfl)
          rw [hE, sel_0 rfl]
          rw [show mny r = i by omega]
        · skip
          have g_3 := mt (nI_leI (by omega) (by omega)).mpr c_3
          refine lv_aload_n hx hb dX9_key_38 rfl (lv_at hl 4 rfl) ?_
          refine lv_iconst (v := 1) hx hb dX9_key_39 (by decide) ?_
          refine lv_iload hx hb dX9_key_40 (lv_at hl 0 rfl) ?_
          refine x_ishl hx hb dX9_key_42 (v := b1 i) rfl ?_
          refine x_Vi (wN := fun u_4 => (wM G am ho rn ln pl sd lt ro rf nb ++ [(am 1, .inl (G.2 0, 54, .inl (row r)))] ++ [(am 2, .inl (G.2 0, 54, .inl (row u_4)))] ++ [(am 3, .inl (G.2 0, 54, .inl (row r2)))] ++ [(am 4, .inl (G.2 0, 54, .inl (row r4)))])) ⟨C0, hK, hP, hD, hS, hA⟩ 0 rfl (ci := 8) rfl rfl ((m9_pullsSet l G am r q9 r2 r4 ho rn ln pl sd lt ro rf nb hr hp (b1 i))) (cwV 1 hts (lw_V q1382 q1384 qs80 q95 q1385) rfl rfl rfl (by decide +kernel) ⟨Nat.le_of_ble_eq_true rfl, Nat.le_of_ble_eq_true rfl⟩) [0, 1, 2, 3, 4, 5, 6, 7, 8] [1, 3, 5, 7, 9, 11, 13, 15, 17] rfl (fun _ => rfl) rfl rfl hl.1 rfl (Nat.le_of_ble_eq_true rfl) dX9_key_43 ⟨(Nat.le_of_ble_eq_true rfl), (Nat.le_of_ble_eq_true rfl)⟩ (fun r_4 u_4 H locs hw_4 hP hD hS => ?_)
          have hP : va_P G.1 vwCl (wM G am ho rn ln pl sd lt ro rf nb ++ [(am 1, .inl (G.2 0, 54, .inl (row r)))] ++ [(am 2, .inl (G.2 0, 54, .inl (row u_4)))] ++ [(am 3, .inl (G.2 0, 54, .inl (row r2)))] ++ [(am 4, .inl (G.2 0, 54, .inl (row r4)))]) H := hP
          have hD : va_D A (wM G am ho rn ln pl sd lt ro rf nb ++ [(am 1, .inl (G.2 0, 54, .inl (row r)))] ++ [(am 2, .inl (G.2 0, 54, .inl (row u_4)))] ++ [(am 3, .inl (G.2 0, 54, .inl (row r2)))] ++ [(am 4, .inl (G.2 0, 54, .inl (row r4)))]) := hD
          rcases hw_4 with ⟨er, hps⟩ | ⟨er, hps⟩
          · skip
            subst er
            obtain ⟨hst, hue⟩ := pPS_1s hN (show i < mny r by omega) hps
            subst hue
            have hP : va_P G.1 vwCl (wM G am ho rn ln pl sd lt ro rf nb ++ [(am 1, .inl (G.2 0, 54, .inl (row r)))] ++ [(am 2, .inl (G.2 0, 54, .inl (row (pPull r i 9))))] ++ [(am 3, .inl (G.2 0, 54, .inl (row r2)))] ++ [(am 4, .inl (G.2 0, 54, .inl (row r4)))]) H := hP
            have hD : va_D A (wM G am ho rn ln pl sd lt ro rf nb ++ [(am 1, .inl (G.2 0, 54, .inl (row r)))] ++ [(am 2, .inl (G.2 0, 54, .inl (row (pPull r i 9))))] ++ [(am 3, .inl (G.2 0, 54, .inl (row r2)))] ++ [(am 4, .inl (G.2 0, 54, .inl (row r4)))]) := hD
            refine lv_if_ne (tgt := 52) hx hb dX9_key_46 (by decide) (fun c_5 => ?_) (fun c_5 => ?_)
            · skip
              refine lv_aload_n hx hb dX9_key_52 rfl (lv_at hl 4 rfl) ?_
              refine va_get (D := G.1) (ci := 8) (v := .ref (am 2)) (C := RX9) (T := TX9) (N := 13) hx hb hts in_X9 hown hK.1 hP 0 rfl rfl 1 (by decide) (hts _ q1163) (fun _ h9 => h9) rfl dX9_key_53 ?_
              refine lv_iload_n hx hb dX9_key_56 rfl (lv_at hl 5 rfl) ?_
              refine x_Sv (wN := fun _ => (wM G am ho rn ln pl sd lt ro rf nb ++ [(am 1, .inl (G.2 0, 54, .inl (row r)))] ++ [(am 2, .inl (G.2 0, 54, .inl (row (pMins (pPull r i 9) (ix mi)))))] ++ [(am 3, .inl (G.2 0, 54, .inl (row r2)))] ++ [(am 4, .inl (G.2 0, 54, .inl (row r4)))])) ⟨C0, hK, hP, hD, hS, hA⟩ ((m9_minutesOn l G (am 2) (pPull r i 9) (Ok.pull hr) (ix mi) (by omega))) (va_cwS 2 hts (lw_S q1272 q1273 q95 q1274) rfl rfl rfl (by decide +kernel) ⟨Nat.le_of_ble_eq_true rfl, Nat.le_of_ble_eq_true rfl⟩) [6] [0, 2, 4, 6, 8, 10, 1, 14, 16] rfl (fun _ => rfl) rfl rfl hl.1 rfl (Nat.le_of_ble_eq_true rfl) dX9_key_57 ⟨(Nat.le_of_ble_eq_true rfl), (Nat.le_of_ble_eq_true rfl)⟩ (fun u_6 H locs hw_6 hP hD hS => ?_)
              have hP : va_P G.1 vwCl (wM G am ho rn ln pl sd lt ro rf nb ++ [(am 1, .inl (G.2 0, 54, .inl (row r)))] ++ [(am 2, .inl (G.2 0, 54, .inl (row (pMins (pPull r i 9) (ix mi)))))] ++ [(am 3, .inl (G.2 0, 54, .inl (row r2)))] ++ [(am 4, .inl (G.2 0, 54, .inl (row r4)))]) H := hP
              have hD : va_D A (wM G am ho rn ln pl sd lt ro rf nb ++ [(am 1, .inl (G.2 0, 54, .inl (row r)))] ++ [(am 2, .inl (G.2 0, 54, .inl (row (pMins (pPull r i 9) (ix mi)))))] ++ [(am 3, .inl (G.2 0, 54, .inl (row r2)))] ++ [(am 4, .inl (G.2 0, 54, .inl (row r4)))]) := hD
              refine lv_aload_n hx hb dX9_key_60 rfl (lv_at hl 4 rfl) ?_
              refine x_Vi (wN := fun _ => (wM G am ho rn ln pl sd lt ro rf nb ++ [(am 1, .inl (G.2 0, 54, .inl (row r)))] ++ [(am 2, .inl (G.2 0, 54, .inl (row (pMins (pPull r i 9) (ix mi)))))] ++ [(am 3, .inl (G.2 0, 54, .inl (row r2)))] ++ [(am 4, .inl (G.2 0, 54, .inl (row r4)))])) ⟨C0, hK, hP, hD, hS, hA⟩ 0 rfl (ci := 8) rfl rfl ((m9_standingIn l G am r (pMins (pPull r i 9) (ix mi)) r2 r4 ho rn ln pl sd lt ro rf nb hr hp (Ok.mins (Ok.pull hr)))) (cwV 0 hts (lw_V q1333 q1335 qs76 q95 q1336) rfl rfl rfl (by decide +kernel) ⟨Nat.le_of_ble_eq_true rfl, Nat.le_of_ble_eq_true rfl⟩) [0, 1, 2, 3, 4, 5, 6, 7, 8] [1, 3, 5, 7, 9, 11, 13, 15, 17] rfl (fun _ => rfl) rfl rfl hl.1 rfl (Nat.le_of_ble_eq_true rfl) dX9_key_61 ⟨(Nat.le_of_ble_eq_true rfl), (Nat.le_of_ble_eq_true rfl)⟩ (fun r_7 u_7 H locs hw_7 hP hD hS => ?_)
              have hw_7 : (pStN (pMins (pPull r i 9) (ix mi)) : Int32) = r_7 := hw_7.symm
              subst hw_7
              refine lv_iload hx hb dX9_key_64 (lv_at hl 1 rfl) ?_
              refine lv_icmp_lt (tgt := 72) hx hb dX9_key_66 (by decide) (fun c_8 => ?_) (fun c_8 => ?_)
              · skip
                refine lv_iload hx hb dX9_key_72 (lv_at hl 0 rfl) ?_
                have hlt := (kB_lt (n := ix mi) (i := i) hN).mp c_8
                rw [show (nI i : Int32) = (pKy r (ix mi) (i + 1)).1 from (by rw [pKy_1 hst, if_pos hlt])]
                refine lv_istore_n (lv' := [(3, .int ((pKy r (ix mi) (i + 1)).1)), (5, .int (nI i)), (4, .int (kB9 (pKy r (ix mi) i).2)), (2, .int (wBy (nI (ix mi)).toInt 0 99)), (0, .ref (am 0)), (1, .int (nI (ix mi)))]) hx hb dX9_key_74 rfl hl (by decide) rfl (fun ls hl => ?_)
                refine lv_aload_n hx hb dX9_key_75 rfl (lv_at hl 4 rfl) ?_
                refine x_Vi (wN := fun _ => (wM G am ho rn ln pl sd lt ro rf nb ++ [(am 1, .inl (G.2 0, 54, .inl (row r)))] ++ [(am 2, .inl (G.2 0, 54, .inl (row (pMins (pPull r i 9) (ix mi)))))] ++ [(am 3, .inl (G.2 0, 54, .inl (row r2)))] ++ [(am 4, .inl (G.2 0, 54, .inl (row r4)))])) ⟨C0, hK, hP, hD, hS, hA⟩ 0 rfl (ci := 8) rfl rfl ((m9_standingIn l G am r (pMins (pPull r i 9) (ix mi)) r2 r4 ho rn ln pl sd lt ro rf nb hr hp (Ok.mins (Ok.pull hr)))) (cwV 0 hts (lw_V q1333 q1335 qs76 q95 q1336) rfl rfl rfl (by decide +kernel) ⟨Nat.le_of_ble_eq_true rfl, Nat.le_of_ble_eq_true rfl⟩) [0, 1, 2, 3, 4, 5, 6, 7, 8] [1, 3, 5, 7, 9, 11, 13, 15, 17] rfl (fun _ => rfl) rfl rfl hl.1 rfl (Nat.le_of_ble_eq_true rfl) dX9_key_76 ⟨(Nat.le_of_ble_eq_true rfl), (Nat.le_of_ble_eq_true rfl)⟩ (fun r_9 u_9 H locs hw_9 hP hD hS => ?_)
                have hw_9 : (pStN (pMins (pPull r i 9) (ix mi)) : Int32) = r_9 := hw_9.symm
                subst hw_9
                rw [show (pStN (pMins (pPull r i 9) (ix mi)) : Int32) = kB9 (pKy r (ix mi) (i + 1)).2 from (by rw [pKy_2 hst, if_pos hlt, kB_v hN]; rfl)]
                refine lv_istore (lv' := [(4, .int (kB9 (pKy r (ix mi) (i + 1)).2)), (3, .int ((pKy r (ix mi) (i + 1)).1)), (5, .int (nI i)), (2, .int (wBy (nI (ix mi)).toInt 0 99)), (0, .ref (am 0)), (1, .int (nI (ix mi)))]) hx hb dX9_key_79 hl (by decide) rfl (fun ls hl => ?_)
                refine lv_iinc (v := nI (i + 1)) (lv' := [(5, .int (nI (i + 1))), (4, .int (kB9 (pKy r (ix mi) (i + 1)).2)), (3, .int ((pKy r (ix mi) (i + 1)).1)), (2, .int (wBy (nI (ix mi)).toInt 0 99)), (0, .ref (am 0)), (1, .int (nI (ix mi)))]) hx hb dX9_key_81 hl (k := 2) rfl (x_inc1 _) (by decide) rfl (fun ls hl => ?_)
                refine lv_goto (tgt := 27) hx hb dX9_key_84 (by decide) ?_
                exact ih_27 (i + 1) _ (by omega) (by omega) _ _ _ hP hD hS (lv_sub hl [0, 1, 2, 3, 4, 5] rfl)
              · skip
                refine lv_goto (tgt := 81) hx hb dX9_key_69 (by decide) ?_
                refine lv_iinc (v := nI (i + 1)) (lv' := [(5, .int (nI (i + 1))), (4, .int (kB9 (pKy r (ix mi) i).2)), (3, .int ((pKy r (ix mi) i).1)), (2, .int (wBy (nI (ix mi)).toInt 0 99)), (0, .ref (am 0)), (1, .int (nI (ix mi)))]) hx hb dX9_key_81 hl (k := 0) rfl (x_inc1 _) (by decide) rfl (fun ls hl => ?_)
                refine lv_goto (tgt := 27) hx hb dX9_key_84 (by decide) ?_
                have e8 : pKy r (ix mi) (i + 1) = pKy r (ix mi) i := by rw [pKy_y hst, if_neg (mt (kB_lt hN).mpr c_8), if_neg (mt (kB_lt hN).mpr c_8)]
                rw [← e8] at hl
                exact ih_27 (i + 1) _ (by omega) (by omega) _ _ _ hP hD hS (lv_sub hl [0, 1, 2, 3, 4, 5] rfl)
            · skip
              exact absurd c_5 (by decide)
          · skip
            subst er
            have hst := pPS_1n hN (show i < mny r by omega) hps
            refine lv_if_ne (tgt := 52) hx hb dX9_key_46 (by decide) (fun c_10 => ?_) (fun c_10 => ?_)
            · skip
              exact absurd c_10 (by decide)
            · skip
              refine lv_goto (tgt := 81) hx hb dX9_key_49 (by decide) ?_
              refine lv_iinc (v := nI (i + 1)) (lv' := [(5, .int (nI (i + 1))), (4, .int (kB9 (pKy r (ix mi) i).2)), (3, .int ((pKy r (ix mi) i).1)), (2, .int (wBy (nI (ix mi)).toInt 0 99)), (0, .ref (am 0)), (1, .int (nI (ix mi)))]) hx hb dX9_key_81 hl (k := 0) rfl (x_inc1 _) (by decide) rfl (fun ls hl => ?_)
              refine lv_goto (tgt := 27) hx hb dX9_key_84 (by decide) ?_
              rw [← pKy_n hst] at hl
              exact ih_27 (i + 1) _ (by omega) (by omega) _ _ _ hP hD hS (lv_sub hl [0, 1, 2, 3, 4, 5] rfl)
    exact loop_27 (mny r + 1) 0 _ (by omega) (by omega) _ _ _ hP hD hS (lv_sub hl [0, 1, 2, 3, 4, 5] rfl)
  · skip
    refine lv_aload_n hx hb dX9_key_11 rfl (lv_at hl 1 rfl) ?_
    refine lv_iload_n hx hb dX9_key_12 rfl (lv_at hl 0 rfl) ?_
    refine x_Vi (wN := fun _ => (wM G am ho rn ln pl sd lt ro (rfU rf (wBy mi.toInt 0 99)) nb ++ [(am 1, .inl (G.2 0, 54, .inl (row r)))] ++ [(am 2, .inl (G.2 0, 54, .inl (row rm)))] ++ [(am 3, .inl (G.2 0, 54, .inl (row r2)))] ++ [(am 4, .inl (G.2 0, 54, .inl (row r4)))])) ⟨C0, hK, hP, hD, hS, hA⟩ 0 rfl (ci := 8) rfl rfl ((m9_no l G am ho rn ln pl sd lt ro rf nb (wBy mi.toInt 0 99) (cOk.no cOk_WW c_2))) (cwV 1 hts (lw_V q1206 q1208 qs66 q95 q1209) rfl rfl rfl (by decide +kernel) ⟨Nat.le_of_ble_eq_true rfl, Nat.le_of_ble_eq_true rfl⟩) [0, 1, 2, 3, 4] [1, 3, 5, 7, 9, 10, 12, 14, 16] rfl (fun _ => rfl) rfl rfl hl.1 rfl (Nat.le_of_ble_eq_true rfl) dX9_key_13 ⟨(Nat.le_of_ble_eq_true rfl), (Nat.le_of_ble_eq_true rfl)⟩ (fun r_11 u_11 H locs hw_11 hP hD hS => ?_)
    have hw_11 : (wBy mi.toInt 0 99 : Int32) = r_11 := hw_11.symm
    subst hw_11
    have hP : va_P G.1 vwCl (wM G am ho rn ln pl sd lt ro (rfU rf (wBy mi.toInt 0 99)) nb ++ [(am 1, .inl (G.2 0, 54, .inl (row r)))] ++ [(am 2, .inl (G.2 0, 54, .inl (row rm)))] ++ [(am 3, .inl (G.2 0, 54, .inl (row r2)))] ++ [(am 4, .inl (G.2 0, 54, .inl (row r4)))]) H := hP
    have hD : va_D A (wM G am ho rn ln pl sd lt ro (rfU rf (wBy mi.toInt 0 99)) nb ++ [(am 1, .inl (G.2 0, 54, .inl (row r)))] ++ [(am 2, .inl (G.2 0, 54, .inl (row rm)))] ++ [(am 3, .inl (G.2 0, 54, .inl (row r2)))] ++ [(am 4, .inl (G.2 0, 54, .inl (row r4)))]) := hD
    have hE : eW (wBy mi.toInt 0 99) 0 = wBy mi.toInt 0 99 := by rw [eW_n c_2]
    have hne : (wBy mi.toInt 0 99 : Int32) ≠ 0 := c_2
    have hP : va_P G.1 vwCl (wM G am ho rn ln pl sd lt ro (sel (eW (wBy mi.toInt 0 99) 0) rf (rfU rf (eW (wBy mi.toInt 0 99) 0))) nb ++ [(am 1, .inl (G.2 0, 54, .inl (row r)))] ++ [(am 2, .inl (G.2 0, 54, .inl (row rm)))] ++ [(am 3, .inl (G.2 0, 54, .inl (row r2)))] ++ [(am 4, .inl (G.2 0, 54, .inl (row r4)))]) H := by rw [hE]; simp only [sel_n hne]; exact hP
    have hD : va_D A (wM G am ho rn ln pl sd lt ro (sel (eW (wBy mi.toInt 0 99) 0) rf (rfU rf (eW (wBy mi.toInt 0 99) 0))) nb ++ [(am 1, .inl (G.2 0, 54, .inl (row r)))] ++ [(am 2, .inl (G.2 0, 54, .inl (row rm)))] ++ [(am 3, .inl (G.2 0, 54, .inl (row r2)))] ++ [(am 4, .inl (G.2 0, 54, .inl (row r4)))]) := by rw [hE]; simp only [sel_n hne]; exact hD
    refine hret _ _ _ _ _ _ (wBy mi.toInt 0 99) rm dX9_key_16 ?_ hP hD hS (Nat.le_of_ble_eq_true rfl) (Nat.le_of_ble_eq_true rfl)
    rw [hE, sel_n hne]
theorem pr_y {r : Rw} {n k : Nat} (hs : sub k (pW r) = true) (h : pSet (pMins (pPrS r k) n) 0 = nI (pW r)) : pPrP r n k = true := by unfold pPrP; rw [hs, decide_eq_true h]; rfl
theorem pr_n {r : Rw} {n k : Nat} (h : ¬ pSet (pMins (pPrS r k) n) 0 = nI (pW r)) : pPrP r n k = false := by unfold pPrP; rw [decide_eq_false h]; simp
theorem pr_s {r : Rw} {n k : Nat} (h : ¬ sub k (pW r) = true) : pPrP r n k = false := by
  have h : sub k (pW r) = false := by simpa using h
  unfold pPrP; rw [h]; rfl
theorem wP_lt {a b : Nat} : wP a < wP b ↔ pc b < pc a := by
  have h1 := pc_le a
  have h2 := pc_le b
  unfold wP
  omega
set_option maxHeartbeats 4000000 in
set_option maxRecDepth 100000 in
theorem n_prop (l : Launch) (G : xG) (am : Nat → Nat) (r rm r2 r4 : Rw) (ho rn ln pl sd : Int32) (lt ro rf nb : Nat → Int32) (hr : Ok r) (hp : r 5 3 = 0) (mi : Int32) : xCi l G yX9_prop cX9_prop 6 (some .int) ({ frames := 5, cells := 0, slots := 0, locals := 110 } : Room) [.ref (am 0), .int mi] (wM G am ho rn ln pl sd lt ro rf nb ++ [(am 1, .inl (G.2 0, 54, .inl (row r)))] ++ [(am 2, .inl (G.2 0, 54, .inl (row rm)))] ++ [(am 3, .inl (G.2 0, 54, .inl (row r2)))] ++ [(am 4, .inl (G.2 0, 54, .inl (row r4)))]) (S := Rw) (fun v _ => v = sel (eW (wBy mi.toInt 0 99) 0) (nI (pProp r (ix mi))) (eW (wBy mi.toInt 0 99) 0)) (fun u => (wM G am ho rn ln pl sd lt ro (sel (eW (wBy mi.toInt 0 99) 0) rf (rfU rf (eW (wBy mi.toInt 0 99) 0))) nb ++ [(am 1, .inl (G.2 0, 54, .inl (row r)))] ++ [(am 2, .inl (G.2 0, 54, .inl (row u)))] ++ [(am 3, .inl (G.2 0, 54, .inl (row r2)))] ++ [(am 4, .inl (G.2 0, 54, .inl (row r4)))])) := by
  refine x_openi (by decide) (Nat.le_of_ble_eq_true rfl) (fun _ _ _ => rfl) ?_
  intro p e s m args below meth c A Q ls C0 hK hP hD hA hl hret
  obtain ⟨hx, hb, hml, hown, hts⟩ := id C0
  have hS : va_S A s.heap s.heap [] := va_S.rf
  have hP : va_P G.1 vwCl (wM G am ho rn ln pl sd lt ro rf nb ++ [(am 1, .inl (G.2 0, 54, .inl (row r)))] ++ [(am 2, .inl (G.2 0, 54, .inl (row rm)))] ++ [(am 3, .inl (G.2 0, 54, .inl (row r2)))] ++ [(am 4, .inl (G.2 0, 54, .inl (row r4)))]) s.heap := hP
  have hD : va_D A (wM G am ho rn ln pl sd lt ro rf nb ++ [(am 1, .inl (G.2 0, 54, .inl (row r)))] ++ [(am 2, .inl (G.2 0, 54, .inl (row rm)))] ++ [(am 3, .inl (G.2 0, 54, .inl (row r2)))] ++ [(am 4, .inl (G.2 0, 54, .inl (row r4)))]) := hD
  have hl : lv_has ls 6 [(0, .ref (am 0)), (1, .int mi)] := hl
  have hr0 := hr.n
  have hN := hr.le
  have hW : pW r < 1024 := bn_1024 hN
  refine lv_iload_n hx hb dX9_prop_0 rfl (lv_at hl 1 rfl) ?_
  refine lv_bipush (v := 99) hx hb dX9_prop_1 (by decide) ?_
  refine x_Si (wN := fun _ => (wM G am ho rn ln pl sd lt ro rf nb ++ [(am 1, .inl (G.2 0, 54, .inl (row r)))] ++ [(am 2, .inl (G.2 0, 54, .inl (row rm)))] ++ [(am 3, .inl (G.2 0, 54, .inl (row r2)))] ++ [(am 4, .inl (G.2 0, 54, .inl (row r4)))])) ⟨C0, hK, hP, hD, hS, hA⟩ ((m9_wrongBy l G mi 99)) (va_cwS 2 hts (lw_S q1302 q1303 q95 q1304) rfl rfl rfl (by decide +kernel) ⟨Nat.le_of_ble_eq_true rfl, Nat.le_of_ble_eq_true rfl⟩) [] [0, 2, 4, 6, 8, 10, 12, 14, 16] rfl (fun _ => rfl) rfl rfl hl.1 rfl (Nat.le_of_ble_eq_true rfl) dX9_prop_3 ⟨(Nat.le_of_ble_eq_true rfl), (Nat.le_of_ble_eq_true rfl)⟩ (fun r_1 u_1 H locs hw_1 hP hD hS => ?_)
  have hw_1 : r_1 = wBy mi.toInt 0 99 := hw_1.trans rfl
  have hw_1 : (wBy mi.toInt 0 99 : Int32) = r_1 := hw_1.symm
  subst hw_1
  refine lv_istore_n (lv' := [(2, .int (wBy mi.toInt 0 99)), (0, .ref (am 0)), (1, .int mi)]) hx hb dX9_prop_6 rfl hl (by decide) rfl (fun ls hl => ?_)
  refine lv_iload_n hx hb dX9_prop_7 rfl (lv_at hl 0 rfl) ?_
  refine lv_if_eq (tgt := 17) hx hb dX9_prop_8 (by decide) (fun c_2 => ?_) (fun c_2 => ?_)
  · skip
    obtain ⟨hj_mi, et_mi⟩ := wB_ix (n := 99) (by omega) (show wBy mi.toInt 0 99 = 0 from c_2)
    rw [et_mi] at hl
    refine lv_aload_n hx hb dX9_prop_17 rfl (lv_at hl 1 rfl) ?_
    refine va_get (D := G.1) (ci := 8) (v := .ref (am 1)) (C := RX9) (T := TX9) (N := 13) hx hb hts in_X9 hown hK.1 hP 0 rfl rfl 0 (by decide) (hts _ q1162) (fun _ h9 => h9) rfl dX9_prop_18 ?_
    refine lv_iconst (v := 0) hx hb dX9_prop_21 (by decide) ?_
    refine x_Si (wN := fun _ => (wM G am ho rn ln pl sd lt ro rf nb ++ [(am 1, .inl (G.2 0, 54, .inl (row r)))] ++ [(am 2, .inl (G.2 0, 54, .inl (row rm)))] ++ [(am 3, .inl (G.2 0, 54, .inl (row r2)))] ++ [(am 4, .inl (G.2 0, 54, .inl (row r4)))])) ⟨C0, hK, hP, hD, hS, hA⟩ ((m9_setOf l G (am 1) r hr 0)) (va_cwS 2 hts (lw_S q1281 q1282 q95 q1283) rfl rfl rfl (by decide +kernel) ⟨Nat.le_of_ble_eq_true rfl, Nat.le_of_ble_eq_true rfl⟩) [5] [0, 2, 4, 6, 8, 1, 12, 14, 16] rfl (fun _ => rfl) rfl rfl hl.1 rfl (Nat.le_of_ble_eq_true rfl) dX9_prop_22 ⟨(Nat.le_of_ble_eq_true rfl), (Nat.le_of_ble_eq_true rfl)⟩ (fun r_3 u_3 H locs hw_3 hP hD hS => ?_)
    have hw_3 : (pSet r 0 : Int32) = r_3 := hw_3.symm
    subst hw_3
    rw [show (pSet r 0 : Int32) = nI (pW r) from (pSet_bn hN)]
    refine lv_istore_n (lv' := [(3, .int (nI (pW r))), (2, .int (wBy (nI (ix mi)).toInt 0 99)), (0, .ref (am 0)), (1, .int (nI (ix mi)))]) hx hb dX9_prop_25 rfl hl (by decide) rfl (fun ls hl => ?_)
    refine lv_iload_n hx hb dX9_prop_26 rfl (lv_at hl 0 rfl) ?_
    refine lv_istore (lv' := [(4, .int (nI (pW r))), (3, .int (nI (pW r))), (2, .int (wBy (nI (ix mi)).toInt 0 99)), (0, .ref (am 0)), (1, .int (nI (ix mi)))]) hx hb dX9_prop_27 hl (by decide) rfl (fun ls hl => ?_)
    refine lv_iconst (v := 0) hx hb dX9_prop_29 (by decide) ?_
    refine lv_istore (lv' := [(5, .int 0), (4, .int (nI (pW r))), (3, .int (nI (pW r))), (2, .int (wBy (nI (ix mi)).toInt 0 99)), (0, .ref (am 0)), (1, .int (nI (ix mi)))]) hx hb dX9_prop_30 hl (by decide) rfl (fun ls hl => ?_)
    have loop_32 : ∀ (n : Nat) (k : Nat) (b : Option Nat) (q9 : Rw), (k ≤ pW r) → (pW r < k + n) → (bst wP (pPrP r (ix mi)) k = b) → (b.getD (pW r) < 1024) → ∀ (H : Heap) (locs : List Loc) (ls : Array Slot), va_P G.1 vwCl (wM G am ho rn ln pl sd lt ro rf nb ++ [(am 1, .inl (G.2 0, 54, .inl (row r)))] ++ [(am 2, .inl (G.2 0, 54, .inl (row q9)))] ++ [(am 3, .inl (G.2 0, 54, .inl (row r2)))] ++ [(am 4, .inl (G.2 0, 54, .inl (row r4)))]) H → va_D A (wM G am ho rn ln pl sd lt ro rf nb ++ [(am 1, .inl (G.2 0, 54, .inl (row r)))] ++ [(am 2, .inl (G.2 0, 54, .inl (row q9)))] ++ [(am 3, .inl (G.2 0, 54, .inl (row r2)))] ++ [(am 4, .inl (G.2 0, 54, .inl (row r4)))]) → va_S A s.heap H locs → lv_has ls 6 [(5, .int (nI k)), (4, .int (nI (b.getD (pW r)))), (3, .int (nI (pW r))), (2, .int (wBy (nI (ix mi)).toInt 0 99)), (0, .ref (am 0)), (1, .int (nI (ix mi)))] → W p l e ({ frames := 5, cells := 0, slots := 0, locals := 110 } : Room) s m args below meth c H locs 0 0 Q (F0 m 32 ls []) := by
      intro n
      induction n with
      | zero => intro k b q9 hi32_0 hi32_1 hi32_2 hi32_3; exact absurd hi32_1 (by omega)
      | succ n ih_32 =>
        intro k b q9 hi32_0 hi32_1 hi32_2 hi32_3 H locs ls hP hD hS hl
        refine lv_iload hx hb dX9_prop_32 (lv_at hl 0 rfl) ?_
        refine lv_iload_n hx hb dX9_prop_34 rfl (lv_at hl 2 rfl) ?_
        refine lv_icmp_ge (tgt := 112) hx hb dX9_prop_35 (by decide) (fun c_4 => ?_) (fun c_4 => ?_)
        · skip
          have g_4 := (nI_leI (by omega) (by omega)).mp c_4
          refine lv_iload hx hb dX9_prop_112 (lv_at hl 1 rfl) ?_
          have hE : eW (wBy mi.toInt 0 99) 0 = 0 := by rw [eW_0 c_2]
          have hP : va_P G.1 vwCl (wM G am ho rn ln pl sd lt ro (sel (eW (wBy mi.toInt 0 99) 0) rf (rfU rf (eW (wBy mi.toInt 0 99) 0))) nb ++ [(am 1, .inl (G.2 0, 54, .inl (row r)))] ++ [(am 2, .inl (G.2 0, 54, .inl (row q9)))] ++ [(am 3, .inl (G.2 0, 54, .inl (row r2)))] ++ [(am 4, .inl (G.2 0, 54, .inl (row r4)))]) H := by rw [hE]; simp only [sel_0 rfl]; exact hP
          have hD : va_D A (wM G am ho rn ln pl sd lt ro (sel (eW (wBy mi.toInt 0 99) 0) rf (rfU rf (eW (wBy mi.toInt 0 99) 0))) nb ++ [(am 1, .inl (G.2 0, 54, .inl (row r)))] ++ [(am 2, .inl (G.2 0, 54, .inl (row q9)))] ++ [(am 3, .inl (G.2 0, 54, .inl (row r2)))] ++ [(am 4, .inl (G.2 0, 54, .inl (row r4)))]) := by rw [hE]; simp only [sel_0 rfl]; exact hD
          refine hret _ _ _ _ _ _ (nI (b.getD (pW r))) q9 dX9_prop_114 ?_ hP hD hS (Nat.le_of_ble_eq_true rfl) (Nat.le_of_ble_eq_true rfl)
          rw [hE, sel_0 rfl]
          have ek : k = pW r := by omega
          subst ek
          show nI (b.getD (pW r)) = nI ((bst wP (pPrP r (ix mi)) (pW r)).getD (pW r))
          rw [hi32_2]
        · skip
          have g_4 := mt (nI_leI (by omega) (by omega)).mpr c_4
          refine lv_iload hx hb dX9_prop_38 (lv_at hl 0 rfl) ?_
          refine lv_iload_n hx hb dX9_prop_40 rfl (lv_at hl 2 rfl) ?_
          refine lv_iconst (v := (-1)) hx hb dX9_prop_41 (by decide) ?_
          refine x_ixor hx hb dX9_prop_42 (v := (nI (pW r)) ^^^ (-1)) rfl ?_
          refine x_iand hx hb dX9_prop_43 (v := (nI k) &&& ((nI (pW r)) ^^^ (-1))) rfl ?_
          refine lv_if_ne (tgt := 106) hx hb dX9_prop_44 (by decide) (fun c_5 => ?_) (fun c_5 => ?_)
          · skip
            refine lv_iinc (v := nI (k + 1)) (lv' := [(5, .int (nI (k + 1))), (4, .int (nI (b.getD (pW r)))), (3, .int (nI (pW r))), (2, .int (wBy (nI (ix mi)).toInt 0 99)), (0, .ref (am 0)), (1, .int (nI (ix mi)))]) hx hb dX9_prop_106 hl (k := 0) rfl (x_inc1 _) (by decide) rfl (fun ls hl => ?_)
            refine lv_goto (tgt := 32) hx hb dX9_prop_109 (by decide) ?_
            exact ih_32 (k + 1) b _ (by omega) (by omega) (by rw [bst_f (pr_s (mt (sub_i (a := k) (b := pW r) (by omega)).mpr c_5))]; exact hi32_2) hi32_3 _ _ _ hP hD hS (lv_sub hl [0, 1, 2, 3, 4, 5] rfl)
          · skip
            have hk9 := pc_le k
            have hx9 := pc_le (b.getD (pW r))
            refine lv_iload hx hb dX9_prop_47 (lv_at hl 0 rfl) ?_
            refine x_Si (wN := fun _ => (wM G am ho rn ln pl sd lt ro rf nb ++ [(am 1, .inl (G.2 0, 54, .inl (row r)))] ++ [(am 2, .inl (G.2 0, 54, .inl (row q9)))] ++ [(am 3, .inl (G.2 0, 54, .inl (row r2)))] ++ [(am 4, .inl (G.2 0, 54, .inl (row r4)))])) ⟨C0, hK, hP, hD, hS, hA⟩ ((m9_bits l G k (by omega))) (va_cwS 1 hts (lw_S q1269 q1270 q95 q1271) rfl rfl rfl (by decide +kernel) ⟨Nat.le_of_ble_eq_true rfl, Nat.le_of_ble_eq_true rfl⟩) [] [0, 2, 4, 6, 8, 10, 12, 14, 16] rfl (fun _ => rfl) rfl rfl hl.1 rfl (Nat.le_of_ble_eq_true rfl) dX9_prop_49 ⟨(Nat.le_of_ble_eq_true rfl), (Nat.le_of_ble_eq_true rfl)⟩ (fun r_6 u_6 H locs hw_6 hP hD hS => ?_)
            have hw_6 : (nI (pc k) : Int32) = r_6 := hw_6.symm
            subst hw_6
            refine lv_iload hx hb dX9_prop_52 (lv_at hl 1 rfl) ?_
            refine x_Si (wN := fun _ => (wM G am ho rn ln pl sd lt ro rf nb ++ [(am 1, .inl (G.2 0, 54, .inl (row r)))] ++ [(am 2, .inl (G.2 0, 54, .inl (row q9)))] ++ [(am 3, .inl (G.2 0, 54, .inl (row r2)))] ++ [(am 4, .inl (G.2 0, 54, .inl (row r4)))])) ⟨C0, hK, hP, hD, hS, hA⟩ ((m9_bits l G (b.getD (pW r)) (by omega))) (va_cwS 1 hts (lw_S q1269 q1270 q95 q1271) rfl rfl rfl (by decide +kernel) ⟨Nat.le_of_ble_eq_true rfl, Nat.le_of_ble_eq_true rfl⟩) [] [0, 2, 4, 6, 8, 10, 12, 14, 16] rfl (fun _ => rfl) rfl rfl hl.1 rfl (Nat.le_of_ble_eq_true rfl) dX9_prop_54 ⟨(Nat.le_of_ble_eq_true rfl), (Nat.le_of_ble_eq_true rfl)⟩ (fun r_7 u_7 H locs hw_7 hP hD hS => ?_)
            have hw_7 : (nI (pc (b.getD (pW r))) : Int32) = r_7 := hw_7.symm
            subst hw_7
            refine lv_icmp_lt (tgt := 63) hx hb dX9_prop_57 (by decide) (fun c_8 => ?_) (fun c_8 => ?_)
            · skip
              have g_8 := (nI_ltI (by omega) (by omega)).mp c_8
              refine lv_aload_n hx hb dX9_prop_63 rfl (lv_at hl 4 rfl) ?_
              refine va_get (D := G.1) (ci := 8) (v := .ref (am 1)) (C := RX9) (T := TX9) (N := 13) hx hb hts in_X9 hown hK.1 hP 0 rfl rfl 0 (by decide) (hts _ q1162) (fun _ h9 => h9) rfl dX9_prop_64 ?_
              refine lv_aload_n hx hb dX9_prop_67 rfl (lv_at hl 4 rfl) ?_
              refine va_get (D := G.1) (ci := 8) (v := .ref (am 2)) (C := RX9) (T := TX9) (N := 13) hx hb hts in_X9 hown hK.1 hP 0 rfl rfl 1 (by decide) (hts _ q1163) (fun _ h9 => h9) rfl dX9_prop_68 ?_
              refine x_Sv (wN := fun _ => (wM G am ho rn ln pl sd lt ro rf nb ++ [(am 1, .inl (G.2 0, 54, .inl (row r)))] ++ [(am 2, .inl (G.2 0, 54, .inl (row r)))] ++ [(am 3, .inl (G.2 0, 54, .inl (row r2)))] ++ [(am 4, .inl (G.2 0, 54, .inl (row r4)))])) ⟨C0, hK, hP, hD, hS, hA⟩ ((m9_copies l G (am 1) (am 2) (row r) (row q9))) (va_cwS 2 hts (lw_S q1236 q1237 q95 q1238) rfl rfl rfl (by decide +kernel) ⟨Nat.le_of_ble_eq_true rfl, Nat.le_of_ble_eq_true rfl⟩) [5, 6] [0, 2, 4, 6, 8, 1, 3, 14, 16] rfl (fun _ => rfl) rfl rfl hl.1 rfl (Nat.le_of_ble_eq_true rfl) dX9_prop_71 ⟨(Nat.le_of_ble_eq_true rfl), (Nat.le_of_ble_eq_true rfl)⟩ (fun u_9 H locs hw_9 hP hD hS => ?_)
              have hP : va_P G.1 vwCl (wM G am ho rn ln pl sd lt ro rf nb ++ [(am 1, .inl (G.2 0, 54, .inl (row r)))] ++ [(am 2, .inl (G.2 0, 54, .inl (row r)))] ++ [(am 3, .inl (G.2 0, 54, .inl (row r2)))] ++ [(am 4, .inl (G.2 0, 54, .inl (row r4)))]) H := hP
              have hD : va_D A (wM G am ho rn ln pl sd lt ro rf nb ++ [(am 1, .inl (G.2 0, 54, .inl (row r)))] ++ [(am 2, .inl (G.2 0, 54, .inl (row r)))] ++ [(am 3, .inl (G.2 0, 54, .inl (row r2)))] ++ [(am 4, .inl (G.2 0, 54, .inl (row r4)))]) := hD
              refine lv_aload_n hx hb dX9_prop_74 rfl (lv_at hl 4 rfl) ?_
              refine va_get (D := G.1) (ci := 8) (v := .ref (am 2)) (C := RX9) (T := TX9) (N := 13) hx hb hts in_X9 hown hK.1 hP 0 rfl rfl 1 (by decide) (hts _ q1163) (fun _ h9 => h9) rfl dX9_prop_75 ?_
              refine lv_iconst (v := 3) hx hb dX9_prop_78 (by decide) ?_
              refine lv_iload hx hb dX9_prop_79 (lv_at hl 0 rfl) ?_
              refine x_iastn (k := 3) hx hb hK.1 hP hD hS 6 0 rfl rfl (by decide) (by decide) (g := row (sf r 5 (upd (r 5) 3 (nI k)))) (row_uph _ (by decide) _) dX9_prop_81 (fun H locs hP hD hS => ?_)
              have hP : va_P G.1 vwCl (wM G am ho rn ln pl sd lt ro rf nb ++ [(am 1, .inl (G.2 0, 54, .inl (row r)))] ++ [(am 2, .inl (G.2 0, 54, .inl (row (sf r 5 (upd (r 5) 3 (nI k))))))] ++ [(am 3, .inl (G.2 0, 54, .inl (row r2)))] ++ [(am 4, .inl (G.2 0, 54, .inl (row r4)))]) H := hP
              have hD : va_D A (wM G am ho rn ln pl sd lt ro rf nb ++ [(am 1, .inl (G.2 0, 54, .inl (row r)))] ++ [(am 2, .inl (G.2 0, 54, .inl (row (sf r 5 (upd (r 5) 3 (nI k))))))] ++ [(am 3, .inl (G.2 0, 54, .inl (row r2)))] ++ [(am 4, .inl (G.2 0, 54, .inl (row r4)))]) := hD
              have hP : va_P G.1 vwCl (wM G am ho rn ln pl sd lt ro rf nb ++ [(am 1, .inl (G.2 0, 54, .inl (row r)))] ++ [(am 2, .inl (G.2 0, 54, .inl (row (pPrS r k))))] ++ [(am 3, .inl (G.2 0, 54, .inl (row r2)))] ++ [(am 4, .inl (G.2 0, 54, .inl (row r4)))]) H := hP
              have hD : va_D A (wM G am ho rn ln pl sd lt ro rf nb ++ [(am 1, .inl (G.2 0, 54, .inl (row r)))] ++ [(am 2, .inl (G.2 0, 54, .inl (row (pPrS r k))))] ++ [(am 3, .inl (G.2 0, 54, .inl (row r2)))] ++ [(am 4, .inl (G.2 0, 54, .inl (row r4)))]) := hD
              refine lv_aload_n hx hb dX9_prop_82 rfl (lv_at hl 4 rfl) ?_
              refine va_get (D := G.1) (ci := 8) (v := .ref (am 2)) (C := RX9) (T := TX9) (N := 13) hx hb hts in_X9 hown hK.1 hP 0 rfl rfl 1 (by decide) (hts _ q1163) (fun _ h9 => h9) rfl dX9_prop_83 ?_
              refine lv_iload_n hx hb dX9_prop_86 rfl (lv_at hl 5 rfl) ?_
              refine x_Sv (wN := fun _ => (wM G am ho rn ln pl sd lt ro rf nb ++ [(am 1, .inl (G.2 0, 54, .inl (row r)))] ++ [(am 2, .inl (G.2 0, 54, .inl (row (pMins (pPrS r k) (ix mi)))))] ++ [(am 3, .inl (G.2 0, 54, .inl (row r2)))] ++ [(am 4, .inl (G.2 0, 54, .inl (row r4)))])) ⟨C0, hK, hP, hD, hS, hA⟩ ((m9_minutesOn l G (am 2) (pPrS r k) (Ok.h3 hr) (ix mi) (by omega))) (va_cwS 2 hts (lw_S q1272 q1273 q95 q1274) rfl rfl rfl (by decide +kernel) ⟨Nat.le_of_ble_eq_true rfl, Nat.le_of_ble_eq_true rfl⟩) [6] [0, 2, 4, 6, 8, 10, 1, 14, 16] rfl (fun _ => rfl) rfl rfl hl.1 rfl (Nat.le_of_ble_eq_true rfl) dX9_prop_87 ⟨(Nat.le_of_ble_eq_true rfl), (Nat.le_of_ble_eq_true rfl)⟩ (fun u_10 H locs hw_10 hP hD hS => ?_)
              have hP : va_P G.1 vwCl (wM G am ho rn ln pl sd lt ro rf nb ++ [(am 1, .inl (G.2 0, 54, .inl (row r)))] ++ [(am 2, .inl (G.2 0, 54, .inl (row (pMins (pPrS r k) (ix mi)))))] ++ [(am 3, .inl (G.2 0, 54, .inl (row r2)))] ++ [(am 4, .inl (G.2 0, 54, .inl (row r4)))]) H := hP
              have hD : va_D A (wM G am ho rn ln pl sd lt ro rf nb ++ [(am 1, .inl (G.2 0, 54, .inl (row r)))] ++ [(am 2, .inl (G.2 0, 54, .inl (row (pMins (pPrS r k) (ix mi)))))] ++ [(am 3, .inl (G.2 0, 54, .inl (row r2)))] ++ [(am 4, .inl (G.2 0, 54, .inl (row r4)))]) := hD
              refine lv_aload_n hx hb dX9_prop_90 rfl (lv_at hl 4 rfl) ?_
              refine va_get (D := G.1) (ci := 8) (v := .ref (am 2)) (C := RX9) (T := TX9) (N := 13) hx hb hts in_X9 hown hK.1 hP 0 rfl rfl 1 (by decide) (hts _ q1163) (fun _ h9 => h9) rfl dX9_prop_91 ?_
              refine lv_iconst (v := 0) hx hb dX9_prop_94 (by decide) ?_
              refine x_Si (wN := fun _ => (wM G am ho rn ln pl sd lt ro rf nb ++ [(am 1, .inl (G.2 0, 54, .inl (row r)))] ++ [(am 2, .inl (G.2 0, 54, .inl (row (pMins (pPrS r k) (ix mi)))))] ++ [(am 3, .inl (G.2 0, 54, .inl (row r2)))] ++ [(am 4, .inl (G.2 0, 54, .inl (row r4)))])) ⟨C0, hK, hP, hD, hS, hA⟩ ((m9_setOf l G (am 2) (pMins (pPrS r k) (ix mi)) (Ok.mins (Ok.h3 hr)) 0)) (va_cwS 2 hts (lw_S q1281 q1282 q95 q1283) rfl rfl rfl (by decide +kernel) ⟨Nat.le_of_ble_eq_true rfl, Nat.le_of_ble_eq_true rfl⟩) [6] [0, 2, 4, 6, 8, 10, 1, 14, 16] rfl (fun _ => rfl) rfl rfl hl.1 rfl (Nat.le_of_ble_eq_true rfl) dX9_prop_95 ⟨(Nat.le_of_ble_eq_true rfl), (Nat.le_of_ble_eq_true rfl)⟩ (fun r_11 u_11 H locs hw_11 hP hD hS => ?_)
              have hw_11 : (pSet (pMins (pPrS r k) (ix mi)) 0 : Int32) = r_11 := hw_11.symm
              subst hw_11
              refine lv_iload_n hx hb dX9_prop_98 rfl (lv_at hl 2 rfl) ?_
              refine lv_icmp_ne (tgt := 106) hx hb dX9_prop_99 (by decide) (fun c_12 => ?_) (fun c_12 => ?_)
              · skip
                refine lv_iinc (v := nI (k + 1)) (lv' := [(5, .int (nI (k + 1))), (4, .int (nI (b.getD (pW r)))), (3, .int (nI (pW r))), (2, .int (wBy (nI (ix mi)).toInt 0 99)), (0, .ref (am 0)), (1, .int (nI (ix mi)))]) hx hb dX9_prop_106 hl (k := 0) rfl (x_inc1 _) (by decide) rfl (fun ls hl => ?_)
                refine lv_goto (tgt := 32) hx hb dX9_prop_109 (by decide) ?_
                exact ih_32 (k + 1) b _ (by omega) (by omega) (by rw [bst_f (pr_n c_12)]; exact hi32_2) hi32_3 _ _ _ hP hD hS (lv_sub hl [0, 1, 2, 3, 4, 5] rfl)
              · skip
                refine lv_iload hx hb dX9_prop_102 (lv_at hl 0 rfl) ?_
                refine lv_istore (lv' := [(4, .int (nI k)), (5, .int (nI k)), (3, .int (nI (pW r))), (2, .int (wBy (nI (ix mi)).toInt 0 99)), (0, .ref (am 0)), (1, .int (nI (ix mi)))]) hx hb dX9_prop_104 hl (by decide) rfl (fun ls hl => ?_)
                refine lv_iinc (v := nI (k + 1)) (lv' := [(5, .int (nI (k + 1))), (4, .int (nI k)), (3, .int (nI (pW r))), (2, .int (wBy (nI (ix mi)).toInt 0 99)), (0, .ref (am 0)), (1, .int (nI (ix mi)))]) hx hb dX9_prop_106 hl (k := 1) rfl (x_inc1 _) (by decide) rfl (fun ls hl => ?_)
                refine lv_goto (tgt := 32) hx hb dX9_prop_109 (by decide) ?_
                exact ih_32 (k + 1) (some k) _ (by omega) (by omega) (by cases b with | none => exact bst_y0 hi32_2 (pr_y ((sub_i (a := k) (b := pW r) (by omega)).mp c_5) c_12) | some x => exact bst_y1 hi32_2 (pr_y ((sub_i (a := k) (b := pW r) (by omega)).mp c_5) c_12) (wP_lt.mpr (show pc k < pc x from g_8))) (show k < 1024 by omega) _ _ _ hP hD hS (lv_sub hl [0, 1, 2, 3, 4, 5] rfl)
            · skip
              have g_8 := mt (nI_ltI (by omega) (by omega)).mpr c_8
              refine lv_goto (tgt := 106) hx hb dX9_prop_60 (by decide) ?_
              refine lv_iinc (v := nI (k + 1)) (lv' := [(5, .int (nI (k + 1))), (4, .int (nI (b.getD (pW r)))), (3, .int (nI (pW r))), (2, .int (wBy (nI (ix mi)).toInt 0 99)), (0, .ref (am 0)), (1, .int (nI (ix mi)))]) hx hb dX9_prop_106 hl (k := 0) rfl (x_inc1 _) (by decide) rfl (fun ls hl => ?_)
              refine lv_goto (tgt := 32) hx hb dX9_prop_109 (by decide) ?_
              have hks := ((sub_i (a := k) (b := pW r) (by omega)).mp c_5)
              exact ih_32 (k + 1) b _ (by omega) (by omega) (by cases b with | none => exact absurd (pc_ssub (show k < 1024 by omega) hW hks (by omega)) (show ¬ pc k < pc (pW r) from fun z => by have h9 : ¬ pc k < pc (pW r) := g_8; exact h9 z) | some x => exact bst_l hi32_2 (fun z => by have h9 : ¬ pc k < pc x := g_8; exact h9 (wP_lt.mp z))) hi32_3 _ _ _ hP hD hS (lv_sub hl [0, 1, 2, 3, 4, 5] rfl)
    exact loop_32 (pW r + 1) 0 none _ (by omega) (by omega) rfl hW _ _ _ hP hD hS (lv_sub hl [0, 1, 2, 3, 4, 5] rfl)
  · skip
    refine lv_aload_n hx hb dX9_prop_11 rfl (lv_at hl 1 rfl) ?_
    refine lv_iload_n hx hb dX9_prop_12 rfl (lv_at hl 0 rfl) ?_
    refine x_Vi (wN := fun _ => (wM G am ho rn ln pl sd lt ro (rfU rf (wBy mi.toInt 0 99)) nb ++ [(am 1, .inl (G.2 0, 54, .inl (row r)))] ++ [(am 2, .inl (G.2 0, 54, .inl (row rm)))] ++ [(am 3, .inl (G.2 0, 54, .inl (row r2)))] ++ [(am 4, .inl (G.2 0, 54, .inl (row r4)))])) ⟨C0, hK, hP, hD, hS, hA⟩ 0 rfl (ci := 8) rfl rfl ((m9_no l G am ho rn ln pl sd lt ro rf nb (wBy mi.toInt 0 99) (cOk.no cOk_WW c_2))) (cwV 1 hts (lw_V q1206 q1208 qs66 q95 q1209) rfl rfl rfl (by decide +kernel) ⟨Nat.le_of_ble_eq_true rfl, Nat.le_of_ble_eq_true rfl⟩) [0, 1, 2, 3, 4] [1, 3, 5, 7, 9, 10, 12, 14, 16] rfl (fun _ => rfl) rfl rfl hl.1 rfl (Nat.le_of_ble_eq_true rfl) dX9_prop_13 ⟨(Nat.le_of_ble_eq_true rfl), (Nat.le_of_ble_eq_true rfl)⟩ (fun r_13 u_13 H locs hw_13 hP hD hS => ?_)
    have hw_13 : (wBy mi.toInt 0 99 : Int32) = r_13 := hw_13.symm
    subst hw_13
    have hP : va_P G.1 vwCl (wM G am ho rn ln pl sd lt ro (rfU rf (wBy mi.toInt 0 99)) nb ++ [(am 1, .inl (G.2 0, 54, .inl (row r)))] ++ [(am 2, .inl (G.2 0, 54, .inl (row rm)))] ++ [(am 3, .inl (G.2 0, 54, .inl (row r2)))] ++ [(am 4, .inl (G.2 0, 54, .inl (row r4)))]) H := hP
    have hD : va_D A (wM G am ho rn ln pl sd lt ro (rfU rf (wBy mi.toInt 0 99)) nb ++ [(am 1, .inl (G.2 0, 54, .inl (row r)))] ++ [(am 2, .inl (G.2 0, 54, .inl (row rm)))] ++ [(am 3, .inl (G.2 0, 54, .inl (row r2)))] ++ [(am 4, .inl (G.2 0, 54, .inl (row r4)))]) := hD
    have hE : eW (wBy mi.toInt 0 99) 0 = wBy mi.toInt 0 99 := by rw [eW_n c_2]
    have hne : (wBy mi.toInt 0 99 : Int32) ≠ 0 := c_2
    have hP : va_P G.1 vwCl (wM G am ho rn ln pl sd lt ro (sel (eW (wBy mi.toInt 0 99) 0) rf (rfU rf (eW (wBy mi.toInt 0 99) 0))) nb ++ [(am 1, .inl (G.2 0, 54, .inl (row r)))] ++ [(am 2, .inl (G.2 0, 54, .inl (row rm)))] ++ [(am 3, .inl (G.2 0, 54, .inl (row r2)))] ++ [(am 4, .inl (G.2 0, 54, .inl (row r4)))]) H := by rw [hE]; simp only [sel_n hne]; exact hP
    have hD : va_D A (wM G am ho rn ln pl sd lt ro (sel (eW (wBy mi.toInt 0 99) 0) rf (rfU rf (eW (wBy mi.toInt 0 99) 0))) nb ++ [(am 1, .inl (G.2 0, 54, .inl (row r)))] ++ [(am 2, .inl (G.2 0, 54, .inl (row rm)))] ++ [(am 3, .inl (G.2 0, 54, .inl (row r2)))] ++ [(am 4, .inl (G.2 0, 54, .inl (row r4)))]) := by rw [hE]; simp only [sel_n hne]; exact hD
    refine hret _ _ _ _ _ _ (wBy mi.toInt 0 99) rm dX9_prop_16 ?_ hP hD hS (Nat.le_of_ble_eq_true rfl) (Nat.le_of_ble_eq_true rfl)
    rw [hE, sel_n hne]

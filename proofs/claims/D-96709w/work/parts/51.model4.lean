/-! the model: towers, pulls in mind (printed by tools/model4.py) -/
/-! the model: towers, pulls in mind, the most pulled, keys, props -/
set_option maxRecDepth 100000
def pAX (r : Rw) (o : Nat) (x : Int32) : Bool := if x = -9 then false else if x = nI o then true else pAb r o 11 x.toNatClampNeg
theorem pAX_a {r : Rw} (hr : Ok r) {o j : Nat} (hj : j < mny r) : pAb r o 11 j = pAX r o (r 2 j) := pAb_f hr o 11 j (by have := hr.le; omega) hj
theorem pAX_9 {r : Rw} {o : Nat} : pAX r o (-9) = false := if_pos rfl
theorem pAX_o {r : Rw} {o : Nat} (hob : o < 2 ^ 31) : pAX r o (nI o) = true := by
  unfold pAX
  rw [if_neg (m9_ne hob), if_pos rfl]
theorem pAX_j {r : Rw} {o j : Nat} (hj : j < 2 ^ 31) (h : ¬ nI j = nI o) : pAX r o (nI j) = pAb r o 11 j := by
  unfold pAX
  rw [if_neg (m9_ne hj), if_neg h, nI_clamp hj]
theorem cn_z {P : Nat → Bool} : ∀ {n : Nat}, cn P n = 0 ↔ ∀ t, t < n → P t = false
  | 0 => ⟨fun _ t h => absurd h (Nat.not_lt_zero t), fun _ => rfl⟩
  | n + 1 => by
    show cn P n + (if P n = true then 1 else 0) = 0 ↔ _
    constructor
    · intro h t ht
      have h1 : cn P n = 0 := by omega
      by_cases e : t = n
      · subst e
        cases q : P t with
        | false => rfl
        | true => rw [q] at h; simp at h
      · exact cn_z.mp h1 t (by omega)
    · intro h
      rw [cn_z.mpr (fun t ht => h t (by omega)), h n (by omega)]
      rfl
theorem sh_0 {r : Rw} (hr : Ok r) {t : Nat} (ht : t < mny r) {sp : Int32} : bs (pShk r (nI t) sp) (mny r) = 0 ↔ pPullN r t sp = 0 := by
  have hN := hr.le
  have hc := cn_le (pShk (pGone r t) (nI t) sp) (mny r)
  show _ ↔ nI (cn (pShk (pGone r t) (nI t) sp) (mny r)) = nI 0
  rw [bs_0 (by omega), nI_eq (by omega) (by omega), cn_z]
  exact forall_congr' (fun j => forall_congr' (fun hj => by rw [pShk_gone hr ht sp hj]))
theorem bs_anot (P P' : Nat → Bool) {n : Nat} (hn : n ≤ 10) : bs P n &&& (bs P' n ^^^ -1) = bs (fun t => P t && !P' t) n := by
  rw [bs_bn _ _ (by omega), bs_bn _ _ (by omega), bs_bn _ _ (by omega), and_not (bn_1024 hn)]
  congr 1
  apply Nat.eq_of_testBit_eq
  intro i
  rw [Nat.testBit_and, Nat.testBit_xor, bn_bit, bn_bit, bn_bit]
  by_cases h10 : i < 10
  · rw [t1023 h10]
    cases decide (i < n) <;> cases P i <;> cases P' i <;> rfl
  · have : ¬ i < n := by omega
    simp [this]
theorem pFB_sh {r : Rw} (hr : Ok r) {t : Nat} (ht : t < mny r) {sp : Int32} : bs (pShk r (nI t) sp) (mny r) = pFB r t sp := by
  have hN := hr.le
  unfold pFB pSet
  rw [show mny (pPull r t sp) = mny r from rfl, bs_anot _ _ hN]
  refine bs_congr (fun j hj => ?_)
  show pShk r (nI t) sp j = (decide ((if (decide (j < mny r) && pShk (pGone r t) (nI t) sp j) = true then (1 : Int32) else upd (r 3) t 2 j) = 1) && !decide (r 3 j = 1))
  rw [pShk_gone hr ht sp hj]
  cases e : pShk r (nI t) sp j with
  | true =>
    have h3 : r 3 j = 0 := by
      unfold pShk at e
      rw [Bool.and_eq_true, Bool.and_eq_true] at e
      exact of_decide_eq_true e.1.1
    rw [h3]
    simp [hj]
  | false =>
    by_cases q : j = t
    · subst q
      rw [pk_us]
      simp
    · rw [pk_un q]
      simp
theorem and_sw (a b c : Int32) : a &&& b &&& c = a &&& c &&& b := by
  apply Int32.toBitVec_inj.mp
  simp only [Int32.toBitVec_and]
  rw [BitVec.and_assoc, BitVec.and_assoc, BitVec.and_comm b.toBitVec]
set_option maxHeartbeats 4000000 in
set_option maxRecDepth 100000 in
theorem m9_isAbove (l : Launch) (G : xG) (am : Nat → Nat) (r rm r2 r4 : Rw) (ho rn ln pl sd : Int32) (lt ro rf nb : Nat → Int32) (hr : Ok r) (hp : r 5 3 = 0) (k o : Nat) (hk1 : k < mny r) (hob : o < 2 ^ 31) : xCi l G yX9_isAbove cX9_isAbove 4 (some .boolean) ({ frames := 1, cells := 0, slots := 0, locals := 21 } : Room) [.ref (am 0), .int (nI k), .int (nI o)] (wM G am ho rn ln pl sd lt ro rf nb ++ [(am 1, .inl (G.2 0, 54, .inl (row r)))] ++ [(am 2, .inl (G.2 0, 54, .inl (row rm)))] ++ [(am 3, .inl (G.2 0, 54, .inl (row r2)))] ++ [(am 4, .inl (G.2 0, 54, .inl (row r4)))]) (S := Unit) (fun v _ => v = bI (pAb r o 11 k)) (fun _ => (wM G am ho rn ln pl sd lt ro rf nb ++ [(am 1, .inl (G.2 0, 54, .inl (row r)))] ++ [(am 2, .inl (G.2 0, 54, .inl (row rm)))] ++ [(am 3, .inl (G.2 0, 54, .inl (row r2)))] ++ [(am 4, .inl (G.2 0, 54, .inl (row r4)))])) := by
  refine x_openi (by decide) (Nat.le_of_ble_eq_true rfl) (fun _ _ h => by rw [h]; exact bI_z _) ?_
  intro p e s m args below meth c A Q ls C0 hK hP hD hA hl hret
  obtain ⟨hx, hb, hml, hown, hts⟩ := id C0
  have hS : va_S A s.heap s.heap [] := va_S.rf
  have hP : va_P G.1 vwCl (wM G am ho rn ln pl sd lt ro rf nb ++ [(am 1, .inl (G.2 0, 54, .inl (row r)))] ++ [(am 2, .inl (G.2 0, 54, .inl (row rm)))] ++ [(am 3, .inl (G.2 0, 54, .inl (row r2)))] ++ [(am 4, .inl (G.2 0, 54, .inl (row r4)))]) s.heap := hP
  have hD : va_D A (wM G am ho rn ln pl sd lt ro rf nb ++ [(am 1, .inl (G.2 0, 54, .inl (row r)))] ++ [(am 2, .inl (G.2 0, 54, .inl (row rm)))] ++ [(am 3, .inl (G.2 0, 54, .inl (row r2)))] ++ [(am 4, .inl (G.2 0, 54, .inl (row r4)))]) := hD
  have hl : lv_has ls 4 [(0, .ref (am 0)), (1, .int (nI k)), (2, .int (nI o))] := hl
  have hr0 := hr.n
  have hN := hr.le
  refine lv_aload_n hx hb dX9_isAbove_0 rfl (lv_at hl 0 rfl) ?_
  refine va_get (D := G.1) (ci := 8) (v := .ref (am 1)) (C := RX9) (T := TX9) (N := 13) hx hb hts in_X9 hown hK.1 hP 0 rfl rfl 0 (by decide) (hts _ q1162) (fun _ h9 => h9) rfl dX9_isAbove_1 ?_
  refine lv_iload_n hx hb dX9_isAbove_4 rfl (lv_at hl 1 rfl) ?_
  refine lv_iconst (v := 2) hx hb dX9_isAbove_5 (by decide) ?_
  refine x_Si (wN := fun _ => (wM G am ho rn ln pl sd lt ro rf nb ++ [(am 1, .inl (G.2 0, 54, .inl (row r)))] ++ [(am 2, .inl (G.2 0, 54, .inl (row rm)))] ++ [(am 3, .inl (G.2 0, 54, .inl (row r2)))] ++ [(am 4, .inl (G.2 0, 54, .inl (row r4)))])) ⟨C0, hK, hP, hD, hS, hA⟩ ((m9_of l G k 2)) (va_cwS 2 hts (lw_S q1254 q1255 q95 q1256) rfl rfl rfl (by decide +kernel) ⟨Nat.le_of_ble_eq_true rfl, Nat.le_of_ble_eq_true rfl⟩) [] [0, 2, 4, 6, 8, 10, 12, 14, 16] rfl (fun _ => rfl) rfl rfl hl.1 rfl (Nat.le_of_ble_eq_true rfl) dX9_isAbove_6 ⟨(Nat.le_of_ble_eq_true rfl), (Nat.le_of_ble_eq_true rfl)⟩ (fun r_1 u_1 H locs hw_1 hP hD hS => ?_)
  have hw_1 : (nI (4 + 5 * k + 2) : Int32) = r_1 := hw_1.symm
  subst hw_1
  refine x_ialdn (k := (4 + 5 * k + 2)) hx hb hK.1 hP 5 0 rfl rfl (by omega) (by decide) (v := (r 2) k) (row_at _ (by decide)) dX9_isAbove_9 ?_
  refine lv_istore_n (lv' := [(3, .int ((r 2) k)), (0, .ref (am 0)), (1, .int (nI k)), (2, .int (nI o))]) hx hb dX9_isAbove_10 rfl hl (by decide) rfl (fun ls hl => ?_)
  have loop_11 : ∀ (n : Nat) (x : Int32), (0 < n) → (x = -9 ∨ ∃ j, j + 1 < n ∧ j < mny r ∧ x = nI j) → (pAX r o x = pAb r o 11 k) → ∀ (H : Heap) (locs : List Loc) (ls : Array Slot), va_P G.1 vwCl (wM G am ho rn ln pl sd lt ro rf nb ++ [(am 1, .inl (G.2 0, 54, .inl (row r)))] ++ [(am 2, .inl (G.2 0, 54, .inl (row rm)))] ++ [(am 3, .inl (G.2 0, 54, .inl (row r2)))] ++ [(am 4, .inl (G.2 0, 54, .inl (row r4)))]) H → va_D A (wM G am ho rn ln pl sd lt ro rf nb ++ [(am 1, .inl (G.2 0, 54, .inl (row r)))] ++ [(am 2, .inl (G.2 0, 54, .inl (row rm)))] ++ [(am 3, .inl (G.2 0, 54, .inl (row r2)))] ++ [(am 4, .inl (G.2 0, 54, .inl (row r4)))]) → va_S A s.heap H locs → lv_has ls 4 [(3, .int x), (0, .ref (am 0)), (1, .int (nI k)), (2, .int (nI o))] → W p l e ({ frames := 1, cells := 0, slots := 0, locals := 21 } : Room) s m args below meth c H locs 0 0 Q (F0 m 11 ls []) := by
    intro n
    induction n with
    | zero => intro x hi11_0 hi11_1 hi11_2; exact absurd hi11_0 (by omega)
    | succ n ih_11 =>
      intro x hi11_0 hi11_1 hi11_2 H locs ls hP hD hS hl
      refine lv_iload_n hx hb dX9_isAbove_11 rfl (lv_at hl 0 rfl) ?_
      refine lv_if_lt (tgt := 34) hx hb dX9_isAbove_12 (by decide) (fun c_2 => ?_) (fun c_2 => ?_)
      · skip
        refine lv_iload_n hx hb dX9_isAbove_34 rfl (lv_at hl 0 rfl) ?_
        refine lv_iload_n hx hb dX9_isAbove_35 rfl (lv_at hl 3 rfl) ?_
        refine lv_icmp_ne (tgt := 43) hx hb dX9_isAbove_36 (by decide) (fun c_3 => ?_) (fun c_3 => ?_)
        · skip
          refine lv_iconst (v := 0) hx hb dX9_isAbove_43 (by decide) ?_
          refine hret _ _ _ _ _ _ 0 () dX9_isAbove_44 ?_ hP hD hS (Nat.le_of_ble_eq_true rfl) (Nat.le_of_ble_eq_true rfl)
          rw [← hi11_2]
          have e9 : x = -9 := hi11_1.resolve_right (fun z => by obtain ⟨j, hj1, hj2, rfl⟩ := z; exact nI_nn (by omega) c_2)
          rw [e9, pAX_9]
          rfl
        · skip
          exact absurd c_2 (by rw [c_3]; exact nI_nn (by omega))
      · skip
        obtain ⟨j, hj1, hj2, rfl⟩ := hi11_1.resolve_left (fun z => c_2 (by rw [z]; decide))
        refine lv_iload_n hx hb dX9_isAbove_15 rfl (lv_at hl 0 rfl) ?_
        refine lv_iload_n hx hb dX9_isAbove_16 rfl (lv_at hl 3 rfl) ?_
        refine lv_icmp_eq (tgt := 34) hx hb dX9_isAbove_17 (by decide) (fun c_4 => ?_) (fun c_4 => ?_)
        · skip
          have g_4 := (nI_eq (by omega) (by omega)).mp c_4
          refine lv_iload_n hx hb dX9_isAbove_34 rfl (lv_at hl 0 rfl) ?_
          refine lv_iload_n hx hb dX9_isAbove_35 rfl (lv_at hl 3 rfl) ?_
          refine lv_icmp_ne (tgt := 43) hx hb dX9_isAbove_36 (by decide) (fun c_5 => ?_) (fun c_5 => ?_)
          · skip
            exact absurd c_4 c_5
          · skip
            have g_5 := (nI_eq (by omega) (by omega)).mp c_5
            refine lv_iconst (v := 1) hx hb dX9_isAbove_39 (by decide) ?_
            refine lv_goto (tgt := 44) hx hb dX9_isAbove_40 (by decide) ?_
            refine hret _ _ _ _ _ _ 1 () dX9_isAbove_44 ?_ hP hD hS (Nat.le_of_ble_eq_true rfl) (Nat.le_of_ble_eq_true rfl)
            rw [← hi11_2, c_4, pAX_o (by omega)]
            rfl
        · skip
          have g_4 := mt (nI_eq (by omega) (by omega)).mpr c_4
          refine lv_aload_n hx hb dX9_isAbove_20 rfl (lv_at hl 1 rfl) ?_
          refine va_get (D := G.1) (ci := 8) (v := .ref (am 1)) (C := RX9) (T := TX9) (N := 13) hx hb hts in_X9 hown hK.1 hP 0 rfl rfl 0 (by decide) (hts _ q1162) (fun _ h9 => h9) rfl dX9_isAbove_21 ?_
          refine lv_iload_n hx hb dX9_isAbove_24 rfl (lv_at hl 0 rfl) ?_
          refine lv_iconst (v := 2) hx hb dX9_isAbove_25 (by decide) ?_
          refine x_Si (wN := fun _ => (wM G am ho rn ln pl sd lt ro rf nb ++ [(am 1, .inl (G.2 0, 54, .inl (row r)))] ++ [(am 2, .inl (G.2 0, 54, .inl (row rm)))] ++ [(am 3, .inl (G.2 0, 54, .inl (row r2)))] ++ [(am 4, .inl (G.2 0, 54, .inl (row r4)))])) ⟨C0, hK, hP, hD, hS, hA⟩ ((m9_of l G j 2)) (va_cwS 2 hts (lw_S q1254 q1255 q95 q1256) rfl rfl rfl (by decide +kernel) ⟨Nat.le_of_ble_eq_true rfl, Nat.le_of_ble_eq_true rfl⟩) [] [0, 2, 4, 6, 8, 10, 12, 14, 16] rfl (fun _ => rfl) rfl rfl hl.1 rfl (Nat.le_of_ble_eq_true rfl) dX9_isAbove_26 ⟨(Nat.le_of_ble_eq_true rfl), (Nat.le_of_ble_eq_true rfl)⟩ (fun r_6 u_6 H locs hw_6 hP hD hS => ?_)
          have hw_6 : (nI (4 + 5 * j + 2) : Int32) = r_6 := hw_6.symm
          subst hw_6
          refine x_ialdn (k := (4 + 5 * j + 2)) hx hb hK.1 hP 5 0 rfl rfl (by omega) (by decide) (v := (r 2) j) (row_at _ (by decide)) dX9_isAbove_29 ?_
          refine lv_istore_n (lv' := [(3, .int ((r 2) j)), (0, .ref (am 0)), (1, .int (nI k)), (2, .int (nI o))]) hx hb dX9_isAbove_30 rfl hl (by decide) rfl (fun ls hl => ?_)
          refine lv_goto (tgt := 11) hx hb dX9_isAbove_31 (by decide) ?_
          exact ih_11 (r 2 j) (by omega) ((hr.on hj2).imp_right (fun ⟨k, hk, e⟩ => ⟨k, by omega, by omega, e⟩)) (by rw [← hi11_2, pAX_j (by omega) c_4, pAX_a hr hj2]) _ _ _ hP hD hS (lv_sub hl [0, 1, 2, 3] rfl)
  exact loop_11 12 (r 2 k) (by omega) ((hr.on hk1).imp_right (fun ⟨k, hk, e⟩ => ⟨k, by omega, by omega, e⟩)) (pAX_a hr hk1).symm _ _ _ hP hD hS (lv_sub hl [0, 1, 2, 3] rfl)
set_option maxHeartbeats 4000000 in
set_option maxRecDepth 100000 in
theorem n_tower (l : Launch) (G : xG) (am : Nat → Nat) (r rm r2 r4 : Rw) (ho rn ln pl sd : Int32) (lt ro rf nb : Nat → Int32) (hr : Ok r) (hp : r 5 3 = 0) (t w : Int32) : xCi l G yX9_tower cX9_tower 7 (some .int) ({ frames := 2, cells := 0, slots := 0, locals := 44 } : Room) [.ref (am 0), .int t, .int w] (wM G am ho rn ln pl sd lt ro rf nb ++ [(am 1, .inl (G.2 0, 54, .inl (row r)))] ++ [(am 2, .inl (G.2 0, 54, .inl (row rm)))] ++ [(am 3, .inl (G.2 0, 54, .inl (row r2)))] ++ [(am 4, .inl (G.2 0, 54, .inl (row r4)))]) (S := Unit) (fun v _ => v = sel (eS (tB r t) (-1) (eS (inR w 0 2) (-2) 0)) (pTow r (ix t) w) (eS (tB r t) (-1) (eS (inR w 0 2) (-2) 0))) (fun _ => (wM G am ho rn ln pl sd lt ro (sel (eS (tB r t) (-1) (eS (inR w 0 2) (-2) 0)) rf (rfU rf (eS (tB r t) (-1) (eS (inR w 0 2) (-2) 0)))) nb ++ [(am 1, .inl (G.2 0, 54, .inl (row r)))] ++ [(am 2, .inl (G.2 0, 54, .inl (row rm)))] ++ [(am 3, .inl (G.2 0, 54, .inl (row r2)))] ++ [(am 4, .inl (G.2 0, 54, .inl (row r4)))])) := by
  refine x_openi (by decide) (Nat.le_of_ble_eq_true rfl) (fun _ _ _ => rfl) ?_
  intro p e s m args below meth c A Q ls C0 hK hP hD hA hl hret
  obtain ⟨hx, hb, hml, hown, hts⟩ := id C0
  have hS : va_S A s.heap s.heap [] := va_S.rf
  have hP : va_P G.1 vwCl (wM G am ho rn ln pl sd lt ro rf nb ++ [(am 1, .inl (G.2 0, 54, .inl (row r)))] ++ [(am 2, .inl (G.2 0, 54, .inl (row rm)))] ++ [(am 3, .inl (G.2 0, 54, .inl (row r2)))] ++ [(am 4, .inl (G.2 0, 54, .inl (row r4)))]) s.heap := hP
  have hD : va_D A (wM G am ho rn ln pl sd lt ro rf nb ++ [(am 1, .inl (G.2 0, 54, .inl (row r)))] ++ [(am 2, .inl (G.2 0, 54, .inl (row rm)))] ++ [(am 3, .inl (G.2 0, 54, .inl (row r2)))] ++ [(am 4, .inl (G.2 0, 54, .inl (row r4)))]) := hD
  have hl : lv_has ls 7 [(0, .ref (am 0)), (1, .int t), (2, .int w)] := hl
  have hr0 := hr.n
  have hN := hr.le
  refine lv_aload_n hx hb dX9_tower_0 rfl (lv_at hl 0 rfl) ?_
  refine lv_iload_n hx hb dX9_tower_1 rfl (lv_at hl 1 rfl) ?_
  refine x_Vi (wN := fun _ => (wM G am ho rn ln pl sd lt ro rf nb ++ [(am 1, .inl (G.2 0, 54, .inl (row r)))] ++ [(am 2, .inl (G.2 0, 54, .inl (row rm)))] ++ [(am 3, .inl (G.2 0, 54, .inl (row r2)))] ++ [(am 4, .inl (G.2 0, 54, .inl (row r4)))])) ⟨C0, hK, hP, hD, hS, hA⟩ 0 rfl (ci := 8) rfl rfl ((m9_isThing l G am r rm r2 r4 ho rn ln pl sd lt ro rf nb hr hp t)) (cwV 1 hts (lw_V q1247 q1249 qs73 q95 q1250) rfl rfl rfl (by decide +kernel) ⟨Nat.le_of_ble_eq_true rfl, Nat.le_of_ble_eq_true rfl⟩) [0, 1, 2, 3, 4, 5, 6, 7, 8] [1, 3, 5, 7, 9, 11, 13, 15, 17] rfl (fun _ => rfl) rfl rfl hl.1 rfl (Nat.le_of_ble_eq_true rfl) dX9_tower_2 ⟨(Nat.le_of_ble_eq_true rfl), (Nat.le_of_ble_eq_true rfl)⟩ (fun r_1 u_1 H locs hw_1 hP hD hS => ?_)
  have hw_1 : (bI (tB r t) : Int32) = r_1 := hw_1.symm
  subst hw_1
  refine lv_if_ne (tgt := 14) hx hb dX9_tower_5 (by decide) (fun c_2 => ?_) (fun c_2 => ?_)
  · skip
    obtain ⟨hj_t, et_t⟩ := tB_ix hN (by first | exact bI_n0 c_2 | exact bI_0.mp c_2)
    rw [et_t] at hl
    refine lv_iload_n hx hb dX9_tower_14 rfl (lv_at hl 2 rfl) ?_
    refine lv_iconst (v := 0) hx hb dX9_tower_15 (by decide) ?_
    refine lv_iconst (v := 2) hx hb dX9_tower_16 (by decide) ?_
    refine x_Si (wN := fun _ => (wM G am ho rn ln pl sd lt ro rf nb ++ [(am 1, .inl (G.2 0, 54, .inl (row r)))] ++ [(am 2, .inl (G.2 0, 54, .inl (row rm)))] ++ [(am 3, .inl (G.2 0, 54, .inl (row r2)))] ++ [(am 4, .inl (G.2 0, 54, .inl (row r4)))])) ⟨C0, hK, hP, hD, hS, hA⟩ ((m9_isIn l G w 0 2)) (va_cwS 3 hts (lw_S q1233 q1234 q95 q1235) rfl rfl rfl (by decide +kernel) ⟨Nat.le_of_ble_eq_true rfl, Nat.le_of_ble_eq_true rfl⟩) [] [0, 2, 4, 6, 8, 10, 12, 14, 16] rfl (fun _ => rfl) rfl rfl hl.1 rfl (Nat.le_of_ble_eq_true rfl) dX9_tower_17 ⟨(Nat.le_of_ble_eq_true rfl), (Nat.le_of_ble_eq_true rfl)⟩ (fun r_3 u_3 H locs hw_3 hP hD hS => ?_)
    have hw_3 : r_3 = bI (inR w 0 2) := hw_3.trans rfl
    have hw_3 : (bI (inR w 0 2) : Int32) = r_3 := hw_3.symm
    subst hw_3
    refine lv_if_ne (tgt := 30) hx hb dX9_tower_20 (by decide) (fun c_4 => ?_) (fun c_4 => ?_)
    · skip
      refine lv_iconst (v := 0) hx hb dX9_tower_30 (by decide) ?_
      refine lv_istore_n (lv' := [(3, .int 0), (0, .ref (am 0)), (1, .int (nI (ix t))), (2, .int w)]) hx hb dX9_tower_31 rfl hl (by decide) rfl (fun ls hl => ?_)
      refine lv_iconst (v := 0) hx hb dX9_tower_32 (by decide) ?_
      refine lv_istore (lv' := [(4, .int 0), (3, .int 0), (0, .ref (am 0)), (1, .int (nI (ix t))), (2, .int w)]) hx hb dX9_tower_33 hl (by decide) rfl (fun ls hl => ?_)
      refine lv_iload_n hx hb dX9_tower_35 rfl (lv_at hl 3 rfl) ?_
      refine lv_istore (lv' := [(5, .int (nI (ix t))), (4, .int 0), (3, .int 0), (0, .ref (am 0)), (1, .int (nI (ix t))), (2, .int w)]) hx hb dX9_tower_36 hl (by decide) rfl (fun ls hl => ?_)
      refine lv_iconst (v := 0) hx hb dX9_tower_38 (by decide) ?_
      refine lv_istore (lv' := [(6, .int 0), (5, .int (nI (ix t))), (4, .int 0), (3, .int 0), (0, .ref (am 0)), (1, .int (nI (ix t))), (2, .int w)]) hx hb dX9_tower_39 hl (by decide) rfl (fun ls hl => ?_)
      have loop_41 : ∀ (n : Nat) (i : Nat), (i ≤ mny r) → (mny r < i + n) → ∀ (H : Heap) (locs : List Loc) (ls : Array Slot), va_P G.1 vwCl (wM G am ho rn ln pl sd lt ro rf nb ++ [(am 1, .inl (G.2 0, 54, .inl (row r)))] ++ [(am 2, .inl (G.2 0, 54, .inl (row rm)))] ++ [(am 3, .inl (G.2 0, 54, .inl (row r2)))] ++ [(am 4, .inl (G.2 0, 54, .inl (row r4)))]) H → va_D A (wM G am ho rn ln pl sd lt ro rf nb ++ [(am 1, .inl (G.2 0, 54, .inl (row r)))] ++ [(am 2, .inl (G.2 0, 54, .inl (row rm)))] ++ [(am 3, .inl (G.2 0, 54, .inl (row r2)))] ++ [(am 4, .inl (G.2 0, 54, .inl (row r4)))]) → va_S A s.heap H locs → lv_has ls 7 [(6, .int (nI i)), (5, .int (nI (ix t))), (4, .int 0), (3, .int (bs (pAb r (ix t) 11) i)), (0, .ref (am 0)), (1, .int (nI (ix t))), (2, .int w)] → W p l e ({ frames := 2, cells := 0, slots := 0, locals := 44 } : Room) s m args below meth c H locs 0 0 Q (F0 m 41 ls []) := by
        intro n
        induction n with
        | zero => intro i hi41_0 hi41_1; exact absurd hi41_1 (by omega)
        | succ n ih_41 =>
          intro i hi41_0 hi41_1 H locs ls hP hD hS hl
          refine lv_iload hx hb dX9_tower_41 (lv_at hl 0 rfl) ?_
          refine lv_aload_n hx hb dX9_tower_43 rfl (lv_at hl 4 rfl) ?_
          refine va_get (D := G.1) (ci := 8) (v := .ref (am 1)) (C := RX9) (T := TX9) (N := 13) hx hb hts in_X9 hown hK.1 hP 0 rfl rfl 0 (by decide) (hts _ q1162) (fun _ h9 => h9) rfl dX9_tower_44 ?_
          refine lv_iconst (v := 0) hx hb dX9_tower_47 (by decide) ?_
          refine x_ialdn (k := 0) hx hb hK.1 hP 5 0 rfl rfl (by decide) (by decide) (v := nI (mny r)) (hr0) dX9_tower_48 ?_
          refine lv_icmp_ge (tgt := 79) hx hb dX9_tower_49 (by decide) (fun c_5 => ?_) (fun c_5 => ?_)
          · skip
            have g_5 := (nI_leI (by omega) (by omega)).mp c_5
            have loop_79 : ∀ (n : Nat) (h j : Nat), (j < n) → (j < mny r) → (h + pHt r j = pHt r (ix t)) → (pBot r 11 j = pBot r 11 (ix t)) → ∀ (H : Heap) (locs : List Loc) (ls : Array Slot), va_P G.1 vwCl (wM G am ho rn ln pl sd lt ro rf nb ++ [(am 1, .inl (G.2 0, 54, .inl (row r)))] ++ [(am 2, .inl (G.2 0, 54, .inl (row rm)))] ++ [(am 3, .inl (G.2 0, 54, .inl (row r2)))] ++ [(am 4, .inl (G.2 0, 54, .inl (row r4)))]) H → va_D A (wM G am ho rn ln pl sd lt ro rf nb ++ [(am 1, .inl (G.2 0, 54, .inl (row r)))] ++ [(am 2, .inl (G.2 0, 54, .inl (row rm)))] ++ [(am 3, .inl (G.2 0, 54, .inl (row r2)))] ++ [(am 4, .inl (G.2 0, 54, .inl (row r4)))]) → va_S A s.heap H locs → lv_has ls 7 [(6, .int (nI i)), (5, .int (nI j)), (4, .int (nI h)), (3, .int (bs (pAb r (ix t) 11) i)), (0, .ref (am 0)), (1, .int (nI (ix t))), (2, .int w)] → W p l e ({ frames := 2, cells := 0, slots := 0, locals := 44 } : Room) s m args below meth c H locs 0 0 Q (F0 m 79 ls []) := by
              intro n
              induction n with
              | zero => intro h j hi79_0 hi79_1 hi79_2 hi79_3; exact absurd hi79_0 (by omega)
              | succ n ih_79 =>
                intro h j hi79_0 hi79_1 hi79_2 hi79_3 H locs ls hP hD hS hl
                refine lv_aload_n hx hb dX9_tower_79 rfl (lv_at hl 4 rfl) ?_
                refine va_get (D := G.1) (ci := 8) (v := .ref (am 1)) (C := RX9) (T := TX9) (N := 13) hx hb hts in_X9 hown hK.1 hP 0 rfl rfl 0 (by decide) (hts _ q1162) (fun _ h9 => h9) rfl dX9_tower_80 ?_
                refine lv_iload hx hb dX9_tower_83 (lv_at hl 1 rfl) ?_
                refine lv_iconst (v := 2) hx hb dX9_tower_85 (by decide) ?_
                refine x_Si (wN := fun _ => (wM G am ho rn ln pl sd lt ro rf nb ++ [(am 1, .inl (G.2 0, 54, .inl (row r)))] ++ [(am 2, .inl (G.2 0, 54, .inl (row rm)))] ++ [(am 3, .inl (G.2 0, 54, .inl (row r2)))] ++ [(am 4, .inl (G.2 0, 54, .inl (row r4)))])) ⟨C0, hK, hP, hD, hS, hA⟩ ((m9_of l G j 2)) (va_cwS 2 hts (lw_S q1254 q1255 q95 q1256) rfl rfl rfl (by decide +kernel) ⟨Nat.le_of_ble_eq_true rfl, Nat.le_of_ble_eq_true rfl⟩) [] [0, 2, 4, 6, 8, 10, 12, 14, 16] rfl (fun _ => rfl) rfl rfl hl.1 rfl (Nat.le_of_ble_eq_true rfl) dX9_tower_86 ⟨(Nat.le_of_ble_eq_true rfl), (Nat.le_of_ble_eq_true rfl)⟩ (fun r_6 u_6 H locs hw_6 hP hD hS => ?_)
                have hw_6 : (nI (4 + 5 * j + 2) : Int32) = r_6 := hw_6.symm
                subst hw_6
                refine x_ialdn (k := (4 + 5 * j + 2)) hx hb hK.1 hP 5 0 rfl rfl (by omega) (by decide) (v := (r 2) j) (row_at _ (by decide)) dX9_tower_89 ?_
                refine lv_if_lt (tgt := 112) hx hb dX9_tower_90 (by decide) (fun c_7 => ?_) (fun c_7 => ?_)
                · skip
                  have e9 := on9_lt hr hi79_1 (fun z => absurd c_7 (Int32.not_lt.mpr z))
                  have eh : h = pHt r (ix t) := by rw [← hi79_2]; unfold pHt; rw [e9]; rfl
                  have eb : j = pBot r 11 (ix t) := by rw [← hi79_3]; exact (pBot_9 e9).symm
                  refine lv_iload_n hx hb dX9_tower_112 rfl (lv_at hl 6 rfl) ?_
                  refine lv_if_ne (tgt := 121) hx hb dX9_tower_113 (by decide) (fun c_8 => ?_) (fun c_8 => ?_)
                  · skip
                    refine lv_iload_n hx hb dX9_tower_121 rfl (lv_at hl 6 rfl) ?_
                    refine lv_iconst (v := 1) hx hb dX9_tower_122 (by decide) ?_
                    refine lv_icmp_ne (tgt := 130) hx hb dX9_tower_123 (by decide) (fun c_9 => ?_) (fun c_9 => ?_)
                    · skip
                      refine lv_iload hx hb dX9_tower_130 (lv_at hl 1 rfl) ?_
                      have hE : eS (tB r t) (-1) (eS (inR w 0 2) (-2) 0) = 0 := by rw [eS_t (show tB r t = true from (by have h9 := c_2; simpa [bI_0] using h9)), eS_t (show inR w 0 2 = true from (by have h9 := c_4; simpa [bI_0] using h9))]
                      have hP : va_P G.1 vwCl (wM G am ho rn ln pl sd lt ro (sel (eS (tB r t) (-1) (eS (inR w 0 2) (-2) 0)) rf (rfU rf (eS (tB r t) (-1) (eS (inR w 0 2) (-2) 0)))) nb ++ [(am 1, .inl (G.2 0, 54, .inl (row r)))] ++ [(am 2, .inl (G.2 0, 54, .inl (row rm)))] ++ [(am 3, .inl (G.2 0, 54, .inl (row r2)))] ++ [(am 4, .inl (G.2 0, 54, .inl (row r4)))]) H := by rw [hE]; simp only [sel_0 rfl]; exact hP
                      have hD : va_D A (wM G am ho rn ln pl sd lt ro (sel (eS (tB r t) (-1) (eS (inR w 0 2) (-2) 0)) rf (rfU rf (eS (tB r t) (-1) (eS (inR w 0 2) (-2) 0)))) nb ++ [(am 1, .inl (G.2 0, 54, .inl (row r)))] ++ [(am 2, .inl (G.2 0, 54, .inl (row rm)))] ++ [(am 3, .inl (G.2 0, 54, .inl (row r2)))] ++ [(am 4, .inl (G.2 0, 54, .inl (row r4)))]) := by rw [hE]; simp only [sel_0 rfl]; exact hD
                      refine hret _ _ _ _ _ _ (nI j) () dX9_tower_132 ?_ hP hD hS (Nat.le_of_ble_eq_true rfl) (Nat.le_of_ble_eq_true rfl)
                      rw [hE, sel_0 rfl]
                      unfold pTow
                      rw [if_neg c_8, if_neg c_9, ← eb]
                    · skip
                      refine lv_iload_n hx hb dX9_tower_126 rfl (lv_at hl 3 rfl) ?_
                      refine lv_goto (tgt := 132) hx hb dX9_tower_127 (by decide) ?_
                      have hE : eS (tB r t) (-1) (eS (inR w 0 2) (-2) 0) = 0 := by rw [eS_t (show tB r t = true from (by have h9 := c_2; simpa [bI_0] using h9)), eS_t (show inR w 0 2 = true from (by have h9 := c_4; simpa [bI_0] using h9))]
                      have hP : va_P G.1 vwCl (wM G am ho rn ln pl sd lt ro (sel (eS (tB r t) (-1) (eS (inR w 0 2) (-2) 0)) rf (rfU rf (eS (tB r t) (-1) (eS (inR w 0 2) (-2) 0)))) nb ++ [(am 1, .inl (G.2 0, 54, .inl (row r)))] ++ [(am 2, .inl (G.2 0, 54, .inl (row rm)))] ++ [(am 3, .inl (G.2 0, 54, .inl (row r2)))] ++ [(am 4, .inl (G.2 0, 54, .inl (row r4)))]) H := by rw [hE]; simp only [sel_0 rfl]; exact hP
                      have hD : va_D A (wM G am ho rn ln pl sd lt ro (sel (eS (tB r t) (-1) (eS (inR w 0 2) (-2) 0)) rf (rfU rf (eS (tB r t) (-1) (eS (inR w 0 2) (-2) 0)))) nb ++ [(am 1, .inl (G.2 0, 54, .inl (row r)))] ++ [(am 2, .inl (G.2 0, 54, .inl (row rm)))] ++ [(am 3, .inl (G.2 0, 54, .inl (row r2)))] ++ [(am 4, .inl (G.2 0, 54, .inl (row r4)))]) := by rw [hE]; simp only [sel_0 rfl]; exact hD
                      refine hret _ _ _ _ _ _ (bs (pAb r (ix t) 11) i) () dX9_tower_132 ?_ hP hD hS (Nat.le_of_ble_eq_true rfl) (Nat.le_of_ble_eq_true rfl)
                      rw [hE, sel_0 rfl]
                      unfold pTow
                      rw [if_neg c_8, if_pos c_9]
                      show bs (pAb r (ix t) 11) i = bs (pAb r (ix t) 11) (mny r)
                      rw [show i = mny r by omega]
                  · skip
                    refine lv_iload hx hb dX9_tower_116 (lv_at hl 2 rfl) ?_
                    refine lv_goto (tgt := 132) hx hb dX9_tower_118 (by decide) ?_
                    have hE : eS (tB r t) (-1) (eS (inR w 0 2) (-2) 0) = 0 := by rw [eS_t (show tB r t = true from (by have h9 := c_2; simpa [bI_0] using h9)), eS_t (show inR w 0 2 = true from (by have h9 := c_4; simpa [bI_0] using h9))]
                    have hP : va_P G.1 vwCl (wM G am ho rn ln pl sd lt ro (sel (eS (tB r t) (-1) (eS (inR w 0 2) (-2) 0)) rf (rfU rf (eS (tB r t) (-1) (eS (inR w 0 2) (-2) 0)))) nb ++ [(am 1, .inl (G.2 0, 54, .inl (row r)))] ++ [(am 2, .inl (G.2 0, 54, .inl (row rm)))] ++ [(am 3, .inl (G.2 0, 54, .inl (row r2)))] ++ [(am 4, .inl (G.2 0, 54, .inl (row r4)))]) H := by rw [hE]; simp only [sel_0 rfl]; exact hP
                    have hD : va_D A (wM G am ho rn ln pl sd lt ro (sel (eS (tB r t) (-1) (eS (inR w 0 2) (-2) 0)) rf (rfU rf (eS (tB r t) (-1) (eS (inR w 0 2) (-2) 0)))) nb ++ [(am 1, .inl (G.2 0, 54, .inl (row r)))] ++ [(am 2, .inl (G.2 0, 54, .inl (row rm)))] ++ [(am 3, .inl (G.2 0, 54, .inl (row r2)))] ++ [(am 4, .inl (G.2 0, 54, .inl (row r4)))]) := by rw [hE]; simp only [sel_0 rfl]; exact hD
                    refine hret _ _ _ _ _ _ (nI h) () dX9_tower_132 ?_ hP hD hS (Nat.le_of_ble_eq_true rfl) (Nat.le_of_ble_eq_true rfl)
                    rw [hE, sel_0 rfl]
                    unfold pTow
                    rw [if_pos c_8, eh]
                · skip
                  obtain ⟨k, hk, ek⟩ := on9_ge hr hi79_1 (Int32.not_lt.mp c_7)
                  refine lv_aload_n hx hb dX9_tower_93 rfl (lv_at hl 4 rfl) ?_
                  refine va_get (D := G.1) (ci := 8) (v := .ref (am 1)) (C := RX9) (T := TX9) (N := 13) hx hb hts in_X9 hown hK.1 hP 0 rfl rfl 0 (by decide) (hts _ q1162) (fun _ h9 => h9) rfl dX9_tower_94 ?_
                  refine lv_iload hx hb dX9_tower_97 (lv_at hl 1 rfl) ?_
                  refine lv_iconst (v := 2) hx hb dX9_tower_99 (by decide) ?_
                  refine x_Si (wN := fun _ => (wM G am ho rn ln pl sd lt ro rf nb ++ [(am 1, .inl (G.2 0, 54, .inl (row r)))] ++ [(am 2, .inl (G.2 0, 54, .inl (row rm)))] ++ [(am 3, .inl (G.2 0, 54, .inl (row r2)))] ++ [(am 4, .inl (G.2 0, 54, .inl (row r4)))])) ⟨C0, hK, hP, hD, hS, hA⟩ ((m9_of l G j 2)) (va_cwS 2 hts (lw_S q1254 q1255 q95 q1256) rfl rfl rfl (by decide +kernel) ⟨Nat.le_of_ble_eq_true rfl, Nat.le_of_ble_eq_true rfl⟩) [] [0, 2, 4, 6, 8, 10, 12, 14, 16] rfl (fun _ => rfl) rfl rfl hl.1 rfl (Nat.le_of_ble_eq_true rfl) dX9_tower_100 ⟨(Nat.le_of_ble_eq_true rfl), (Nat.le_of_ble_eq_true rfl)⟩ (fun r_10 u_10 H locs hw_10 hP hD hS => ?_)
                  have hw_10 : (nI (4 + 5 * j + 2) : Int32) = r_10 := hw_10.symm
                  subst hw_10
                  refine x_ialdn (k := (4 + 5 * j + 2)) hx hb hK.1 hP 5 0 rfl rfl (by omega) (by decide) (v := (r 2) j) (row_at _ (by decide)) dX9_tower_103 ?_
                  rw [show ((r 2) j : Int32) = nI k from ek]
                  refine lv_istore (lv' := [(5, .int (nI k)), (6, .int (nI i)), (4, .int (nI h)), (3, .int (bs (pAb r (ix t) 11) i)), (0, .ref (am 0)), (1, .int (nI (ix t))), (2, .int w)]) hx hb dX9_tower_104 hl (by decide) rfl (fun ls hl => ?_)
                  refine lv_iinc (v := nI (h + 1)) (lv' := [(4, .int (nI (h + 1))), (5, .int (nI k)), (6, .int (nI i)), (3, .int (bs (pAb r (ix t) 11) i)), (0, .ref (am 0)), (1, .int (nI (ix t))), (2, .int w)]) hx hb dX9_tower_106 hl (k := 2) rfl (x_inc1 _) (by decide) rfl (fun ls hl => ?_)
                  refine lv_goto (tgt := 79) hx hb dX9_tower_109 (by decide) ?_
                  exact ih_79 (h + 1) k (by omega) (by omega) (by rw [← hi79_2]; unfold pHt; rw [ek, pUpN_11 hr (show k < mny r by omega)]; omega) ((pBot_11 hr hi79_1 hk ek).symm.trans hi79_3) _ _ _ hP hD hS (lv_sub hl [2, 1, 0, 3, 4, 5, 6] rfl)
            exact loop_79 (ix t + 1) 0 (ix t) (by omega) (by omega) (Nat.zero_add _) rfl _ _ _ hP hD hS (lv_sub hl [0, 1, 2, 3, 4, 5, 6] rfl)
          · skip
            have g_5 := mt (nI_leI (by omega) (by omega)).mpr c_5
            refine lv_iload_n hx hb dX9_tower_52 rfl (lv_at hl 3 rfl) ?_
            refine lv_aload_n hx hb dX9_tower_53 rfl (lv_at hl 4 rfl) ?_
            refine lv_iload hx hb dX9_tower_54 (lv_at hl 0 rfl) ?_
            refine lv_iload_n hx hb dX9_tower_56 rfl (lv_at hl 5 rfl) ?_
            refine x_Vi (wN := fun _ => (wM G am ho rn ln pl sd lt ro rf nb ++ [(am 1, .inl (G.2 0, 54, .inl (row r)))] ++ [(am 2, .inl (G.2 0, 54, .inl (row rm)))] ++ [(am 3, .inl (G.2 0, 54, .inl (row r2)))] ++ [(am 4, .inl (G.2 0, 54, .inl (row r4)))])) ⟨C0, hK, hP, hD, hS, hA⟩ 0 rfl (ci := 8) rfl rfl ((m9_isAbove l G am r rm r2 r4 ho rn ln pl sd lt ro rf nb hr hp i (ix t) (by omega) (by omega))) (cwV 2 hts (lw_V q1362 q1364 qs79 q95 q1365) rfl rfl rfl (by decide +kernel) ⟨Nat.le_of_ble_eq_true rfl, Nat.le_of_ble_eq_true rfl⟩) [0, 1, 2, 3, 4, 5, 6, 7, 8] [1, 3, 5, 7, 9, 11, 13, 15, 17] rfl (fun _ => rfl) rfl rfl hl.1 rfl (Nat.le_of_ble_eq_true rfl) dX9_tower_57 ⟨(Nat.le_of_ble_eq_true rfl), (Nat.le_of_ble_eq_true rfl)⟩ (fun r_11 u_11 H locs hw_11 hP hD hS => ?_)
            have hw_11 : (bI (pAb r (ix t) 11 i) : Int32) = r_11 := hw_11.symm
            subst hw_11
            refine lv_if_eq (tgt := 70) hx hb dX9_tower_60 (by decide) (fun c_12 => ?_) (fun c_12 => ?_)
            · skip
              refine lv_iconst (v := 0) hx hb dX9_tower_70 (by decide) ?_
              refine x_ior hx hb dX9_tower_71 (v := bs (pAb r (ix t) 11) (i + 1)) (bs_f (show pAb r (ix t) 11 i = false from (by first | exact bI_n0 c_12 | exact bI_0.mp c_12))) ?_
              refine lv_istore_n (lv' := [(3, .int (bs (pAb r (ix t) 11) (i + 1))), (6, .int (nI i)), (5, .int (nI (ix t))), (4, .int 0), (0, .ref (am 0)), (1, .int (nI (ix t))), (2, .int w)]) hx hb dX9_tower_72 rfl hl (by decide) rfl (fun ls hl => ?_)
              refine lv_iinc (v := nI (i + 1)) (lv' := [(6, .int (nI (i + 1))), (3, .int (bs (pAb r (ix t) 11) (i + 1))), (5, .int (nI (ix t))), (4, .int 0), (0, .ref (am 0)), (1, .int (nI (ix t))), (2, .int w)]) hx hb dX9_tower_73 hl (k := 1) rfl (x_inc1 _) (by decide) rfl (fun ls hl => ?_)
              refine lv_goto (tgt := 41) hx hb dX9_tower_76 (by decide) ?_
              exact ih_41 (i + 1) (by omega) (by omega) _ _ _ hP hD hS (lv_sub hl [0, 2, 3, 1, 4, 5, 6] rfl)
            · skip
              refine lv_iconst (v := 1) hx hb dX9_tower_63 (by decide) ?_
              refine lv_iload hx hb dX9_tower_64 (lv_at hl 0 rfl) ?_
              refine x_ishl hx hb dX9_tower_66 (v := b1 i) rfl ?_
              refine lv_goto (tgt := 71) hx hb dX9_tower_67 (by decide) ?_
              refine x_ior hx hb dX9_tower_71 (v := bs (pAb r (ix t) 11) (i + 1)) (bs_t (show pAb r (ix t) 11 i = true from (by first | exact bI_n0 c_12 | exact bI_0.mp c_12))) ?_
              refine lv_istore_n (lv' := [(3, .int (bs (pAb r (ix t) 11) (i + 1))), (6, .int (nI i)), (5, .int (nI (ix t))), (4, .int 0), (0, .ref (am 0)), (1, .int (nI (ix t))), (2, .int w)]) hx hb dX9_tower_72 rfl hl (by decide) rfl (fun ls hl => ?_)
              refine lv_iinc (v := nI (i + 1)) (lv' := [(6, .int (nI (i + 1))), (3, .int (bs (pAb r (ix t) 11) (i + 1))), (5, .int (nI (ix t))), (4, .int 0), (0, .ref (am 0)), (1, .int (nI (ix t))), (2, .int w)]) hx hb dX9_tower_73 hl (k := 1) rfl (x_inc1 _) (by decide) rfl (fun ls hl => ?_)
              refine lv_goto (tgt := 41) hx hb dX9_tower_76 (by decide) ?_
              exact ih_41 (i + 1) (by omega) (by omega) _ _ _ hP hD hS (lv_sub hl [0, 2, 3, 1, 4, 5, 6] rfl)
      exact loop_41 (mny r + 1) 0 (by omega) (by omega) _ _ _ hP hD hS (lv_sub hl [0, 1, 2, 3, 4, 5, 6] rfl)
    · skip
      refine lv_aload_n hx hb dX9_tower_23 rfl (lv_at hl 0 rfl) ?_
      refine lv_bipush (v := (-2)) hx hb dX9_tower_24 (by decide) ?_
      refine x_Vi (wN := fun _ => (wM G am ho rn ln pl sd lt ro (rfU rf (-2)) nb ++ [(am 1, .inl (G.2 0, 54, .inl (row r)))] ++ [(am 2, .inl (G.2 0, 54, .inl (row rm)))] ++ [(am 3, .inl (G.2 0, 54, .inl (row r2)))] ++ [(am 4, .inl (G.2 0, 54, .inl (row r4)))])) ⟨C0, hK, hP, hD, hS, hA⟩ 0 rfl (ci := 8) rfl rfl ((m9_no l G am ho rn ln pl sd lt ro rf nb (-2) noOk_k.2.1)) (cwV 1 hts (lw_V q1206 q1208 qs66 q95 q1209) rfl rfl rfl (by decide +kernel) ⟨Nat.le_of_ble_eq_true rfl, Nat.le_of_ble_eq_true rfl⟩) [0, 1, 2, 3, 4] [1, 3, 5, 7, 9, 10, 12, 14, 16] rfl (fun _ => rfl) rfl rfl hl.1 rfl (Nat.le_of_ble_eq_true rfl) dX9_tower_26 ⟨(Nat.le_of_ble_eq_true rfl), (Nat.le_of_ble_eq_true rfl)⟩ (fun r_13 u_13 H locs hw_13 hP hD hS => ?_)
      have hw_13 : ((-2) : Int32) = r_13 := hw_13.symm
      subst hw_13
      have hP : va_P G.1 vwCl (wM G am ho rn ln pl sd lt ro (rfU rf (-2)) nb ++ [(am 1, .inl (G.2 0, 54, .inl (row r)))] ++ [(am 2, .inl (G.2 0, 54, .inl (row rm)))] ++ [(am 3, .inl (G.2 0, 54, .inl (row r2)))] ++ [(am 4, .inl (G.2 0, 54, .inl (row r4)))]) H := hP
      have hD : va_D A (wM G am ho rn ln pl sd lt ro (rfU rf (-2)) nb ++ [(am 1, .inl (G.2 0, 54, .inl (row r)))] ++ [(am 2, .inl (G.2 0, 54, .inl (row rm)))] ++ [(am 3, .inl (G.2 0, 54, .inl (row r2)))] ++ [(am 4, .inl (G.2 0, 54, .inl (row r4)))]) := hD
      have hE : eS (tB r t) (-1) (eS (inR w 0 2) (-2) 0) = (-2) := by rw [eS_t (show tB r t = true from (by have h9 := c_2; simpa [bI_0] using h9)), eS_f (show inR w 0 2 = false from (by have h9 := c_4; simpa [bI_0] using h9))]
      have hne : ((-2) : Int32) ≠ 0 := (by decide)
      have hP : va_P G.1 vwCl (wM G am ho rn ln pl sd lt ro (sel (eS (tB r t) (-1) (eS (inR w 0 2) (-2) 0)) rf (rfU rf (eS (tB r t) (-1) (eS (inR w 0 2) (-2) 0)))) nb ++ [(am 1, .inl (G.2 0, 54, .inl (row r)))] ++ [(am 2, .inl (G.2 0, 54, .inl (row rm)))] ++ [(am 3, .inl (G.2 0, 54, .inl (row r2)))] ++ [(am 4, .inl (G.2 0, 54, .inl (row r4)))]) H := by rw [hE]; simp only [sel_n hne]; exact hP
      have hD : va_D A (wM G am ho rn ln pl sd lt ro (sel (eS (tB r t) (-1) (eS (inR w 0 2) (-2) 0)) rf (rfU rf (eS (tB r t) (-1) (eS (inR w 0 2) (-2) 0)))) nb ++ [(am 1, .inl (G.2 0, 54, .inl (row r)))] ++ [(am 2, .inl (G.2 0, 54, .inl (row rm)))] ++ [(am 3, .inl (G.2 0, 54, .inl (row r2)))] ++ [(am 4, .inl (G.2 0, 54, .inl (row r4)))]) := by rw [hE]; simp only [sel_n hne]; exact hD
      refine hret _ _ _ _ _ _ (-2) () dX9_tower_29 ?_ hP hD hS (Nat.le_of_ble_eq_true rfl) (Nat.le_of_ble_eq_true rfl)
      rw [hE, sel_n hne]
  · skip
    refine lv_aload_n hx hb dX9_tower_8 rfl (lv_at hl 0 rfl) ?_
    refine lv_iconst (v := (-1)) hx hb dX9_tower_9 (by decide) ?_
    refine x_Vi (wN := fun _ => (wM G am ho rn ln pl sd lt ro (rfU rf (-1)) nb ++ [(am 1, .inl (G.2 0, 54, .inl (row r)))] ++ [(am 2, .inl (G.2 0, 54, .inl (row rm)))] ++ [(am 3, .inl (G.2 0, 54, .inl (row r2)))] ++ [(am 4, .inl (G.2 0, 54, .inl (row r4)))])) ⟨C0, hK, hP, hD, hS, hA⟩ 0 rfl (ci := 8) rfl rfl ((m9_no l G am ho rn ln pl sd lt ro rf nb (-1) noOk_k.1)) (cwV 1 hts (lw_V q1206 q1208 qs66 q95 q1209) rfl rfl rfl (by decide +kernel) ⟨Nat.le_of_ble_eq_true rfl, Nat.le_of_ble_eq_true rfl⟩) [0, 1, 2, 3, 4] [1, 3, 5, 7, 9, 10, 12, 14, 16] rfl (fun _ => rfl) rfl rfl hl.1 rfl (Nat.le_of_ble_eq_true rfl) dX9_tower_10 ⟨(Nat.le_of_ble_eq_true rfl), (Nat.le_of_ble_eq_true rfl)⟩ (fun r_14 u_14 H locs hw_14 hP hD hS => ?_)
    have hw_14 : ((-1) : Int32) = r_14 := hw_14.symm
    subst hw_14
    have hP : va_P G.1 vwCl (wM G am ho rn ln pl sd lt ro (rfU rf (-1)) nb ++ [(am 1, .inl (G.2 0, 54, .inl (row r)))] ++ [(am 2, .inl (G.2 0, 54, .inl (row rm)))] ++ [(am 3, .inl (G.2 0, 54, .inl (row r2)))] ++ [(am 4, .inl (G.2 0, 54, .inl (row r4)))]) H := hP
    have hD : va_D A (wM G am ho rn ln pl sd lt ro (rfU rf (-1)) nb ++ [(am 1, .inl (G.2 0, 54, .inl (row r)))] ++ [(am 2, .inl (G.2 0, 54, .inl (row rm)))] ++ [(am 3, .inl (G.2 0, 54, .inl (row r2)))] ++ [(am 4, .inl (G.2 0, 54, .inl (row r4)))]) := hD
    have hE : eS (tB r t) (-1) (eS (inR w 0 2) (-2) 0) = (-1) := by rw [eS_f (show tB r t = false from (by have h9 := c_2; simpa [bI_0] using h9))]
    have hne : ((-1) : Int32) ≠ 0 := (by decide)
    have hP : va_P G.1 vwCl (wM G am ho rn ln pl sd lt ro (sel (eS (tB r t) (-1) (eS (inR w 0 2) (-2) 0)) rf (rfU rf (eS (tB r t) (-1) (eS (inR w 0 2) (-2) 0)))) nb ++ [(am 1, .inl (G.2 0, 54, .inl (row r)))] ++ [(am 2, .inl (G.2 0, 54, .inl (row rm)))] ++ [(am 3, .inl (G.2 0, 54, .inl (row r2)))] ++ [(am 4, .inl (G.2 0, 54, .inl (row r4)))]) H := by rw [hE]; simp only [sel_n hne]; exact hP
    have hD : va_D A (wM G am ho rn ln pl sd lt ro (sel (eS (tB r t) (-1) (eS (inR w 0 2) (-2) 0)) rf (rfU rf (eS (tB r t) (-1) (eS (inR w 0 2) (-2) 0)))) nb ++ [(am 1, .inl (G.2 0, 54, .inl (row r)))] ++ [(am 2, .inl (G.2 0, 54, .inl (row rm)))] ++ [(am 3, .inl (G.2 0, 54, .inl (row r2)))] ++ [(am 4, .inl (G.2 0, 54, .inl (row r4)))]) := by rw [hE]; simp only [sel_n hne]; exact hD
    refine hret _ _ _ _ _ _ (-1) () dX9_tower_13 ?_ hP hD hS (Nat.le_of_ble_eq_true rfl) (Nat.le_of_ble_eq_true rfl)
    rw [hE, sel_n hne]
set_option maxHeartbeats 4000000 in
set_option maxRecDepth 100000 in
theorem n_leastSpeed (l : Launch) (G : xG) (am : Nat → Nat) (r rm r2 r4 : Rw) (ho rn ln pl sd : Int32) (lt ro rf nb : Nat → Int32) (hr : Ok r) (hp : r 5 3 = 0) (t : Int32) : xCi l G yX9_leastSpeed cX9_leastSpeed 4 (some .int) ({ frames := 3, cells := 0, slots := 0, locals := 67 } : Room) [.ref (am 0), .int t] (wM G am ho rn ln pl sd lt ro rf nb ++ [(am 1, .inl (G.2 0, 54, .inl (row r)))] ++ [(am 2, .inl (G.2 0, 54, .inl (row rm)))] ++ [(am 3, .inl (G.2 0, 54, .inl (row r2)))] ++ [(am 4, .inl (G.2 0, 54, .inl (row r4)))]) (S := Unit) (fun v _ => v = sel (eS (tB r t) (-1) (eS (pSt r (ix t)) (-3) 0)) (pSlow r (ix t)) (eS (tB r t) (-1) (eS (pSt r (ix t)) (-3) 0))) (fun _ => (wM G am ho rn ln pl sd lt ro (sel (eS (tB r t) (-1) (eS (pSt r (ix t)) (-3) 0)) rf (rfU rf (eS (tB r t) (-1) (eS (pSt r (ix t)) (-3) 0)))) nb ++ [(am 1, .inl (G.2 0, 54, .inl (row r)))] ++ [(am 2, .inl (G.2 0, 54, .inl (row rm)))] ++ [(am 3, .inl (G.2 0, 54, .inl (row r2)))] ++ [(am 4, .inl (G.2 0, 54, .inl (row r4)))])) := by
  refine x_openi (by decide) (Nat.le_of_ble_eq_true rfl) (fun _ _ _ => rfl) ?_
  intro p e s m args below meth c A Q ls C0 hK hP hD hA hl hret
  obtain ⟨hx, hb, hml, hown, hts⟩ := id C0
  have hS : va_S A s.heap s.heap [] := va_S.rf
  have hP : va_P G.1 vwCl (wM G am ho rn ln pl sd lt ro rf nb ++ [(am 1, .inl (G.2 0, 54, .inl (row r)))] ++ [(am 2, .inl (G.2 0, 54, .inl (row rm)))] ++ [(am 3, .inl (G.2 0, 54, .inl (row r2)))] ++ [(am 4, .inl (G.2 0, 54, .inl (row r4)))]) s.heap := hP
  have hD : va_D A (wM G am ho rn ln pl sd lt ro rf nb ++ [(am 1, .inl (G.2 0, 54, .inl (row r)))] ++ [(am 2, .inl (G.2 0, 54, .inl (row rm)))] ++ [(am 3, .inl (G.2 0, 54, .inl (row r2)))] ++ [(am 4, .inl (G.2 0, 54, .inl (row r4)))]) := hD
  have hl : lv_has ls 4 [(0, .ref (am 0)), (1, .int t)] := hl
  have hr0 := hr.n
  have hN := hr.le
  refine lv_aload_n hx hb dX9_leastSpeed_0 rfl (lv_at hl 0 rfl) ?_
  refine lv_iload_n hx hb dX9_leastSpeed_1 rfl (lv_at hl 1 rfl) ?_
  refine lv_iconst (v := 0) hx hb dX9_leastSpeed_2 (by decide) ?_
  refine x_Vi (wN := fun _ => (wM G am ho rn ln pl sd lt ro rf nb ++ [(am 1, .inl (G.2 0, 54, .inl (row r)))] ++ [(am 2, .inl (G.2 0, 54, .inl (row rm)))] ++ [(am 3, .inl (G.2 0, 54, .inl (row r2)))] ++ [(am 4, .inl (G.2 0, 54, .inl (row r4)))])) ⟨C0, hK, hP, hD, hS, hA⟩ 0 rfl (ci := 8) rfl rfl ((m9_wrongPull l G am r rm r2 r4 ho rn ln pl sd lt ro rf nb hr hp t 0)) (cwV 2 hts (lw_V q1298 q1300 qs74 q95 q1301) rfl rfl rfl (by decide +kernel) ⟨Nat.le_of_ble_eq_true rfl, Nat.le_of_ble_eq_true rfl⟩) [0, 1, 2, 3, 4, 5, 6, 7, 8] [1, 3, 5, 7, 9, 11, 13, 15, 17] rfl (fun _ => rfl) rfl rfl hl.1 rfl (Nat.le_of_ble_eq_true rfl) dX9_leastSpeed_3 ⟨(Nat.le_of_ble_eq_true rfl), (Nat.le_of_ble_eq_true rfl)⟩ (fun r_1 u_1 H locs hw_1 hP hD hS => ?_)
  have hw_1 : r_1 = eS (tB r t) (-1) (eS (pSt r (ix t)) (-3) 0) := hw_1.trans (by rw [show wBy (0 : Int32).toInt 0 9 = 0 from by decide, eW_0 rfl])
  have hw_1 : (eS (tB r t) (-1) (eS (pSt r (ix t)) (-3) 0) : Int32) = r_1 := hw_1.symm
  subst hw_1
  refine lv_istore_n (lv' := [(2, .int (eS (tB r t) (-1) (eS (pSt r (ix t)) (-3) 0))), (0, .ref (am 0)), (1, .int t)]) hx hb dX9_leastSpeed_6 rfl hl (by decide) rfl (fun ls hl => ?_)
  refine lv_iload_n hx hb dX9_leastSpeed_7 rfl (lv_at hl 0 rfl) ?_
  refine lv_if_eq (tgt := 17) hx hb dX9_leastSpeed_8 (by decide) (fun c_2 => ?_) (fun c_2 => ?_)
  · skip
    obtain ⟨hz1, hz2⟩ := eS_z (by decide) (show eS (tB r t) (-1) (eS (pSt r (ix t)) (-3) 0) = 0 from c_2)
    obtain ⟨hz5, -⟩ := eS_z (by decide) hz2
    obtain ⟨hj_t, et_t⟩ := tB_ix hN hz1
    rw [et_t] at hl
    refine lv_iconst (v := 0) hx hb dX9_leastSpeed_17 (by decide) ?_
    refine lv_istore_n (lv' := [(3, .int 0), (2, .int (eS (tB r (nI (ix t))) (-1) (eS (pSt r (ix (nI (ix t)))) (-3) 0))), (0, .ref (am 0)), (1, .int (nI (ix t)))]) hx hb dX9_leastSpeed_18 rfl hl (by decide) rfl (fun ls hl => ?_)
    have loop_19 : ∀ (n : Nat) (i : Nat), (i ≤ 10) → (10 < i + n) → (∀ j, j < i → ¬ pPullN r (ix t) (nI j) = 0) → ∀ (H : Heap) (locs : List Loc) (ls : Array Slot), va_P G.1 vwCl (wM G am ho rn ln pl sd lt ro rf nb ++ [(am 1, .inl (G.2 0, 54, .inl (row r)))] ++ [(am 2, .inl (G.2 0, 54, .inl (row rm)))] ++ [(am 3, .inl (G.2 0, 54, .inl (row r2)))] ++ [(am 4, .inl (G.2 0, 54, .inl (row r4)))]) H → va_D A (wM G am ho rn ln pl sd lt ro rf nb ++ [(am 1, .inl (G.2 0, 54, .inl (row r)))] ++ [(am 2, .inl (G.2 0, 54, .inl (row rm)))] ++ [(am 3, .inl (G.2 0, 54, .inl (row r2)))] ++ [(am 4, .inl (G.2 0, 54, .inl (row r4)))]) → va_S A s.heap H locs → lv_has ls 4 [(3, .int (nI i)), (2, .int (eS (tB r (nI (ix t))) (-1) (eS (pSt r (ix (nI (ix t)))) (-3) 0))), (0, .ref (am 0)), (1, .int (nI (ix t)))] → W p l e ({ frames := 3, cells := 0, slots := 0, locals := 67 } : Room) s m args below meth c H locs 0 0 Q (F0 m 19 ls []) := by
      intro n
      induction n with
      | zero => intro i hi19_0 hi19_1 hi19_2; exact absurd hi19_1 (by omega)
      | succ n ih_19 =>
        intro i hi19_0 hi19_1 hi19_2 H locs ls hP hD hS hl
        refine lv_iload_n hx hb dX9_leastSpeed_19 rfl (lv_at hl 0 rfl) ?_
        refine lv_bipush (v := 10) hx hb dX9_leastSpeed_20 (by decide) ?_
        refine lv_icmp_ge (tgt := 45) hx hb dX9_leastSpeed_22 (by decide) (fun c_3 => ?_) (fun c_3 => ?_)
        · skip
          have g_3 := (nI_leI (by omega) (by omega)).mp (show nI i ≥ nI 10 from c_3)
          refine lv_bipush (v := (-9)) hx hb dX9_leastSpeed_45 (by decide) ?_
          have hE : eS (tB r t) (-1) (eS (pSt r (ix t)) (-3) 0) = 0 := by rw [show _ = _ from c_2]
          have hP : va_P G.1 vwCl (wM G am ho rn ln pl sd lt ro (sel (eS (tB r t) (-1) (eS (pSt r (ix t)) (-3) 0)) rf (rfU rf (eS (tB r t) (-1) (eS (pSt r (ix t)) (-3) 0)))) nb ++ [(am 1, .inl (G.2 0, 54, .inl (row r)))] ++ [(am 2, .inl (G.2 0, 54, .inl (row rm)))] ++ [(am 3, .inl (G.2 0, 54, .inl (row r2)))] ++ [(am 4, .inl (G.2 0, 54, .inl (row r4)))]) H := by rw [hE]; simp only [sel_0 rfl]; exact hP
          have hD : va_D A (wM G am ho rn ln pl sd lt ro (sel (eS (tB r t) (-1) (eS (pSt r (ix t)) (-3) 0)) rf (rfU rf (eS (tB r t) (-1) (eS (pSt r (ix t)) (-3) 0)))) nb ++ [(am 1, .inl (G.2 0, 54, .inl (row r)))] ++ [(am 2, .inl (G.2 0, 54, .inl (row rm)))] ++ [(am 3, .inl (G.2 0, 54, .inl (row r2)))] ++ [(am 4, .inl (G.2 0, 54, .inl (row r4)))]) := by rw [hE]; simp only [sel_0 rfl]; exact hD
          refine hret _ _ _ _ _ _ (-9) () dX9_leastSpeed_47 ?_ hP hD hS (Nat.le_of_ble_eq_true rfl) (Nat.le_of_ble_eq_true rfl)
          rw [hE, sel_0 rfl]
          exact pSlow_no (fun j hj => hi19_2 j (by omega))
        · skip
          have g_3 := mt (nI_leI (by omega) (by omega)).mpr (show ¬ (nI i ≥ nI 10) from c_3)
          refine lv_aload_n hx hb dX9_leastSpeed_25 rfl (lv_at hl 2 rfl) ?_
          refine va_get (D := G.1) (ci := 8) (v := .ref (am 1)) (C := RX9) (T := TX9) (N := 13) hx hb hts in_X9 hown hK.1 hP 0 rfl rfl 0 (by decide) (hts _ q1162) (fun _ h9 => h9) rfl dX9_leastSpeed_26 ?_
          refine lv_iload_n hx hb dX9_leastSpeed_29 rfl (lv_at hl 3 rfl) ?_
          refine lv_iload_n hx hb dX9_leastSpeed_30 rfl (lv_at hl 0 rfl) ?_
          refine x_Si (wN := fun _ => (wM G am ho rn ln pl sd lt ro rf nb ++ [(am 1, .inl (G.2 0, 54, .inl (row r)))] ++ [(am 2, .inl (G.2 0, 54, .inl (row rm)))] ++ [(am 3, .inl (G.2 0, 54, .inl (row r2)))] ++ [(am 4, .inl (G.2 0, 54, .inl (row r4)))])) ⟨C0, hK, hP, hD, hS, hA⟩ ((m9_shaken l G (am 1) r hr (nI (ix t)) (nI i))) (va_cwS 3 hts (lw_S q1260 q1261 q95 q1262) rfl rfl rfl (by decide +kernel) ⟨Nat.le_of_ble_eq_true rfl, Nat.le_of_ble_eq_true rfl⟩) [5] [0, 2, 4, 6, 8, 1, 12, 14, 16] rfl (fun _ => rfl) rfl rfl hl.1 rfl (Nat.le_of_ble_eq_true rfl) dX9_leastSpeed_31 ⟨(Nat.le_of_ble_eq_true rfl), (Nat.le_of_ble_eq_true rfl)⟩ (fun r_4 u_4 H locs hw_4 hP hD hS => ?_)
          have hw_4 : (bs (pShk r (nI (ix t)) (nI i)) (mny r) : Int32) = r_4 := hw_4.symm
          subst hw_4
          refine lv_if_ne (tgt := 39) hx hb dX9_leastSpeed_34 (by decide) (fun c_5 => ?_) (fun c_5 => ?_)
          · skip
            refine lv_iinc (v := nI (i + 1)) (lv' := [(3, .int (nI (i + 1))), (2, .int (eS (tB r (nI (ix t))) (-1) (eS (pSt r (ix (nI (ix t)))) (-3) 0))), (0, .ref (am 0)), (1, .int (nI (ix t)))]) hx hb dX9_leastSpeed_39 hl (k := 0) rfl (x_inc1 _) (by decide) rfl (fun ls hl => ?_)
            refine lv_goto (tgt := 19) hx hb dX9_leastSpeed_42 (by decide) ?_
            exact ih_19 (i + 1) (by omega) (by omega) (fun j hj => if q : j = i then q ▸ mt (sh_0 hr hj_t).mpr c_5 else hi19_2 j (by omega)) _ _ _ hP hD hS (lv_sub hl [0, 1, 2, 3] rfl)
          · skip
            refine lv_iload_n hx hb dX9_leastSpeed_37 rfl (lv_at hl 0 rfl) ?_
            have hE : eS (tB r t) (-1) (eS (pSt r (ix t)) (-3) 0) = 0 := by rw [show _ = _ from c_2]
            have hP : va_P G.1 vwCl (wM G am ho rn ln pl sd lt ro (sel (eS (tB r t) (-1) (eS (pSt r (ix t)) (-3) 0)) rf (rfU rf (eS (tB r t) (-1) (eS (pSt r (ix t)) (-3) 0)))) nb ++ [(am 1, .inl (G.2 0, 54, .inl (row r)))] ++ [(am 2, .inl (G.2 0, 54, .inl (row rm)))] ++ [(am 3, .inl (G.2 0, 54, .inl (row r2)))] ++ [(am 4, .inl (G.2 0, 54, .inl (row r4)))]) H := by rw [hE]; simp only [sel_0 rfl]; exact hP
            have hD : va_D A (wM G am ho rn ln pl sd lt ro (sel (eS (tB r t) (-1) (eS (pSt r (ix t)) (-3) 0)) rf (rfU rf (eS (tB r t) (-1) (eS (pSt r (ix t)) (-3) 0)))) nb ++ [(am 1, .inl (G.2 0, 54, .inl (row r)))] ++ [(am 2, .inl (G.2 0, 54, .inl (row rm)))] ++ [(am 3, .inl (G.2 0, 54, .inl (row r2)))] ++ [(am 4, .inl (G.2 0, 54, .inl (row r4)))]) := by rw [hE]; simp only [sel_0 rfl]; exact hD
            refine hret _ _ _ _ _ _ (nI i) () dX9_leastSpeed_38 ?_ hP hD hS (Nat.le_of_ble_eq_true rfl) (Nat.le_of_ble_eq_true rfl)
            rw [hE, sel_0 rfl]
            exact pSlow_at (by omega) hi19_2 ((sh_0 hr hj_t).mp c_5)
    exact loop_19 11 0 (by omega) (by omega) (fun j hj => absurd hj (Nat.not_lt_zero j)) _ _ _ hP hD hS (lv_sub hl [0, 1, 2, 3] rfl)
  · skip
    refine lv_aload_n hx hb dX9_leastSpeed_11 rfl (lv_at hl 1 rfl) ?_
    refine lv_iload_n hx hb dX9_leastSpeed_12 rfl (lv_at hl 0 rfl) ?_
    refine x_Vi (wN := fun _ => (wM G am ho rn ln pl sd lt ro (rfU rf (eS (tB r t) (-1) (eS (pSt r (ix t)) (-3) 0))) nb ++ [(am 1, .inl (G.2 0, 54, .inl (row r)))] ++ [(am 2, .inl (G.2 0, 54, .inl (row rm)))] ++ [(am 3, .inl (G.2 0, 54, .inl (row r2)))] ++ [(am 4, .inl (G.2 0, 54, .inl (row r4)))])) ⟨C0, hK, hP, hD, hS, hA⟩ 0 rfl (ci := 8) rfl rfl ((m9_no l G am ho rn ln pl sd lt ro rf nb (eS (tB r t) (-1) (eS (pSt r (ix t)) (-3) 0)) (cOk.no (cOk_S noOk_k.1 (cOk_S noOk_k.2.2.1 cOk_0)) c_2))) (cwV 1 hts (lw_V q1206 q1208 qs66 q95 q1209) rfl rfl rfl (by decide +kernel) ⟨Nat.le_of_ble_eq_true rfl, Nat.le_of_ble_eq_true rfl⟩) [0, 1, 2, 3, 4] [1, 3, 5, 7, 9, 10, 12, 14, 16] rfl (fun _ => rfl) rfl rfl hl.1 rfl (Nat.le_of_ble_eq_true rfl) dX9_leastSpeed_13 ⟨(Nat.le_of_ble_eq_true rfl), (Nat.le_of_ble_eq_true rfl)⟩ (fun r_6 u_6 H locs hw_6 hP hD hS => ?_)
    have hw_6 : (eS (tB r t) (-1) (eS (pSt r (ix t)) (-3) 0) : Int32) = r_6 := hw_6.symm
    subst hw_6
    have hP : va_P G.1 vwCl (wM G am ho rn ln pl sd lt ro (rfU rf (eS (tB r t) (-1) (eS (pSt r (ix t)) (-3) 0))) nb ++ [(am 1, .inl (G.2 0, 54, .inl (row r)))] ++ [(am 2, .inl (G.2 0, 54, .inl (row rm)))] ++ [(am 3, .inl (G.2 0, 54, .inl (row r2)))] ++ [(am 4, .inl (G.2 0, 54, .inl (row r4)))]) H := hP
    have hD : va_D A (wM G am ho rn ln pl sd lt ro (rfU rf (eS (tB r t) (-1) (eS (pSt r (ix t)) (-3) 0))) nb ++ [(am 1, .inl (G.2 0, 54, .inl (row r)))] ++ [(am 2, .inl (G.2 0, 54, .inl (row rm)))] ++ [(am 3, .inl (G.2 0, 54, .inl (row r2)))] ++ [(am 4, .inl (G.2 0, 54, .inl (row r4)))]) := hD
    have hE : eS (tB r t) (-1) (eS (pSt r (ix t)) (-3) 0) = eS (tB r t) (-1) (eS (pSt r (ix t)) (-3) 0) := rfl
    have hne : (eS (tB r t) (-1) (eS (pSt r (ix t)) (-3) 0) : Int32) ≠ 0 := c_2
    have hP : va_P G.1 vwCl (wM G am ho rn ln pl sd lt ro (sel (eS (tB r t) (-1) (eS (pSt r (ix t)) (-3) 0)) rf (rfU rf (eS (tB r t) (-1) (eS (pSt r (ix t)) (-3) 0)))) nb ++ [(am 1, .inl (G.2 0, 54, .inl (row r)))] ++ [(am 2, .inl (G.2 0, 54, .inl (row rm)))] ++ [(am 3, .inl (G.2 0, 54, .inl (row r2)))] ++ [(am 4, .inl (G.2 0, 54, .inl (row r4)))]) H := by rw [hE]; simp only [sel_n hne]; exact hP
    have hD : va_D A (wM G am ho rn ln pl sd lt ro (sel (eS (tB r t) (-1) (eS (pSt r (ix t)) (-3) 0)) rf (rfU rf (eS (tB r t) (-1) (eS (pSt r (ix t)) (-3) 0)))) nb ++ [(am 1, .inl (G.2 0, 54, .inl (row r)))] ++ [(am 2, .inl (G.2 0, 54, .inl (row rm)))] ++ [(am 3, .inl (G.2 0, 54, .inl (row r2)))] ++ [(am 4, .inl (G.2 0, 54, .inl (row r4)))]) := by rw [hE]; simp only [sel_n hne]; exact hD
    refine hret _ _ _ _ _ _ (eS (tB r t) (-1) (eS (pSt r (ix t)) (-3) 0)) () dX9_leastSpeed_16 ?_ hP hD hS (Nat.le_of_ble_eq_true rfl) (Nat.le_of_ble_eq_true rfl)
    rw [hE, sel_n hne]
set_option maxHeartbeats 4000000 in
set_option maxRecDepth 100000 in
theorem n_atOnce (l : Launch) (G : xG) (am : Nat → Nat) (r rm r2 r4 : Rw) (ho rn ln pl sd : Int32) (lt ro rf nb : Nat → Int32) (hr : Ok r) (hp : r 5 3 = 0) (t sp : Int32) : xCi l G yX9_atOnce cX9_atOnce 4 (some .int) ({ frames := 3, cells := 0, slots := 0, locals := 67 } : Room) [.ref (am 0), .int t, .int sp] (wM G am ho rn ln pl sd lt ro rf nb ++ [(am 1, .inl (G.2 0, 54, .inl (row r)))] ++ [(am 2, .inl (G.2 0, 54, .inl (row rm)))] ++ [(am 3, .inl (G.2 0, 54, .inl (row r2)))] ++ [(am 4, .inl (G.2 0, 54, .inl (row r4)))]) (S := Unit) (fun v _ => v = sel (eS (tB r t) (-1) (eW (wBy sp.toInt 0 9) (eS (pSt r (ix t)) (-3) 0))) (pFB r (ix t) sp) (eS (tB r t) (-1) (eW (wBy sp.toInt 0 9) (eS (pSt r (ix t)) (-3) 0)))) (fun _ => (wM G am ho rn ln pl sd lt ro (sel (eS (tB r t) (-1) (eW (wBy sp.toInt 0 9) (eS (pSt r (ix t)) (-3) 0))) rf (rfU rf (eS (tB r t) (-1) (eW (wBy sp.toInt 0 9) (eS (pSt r (ix t)) (-3) 0))))) nb ++ [(am 1, .inl (G.2 0, 54, .inl (row r)))] ++ [(am 2, .inl (G.2 0, 54, .inl (row rm)))] ++ [(am 3, .inl (G.2 0, 54, .inl (row r2)))] ++ [(am 4, .inl (G.2 0, 54, .inl (row r4)))])) := by
  refine x_openi (by decide) (Nat.le_of_ble_eq_true rfl) (fun _ _ _ => rfl) ?_
  intro p e s m args below meth c A Q ls C0 hK hP hD hA hl hret
  obtain ⟨hx, hb, hml, hown, hts⟩ := id C0
  have hS : va_S A s.heap s.heap [] := va_S.rf
  have hP : va_P G.1 vwCl (wM G am ho rn ln pl sd lt ro rf nb ++ [(am 1, .inl (G.2 0, 54, .inl (row r)))] ++ [(am 2, .inl (G.2 0, 54, .inl (row rm)))] ++ [(am 3, .inl (G.2 0, 54, .inl (row r2)))] ++ [(am 4, .inl (G.2 0, 54, .inl (row r4)))]) s.heap := hP
  have hD : va_D A (wM G am ho rn ln pl sd lt ro rf nb ++ [(am 1, .inl (G.2 0, 54, .inl (row r)))] ++ [(am 2, .inl (G.2 0, 54, .inl (row rm)))] ++ [(am 3, .inl (G.2 0, 54, .inl (row r2)))] ++ [(am 4, .inl (G.2 0, 54, .inl (row r4)))]) := hD
  have hl : lv_has ls 4 [(0, .ref (am 0)), (1, .int t), (2, .int sp)] := hl
  have hr0 := hr.n
  have hN := hr.le
  refine lv_aload_n hx hb dX9_atOnce_0 rfl (lv_at hl 0 rfl) ?_
  refine lv_iload_n hx hb dX9_atOnce_1 rfl (lv_at hl 1 rfl) ?_
  refine lv_iload_n hx hb dX9_atOnce_2 rfl (lv_at hl 2 rfl) ?_
  refine x_Vi (wN := fun _ => (wM G am ho rn ln pl sd lt ro rf nb ++ [(am 1, .inl (G.2 0, 54, .inl (row r)))] ++ [(am 2, .inl (G.2 0, 54, .inl (row rm)))] ++ [(am 3, .inl (G.2 0, 54, .inl (row r2)))] ++ [(am 4, .inl (G.2 0, 54, .inl (row r4)))])) ⟨C0, hK, hP, hD, hS, hA⟩ 0 rfl (ci := 8) rfl rfl ((m9_wrongPull l G am r rm r2 r4 ho rn ln pl sd lt ro rf nb hr hp t sp)) (cwV 2 hts (lw_V q1298 q1300 qs74 q95 q1301) rfl rfl rfl (by decide +kernel) ⟨Nat.le_of_ble_eq_true rfl, Nat.le_of_ble_eq_true rfl⟩) [0, 1, 2, 3, 4, 5, 6, 7, 8] [1, 3, 5, 7, 9, 11, 13, 15, 17] rfl (fun _ => rfl) rfl rfl hl.1 rfl (Nat.le_of_ble_eq_true rfl) dX9_atOnce_3 ⟨(Nat.le_of_ble_eq_true rfl), (Nat.le_of_ble_eq_true rfl)⟩ (fun r_1 u_1 H locs hw_1 hP hD hS => ?_)
  have hw_1 : (eS (tB r t) (-1) (eW (wBy sp.toInt 0 9) (eS (pSt r (ix t)) (-3) 0)) : Int32) = r_1 := hw_1.symm
  subst hw_1
  refine lv_istore_n (lv' := [(3, .int (eS (tB r t) (-1) (eW (wBy sp.toInt 0 9) (eS (pSt r (ix t)) (-3) 0)))), (0, .ref (am 0)), (1, .int t), (2, .int sp)]) hx hb dX9_atOnce_6 rfl hl (by decide) rfl (fun ls hl => ?_)
  refine lv_iload_n hx hb dX9_atOnce_7 rfl (lv_at hl 0 rfl) ?_
  refine lv_if_eq (tgt := 19) hx hb dX9_atOnce_8 (by decide) (fun c_2 => ?_) (fun c_2 => ?_)
  · skip
    obtain ⟨hz1, hz2⟩ := eS_z (by decide) (show eS (tB r t) (-1) (eW (wBy sp.toInt 0 9) (eS (pSt r (ix t)) (-3) 0)) = 0 from c_2)
    obtain ⟨hz3, hz4⟩ := eW_z hz2
    obtain ⟨hz5, -⟩ := eS_z (by decide) hz4
    obtain ⟨hj_t, et_t⟩ := tB_ix hN hz1
    rw [et_t] at hl
    refine lv_aload_n hx hb dX9_atOnce_19 rfl (lv_at hl 1 rfl) ?_
    refine va_get (D := G.1) (ci := 8) (v := .ref (am 1)) (C := RX9) (T := TX9) (N := 13) hx hb hts in_X9 hown hK.1 hP 0 rfl rfl 0 (by decide) (hts _ q1162) (fun _ h9 => h9) rfl dX9_atOnce_20 ?_
    refine lv_iload_n hx hb dX9_atOnce_23 rfl (lv_at hl 2 rfl) ?_
    refine lv_iload_n hx hb dX9_atOnce_24 rfl (lv_at hl 3 rfl) ?_
    refine x_Si (wN := fun _ => (wM G am ho rn ln pl sd lt ro rf nb ++ [(am 1, .inl (G.2 0, 54, .inl (row r)))] ++ [(am 2, .inl (G.2 0, 54, .inl (row rm)))] ++ [(am 3, .inl (G.2 0, 54, .inl (row r2)))] ++ [(am 4, .inl (G.2 0, 54, .inl (row r4)))])) ⟨C0, hK, hP, hD, hS, hA⟩ ((m9_shaken l G (am 1) r hr (nI (ix t)) sp)) (va_cwS 3 hts (lw_S q1260 q1261 q95 q1262) rfl rfl rfl (by decide +kernel) ⟨Nat.le_of_ble_eq_true rfl, Nat.le_of_ble_eq_true rfl⟩) [5] [0, 2, 4, 6, 8, 1, 12, 14, 16] rfl (fun _ => rfl) rfl rfl hl.1 rfl (Nat.le_of_ble_eq_true rfl) dX9_atOnce_25 ⟨(Nat.le_of_ble_eq_true rfl), (Nat.le_of_ble_eq_true rfl)⟩ (fun r_3 u_3 H locs hw_3 hP hD hS => ?_)
    have hw_3 : (bs (pShk r (nI (ix t)) sp) (mny r) : Int32) = r_3 := hw_3.symm
    subst hw_3
    have hE : eS (tB r t) (-1) (eW (wBy sp.toInt 0 9) (eS (pSt r (ix t)) (-3) 0)) = 0 := by rw [show _ = _ from c_2]
    have hP : va_P G.1 vwCl (wM G am ho rn ln pl sd lt ro (sel (eS (tB r t) (-1) (eW (wBy sp.toInt 0 9) (eS (pSt r (ix t)) (-3) 0))) rf (rfU rf (eS (tB r t) (-1) (eW (wBy sp.toInt 0 9) (eS (pSt r (ix t)) (-3) 0))))) nb ++ [(am 1, .inl (G.2 0, 54, .inl (row r)))] ++ [(am 2, .inl (G.2 0, 54, .inl (row rm)))] ++ [(am 3, .inl (G.2 0, 54, .inl (row r2)))] ++ [(am 4, .inl (G.2 0, 54, .inl (row r4)))]) H := by rw [hE]; simp only [sel_0 rfl]; exact hP
    have hD : va_D A (wM G am ho rn ln pl sd lt ro (sel (eS (tB r t) (-1) (eW (wBy sp.toInt 0 9) (eS (pSt r (ix t)) (-3) 0))) rf (rfU rf (eS (tB r t) (-1) (eW (wBy sp.toInt 0 9) (eS (pSt r (ix t)) (-3) 0))))) nb ++ [(am 1, .inl (G.2 0, 54, .inl (row r)))] ++ [(am 2, .inl (G.2 0, 54, .inl (row rm)))] ++ [(am 3, .inl (G.2 0, 54, .inl (row r2)))] ++ [(am 4, .inl (G.2 0, 54, .inl (row r4)))]) := by rw [hE]; simp only [sel_0 rfl]; exact hD
    refine hret _ _ _ _ _ _ (bs (pShk r (nI (ix t)) sp) (mny r)) () dX9_atOnce_28 ?_ hP hD hS (Nat.le_of_ble_eq_true rfl) (Nat.le_of_ble_eq_true rfl)
    rw [hE, sel_0 rfl]
    exact pFB_sh hr hj_t
  · skip
    refine lv_aload_n hx hb dX9_atOnce_11 rfl (lv_at hl 1 rfl) ?_
    refine lv_iload_n hx hb dX9_atOnce_12 rfl (lv_at hl 0 rfl) ?_
    refine x_Vi (wN := fun _ => (wM G am ho rn ln pl sd lt ro (rfU rf (eS (tB r t) (-1) (eW (wBy sp.toInt 0 9) (eS (pSt r (ix t)) (-3) 0)))) nb ++ [(am 1, .inl (G.2 0, 54, .inl (row r)))] ++ [(am 2, .inl (G.2 0, 54, .inl (row rm)))] ++ [(am 3, .inl (G.2 0, 54, .inl (row r2)))] ++ [(am 4, .inl (G.2 0, 54, .inl (row r4)))])) ⟨C0, hK, hP, hD, hS, hA⟩ 0 rfl (ci := 8) rfl rfl ((m9_no l G am ho rn ln pl sd lt ro rf nb (eS (tB r t) (-1) (eW (wBy sp.toInt 0 9) (eS (pSt r (ix t)) (-3) 0))) (cOk.no (cOk_S noOk_k.1 (cOk_W (cOk_S noOk_k.2.2.1 cOk_0))) c_2))) (cwV 1 hts (lw_V q1206 q1208 qs66 q95 q1209) rfl rfl rfl (by decide +kernel) ⟨Nat.le_of_ble_eq_true rfl, Nat.le_of_ble_eq_true rfl⟩) [0, 1, 2, 3, 4] [1, 3, 5, 7, 9, 10, 12, 14, 16] rfl (fun _ => rfl) rfl rfl hl.1 rfl (Nat.le_of_ble_eq_true rfl) dX9_atOnce_13 ⟨(Nat.le_of_ble_eq_true rfl), (Nat.le_of_ble_eq_true rfl)⟩ (fun r_4 u_4 H locs hw_4 hP hD hS => ?_)
    have hw_4 : (eS (tB r t) (-1) (eW (wBy sp.toInt 0 9) (eS (pSt r (ix t)) (-3) 0)) : Int32) = r_4 := hw_4.symm
    subst hw_4
    have hP : va_P G.1 vwCl (wM G am ho rn ln pl sd lt ro (rfU rf (eS (tB r t) (-1) (eW (wBy sp.toInt 0 9) (eS (pSt r (ix t)) (-3) 0)))) nb ++ [(am 1, .inl (G.2 0, 54, .inl (row r)))] ++ [(am 2, .inl (G.2 0, 54, .inl (row rm)))] ++ [(am 3, .inl (G.2 0, 54, .inl (row r2)))] ++ [(am 4, .inl (G.2 0, 54, .inl (row r4)))]) H := hP
    have hD : va_D A (wM G am ho rn ln pl sd lt ro (rfU rf (eS (tB r t) (-1) (eW (wBy sp.toInt 0 9) (eS (pSt r (ix t)) (-3) 0)))) nb ++ [(am 1, .inl (G.2 0, 54, .inl (row r)))] ++ [(am 2, .inl (G.2 0, 54, .inl (row rm)))] ++ [(am 3, .inl (G.2 0, 54, .inl (row r2)))] ++ [(am 4, .inl (G.2 0, 54, .inl (row r4)))]) := hD
    refine lv_goto (tgt := 28) hx hb dX9_atOnce_16 (by decide) ?_
    have hE : eS (tB r t) (-1) (eW (wBy sp.toInt 0 9) (eS (pSt r (ix t)) (-3) 0)) = eS (tB r t) (-1) (eW (wBy sp.toInt 0 9) (eS (pSt r (ix t)) (-3) 0)) := rfl
    have hne : (eS (tB r t) (-1) (eW (wBy sp.toInt 0 9) (eS (pSt r (ix t)) (-3) 0)) : Int32) ≠ 0 := c_2
    have hP : va_P G.1 vwCl (wM G am ho rn ln pl sd lt ro (sel (eS (tB r t) (-1) (eW (wBy sp.toInt 0 9) (eS (pSt r (ix t)) (-3) 0))) rf (rfU rf (eS (tB r t) (-1) (eW (wBy sp.toInt 0 9) (eS (pSt r (ix t)) (-3) 0))))) nb ++ [(am 1, .inl (G.2 0, 54, .inl (row r)))] ++ [(am 2, .inl (G.2 0, 54, .inl (row rm)))] ++ [(am 3, .inl (G.2 0, 54, .inl (row r2)))] ++ [(am 4, .inl (G.2 0, 54, .inl (row r4)))]) H := by rw [hE]; simp only [sel_n hne]; exact hP
    have hD : va_D A (wM G am ho rn ln pl sd lt ro (sel (eS (tB r t) (-1) (eW (wBy sp.toInt 0 9) (eS (pSt r (ix t)) (-3) 0))) rf (rfU rf (eS (tB r t) (-1) (eW (wBy sp.toInt 0 9) (eS (pSt r (ix t)) (-3) 0))))) nb ++ [(am 1, .inl (G.2 0, 54, .inl (row r)))] ++ [(am 2, .inl (G.2 0, 54, .inl (row rm)))] ++ [(am 3, .inl (G.2 0, 54, .inl (row r2)))] ++ [(am 4, .inl (G.2 0, 54, .inl (row r4)))]) := by rw [hE]; simp only [sel_n hne]; exact hD
    refine hret _ _ _ _ _ _ (eS (tB r t) (-1) (eW (wBy sp.toInt 0 9) (eS (pSt r (ix t)) (-3) 0))) () dX9_atOnce_28 ?_ hP hD hS (Nat.le_of_ble_eq_true rfl) (Nat.le_of_ble_eq_true rfl)
    rw [hE, sel_n hne]
set_option maxHeartbeats 4000000 in
set_option maxRecDepth 100000 in
theorem n_later (l : Launch) (G : xG) (am : Nat → Nat) (r rm r2 r4 : Rw) (ho rn ln pl sd : Int32) (lt ro rf nb : Nat → Int32) (hr : Ok r) (hp : r 5 3 = 0) (t sp mi : Int32) : xCi l G yX9_later cX9_later 8 (some .int) ({ frames := 6, cells := 0, slots := 0, locals := 131 } : Room) [.ref (am 0), .int t, .int sp, .int mi] (wM G am ho rn ln pl sd lt ro rf nb ++ [(am 1, .inl (G.2 0, 54, .inl (row r)))] ++ [(am 2, .inl (G.2 0, 54, .inl (row rm)))] ++ [(am 3, .inl (G.2 0, 54, .inl (row r2)))] ++ [(am 4, .inl (G.2 0, 54, .inl (row r4)))]) (S := Rw) (fun v _ => v = sel (eS (tB r t) (-1) (eS (decide (¬ sp < 0 ∧ ¬ mi < 0)) (-4) (eS (decide (sp ≤ 9 ∧ mi ≤ 99)) (-6) (eS (pSt r (ix t)) (-3) 0)))) (pFL r (ix t) sp (ix mi)) (eS (tB r t) (-1) (eS (decide (¬ sp < 0 ∧ ¬ mi < 0)) (-4) (eS (decide (sp ≤ 9 ∧ mi ≤ 99)) (-6) (eS (pSt r (ix t)) (-3) 0))))) (fun u => (wM G am ho rn ln pl sd lt ro (sel (eS (tB r t) (-1) (eS (decide (¬ sp < 0 ∧ ¬ mi < 0)) (-4) (eS (decide (sp ≤ 9 ∧ mi ≤ 99)) (-6) (eS (pSt r (ix t)) (-3) 0)))) rf (rfU rf (eS (tB r t) (-1) (eS (decide (¬ sp < 0 ∧ ¬ mi < 0)) (-4) (eS (decide (sp ≤ 9 ∧ mi ≤ 99)) (-6) (eS (pSt r (ix t)) (-3) 0)))))) nb ++ [(am 1, .inl (G.2 0, 54, .inl (row r)))] ++ [(am 2, .inl (G.2 0, 54, .inl (row u)))] ++ [(am 3, .inl (G.2 0, 54, .inl (row r2)))] ++ [(am 4, .inl (G.2 0, 54, .inl (row r4)))])) := by
  refine x_openi (by decide) (Nat.le_of_ble_eq_true rfl) (fun _ _ _ => rfl) ?_
  intro p e s m args below meth c A Q ls C0 hK hP hD hA hl hret
  obtain ⟨hx, hb, hml, hown, hts⟩ := id C0
  have hS : va_S A s.heap s.heap [] := va_S.rf
  have hP : va_P G.1 vwCl (wM G am ho rn ln pl sd lt ro rf nb ++ [(am 1, .inl (G.2 0, 54, .inl (row r)))] ++ [(am 2, .inl (G.2 0, 54, .inl (row rm)))] ++ [(am 3, .inl (G.2 0, 54, .inl (row r2)))] ++ [(am 4, .inl (G.2 0, 54, .inl (row r4)))]) s.heap := hP
  have hD : va_D A (wM G am ho rn ln pl sd lt ro rf nb ++ [(am 1, .inl (G.2 0, 54, .inl (row r)))] ++ [(am 2, .inl (G.2 0, 54, .inl (row rm)))] ++ [(am 3, .inl (G.2 0, 54, .inl (row r2)))] ++ [(am 4, .inl (G.2 0, 54, .inl (row r4)))]) := hD
  have hl : lv_has ls 8 [(0, .ref (am 0)), (1, .int t), (2, .int sp), (3, .int mi)] := hl
  have hr0 := hr.n
  have hN := hr.le
  refine lv_aload_n hx hb dX9_later_0 rfl (lv_at hl 0 rfl) ?_
  refine lv_iload_n hx hb dX9_later_1 rfl (lv_at hl 1 rfl) ?_
  refine x_Vi (wN := fun _ => (wM G am ho rn ln pl sd lt ro rf nb ++ [(am 1, .inl (G.2 0, 54, .inl (row r)))] ++ [(am 2, .inl (G.2 0, 54, .inl (row rm)))] ++ [(am 3, .inl (G.2 0, 54, .inl (row r2)))] ++ [(am 4, .inl (G.2 0, 54, .inl (row r4)))])) ⟨C0, hK, hP, hD, hS, hA⟩ 0 rfl (ci := 8) rfl rfl ((m9_isThing l G am r rm r2 r4 ho rn ln pl sd lt ro rf nb hr hp t)) (cwV 1 hts (lw_V q1247 q1249 qs73 q95 q1250) rfl rfl rfl (by decide +kernel) ⟨Nat.le_of_ble_eq_true rfl, Nat.le_of_ble_eq_true rfl⟩) [0, 1, 2, 3, 4, 5, 6, 7, 8] [1, 3, 5, 7, 9, 11, 13, 15, 17] rfl (fun _ => rfl) rfl rfl hl.1 rfl (Nat.le_of_ble_eq_true rfl) dX9_later_2 ⟨(Nat.le_of_ble_eq_true rfl), (Nat.le_of_ble_eq_true rfl)⟩ (fun r_1 u_1 H locs hw_1 hP hD hS => ?_)
  have hw_1 : (bI (tB r t) : Int32) = r_1 := hw_1.symm
  subst hw_1
  refine lv_if_ne (tgt := 12) hx hb dX9_later_5 (by decide) (fun c_2 => ?_) (fun c_2 => ?_)
  · skip
    obtain ⟨hj_t, et_t⟩ := tB_ix hN (by first | exact bI_n0 c_2 | exact bI_0.mp c_2)
    rw [et_t] at hl
    refine lv_iload_n hx hb dX9_later_12 rfl (lv_at hl 2 rfl) ?_
    refine lv_if_lt (tgt := 20) hx hb dX9_later_13 (by decide) (fun c_3 => ?_) (fun c_3 => ?_)
    · skip
      refine lv_bipush (v := (-4)) hx hb dX9_later_20 (by decide) ?_
      refine lv_goto (tgt := 59) hx hb dX9_later_22 (by decide) ?_
      refine lv_istore (lv' := [(4, .int (-4)), (0, .ref (am 0)), (1, .int (nI (ix t))), (2, .int sp), (3, .int mi)]) hx hb dX9_later_59 hl (by decide) rfl (fun ls hl => ?_)
      refine lv_iload hx hb dX9_later_61 (lv_at hl 0 rfl) ?_
      refine lv_if_eq (tgt := 73) hx hb dX9_later_63 (by decide) (fun c_4 => ?_) (fun c_4 => ?_)
      · skip
        exact absurd c_4 (by decide)
      · skip
        refine lv_aload_n hx hb dX9_later_66 rfl (lv_at hl 1 rfl) ?_
        refine lv_iload hx hb dX9_later_67 (lv_at hl 0 rfl) ?_
        refine x_Vi (wN := fun _ => (wM G am ho rn ln pl sd lt ro (rfU rf (-4)) nb ++ [(am 1, .inl (G.2 0, 54, .inl (row r)))] ++ [(am 2, .inl (G.2 0, 54, .inl (row rm)))] ++ [(am 3, .inl (G.2 0, 54, .inl (row r2)))] ++ [(am 4, .inl (G.2 0, 54, .inl (row r4)))])) ⟨C0, hK, hP, hD, hS, hA⟩ 0 rfl (ci := 8) rfl rfl ((m9_no l G am ho rn ln pl sd lt ro rf nb (-4) noOk_k.2.2.2.1)) (cwV 1 hts (lw_V q1206 q1208 qs66 q95 q1209) rfl rfl rfl (by decide +kernel) ⟨Nat.le_of_ble_eq_true rfl, Nat.le_of_ble_eq_true rfl⟩) [0, 1, 2, 3, 4] [1, 3, 5, 7, 9, 10, 12, 14, 16] rfl (fun _ => rfl) rfl rfl hl.1 rfl (Nat.le_of_ble_eq_true rfl) dX9_later_69 ⟨(Nat.le_of_ble_eq_true rfl), (Nat.le_of_ble_eq_true rfl)⟩ (fun r_5 u_5 H locs hw_5 hP hD hS => ?_)
        have hw_5 : ((-4) : Int32) = r_5 := hw_5.symm
        subst hw_5
        have hP : va_P G.1 vwCl (wM G am ho rn ln pl sd lt ro (rfU rf (-4)) nb ++ [(am 1, .inl (G.2 0, 54, .inl (row r)))] ++ [(am 2, .inl (G.2 0, 54, .inl (row rm)))] ++ [(am 3, .inl (G.2 0, 54, .inl (row r2)))] ++ [(am 4, .inl (G.2 0, 54, .inl (row r4)))]) H := hP
        have hD : va_D A (wM G am ho rn ln pl sd lt ro (rfU rf (-4)) nb ++ [(am 1, .inl (G.2 0, 54, .inl (row r)))] ++ [(am 2, .inl (G.2 0, 54, .inl (row rm)))] ++ [(am 3, .inl (G.2 0, 54, .inl (row r2)))] ++ [(am 4, .inl (G.2 0, 54, .inl (row r4)))]) := hD
        have hE : eS (tB r t) (-1) (eS (decide (¬ sp < 0 ∧ ¬ mi < 0)) (-4) (eS (decide (sp ≤ 9 ∧ mi ≤ 99)) (-6) (eS (pSt r (ix t)) (-3) 0))) = (-4) := by rw [eS_t (show tB r t = true from (by first | exact bI_n0 c_2 | exact bI_0.mp c_2)), eS_f (decide_eq_false (fun z => z.1 c_3))]
        have hne : ((-4) : Int32) ≠ 0 := (by decide)
        have hP : va_P G.1 vwCl (wM G am ho rn ln pl sd lt ro (sel (eS (tB r t) (-1) (eS (decide (¬ sp < 0 ∧ ¬ mi < 0)) (-4) (eS (decide (sp ≤ 9 ∧ mi ≤ 99)) (-6) (eS (pSt r (ix t)) (-3) 0)))) rf (rfU rf (eS (tB r t) (-1) (eS (decide (¬ sp < 0 ∧ ¬ mi < 0)) (-4) (eS (decide (sp ≤ 9 ∧ mi ≤ 99)) (-6) (eS (pSt r (ix t)) (-3) 0)))))) nb ++ [(am 1, .inl (G.2 0, 54, .inl (row r)))] ++ [(am 2, .inl (G.2 0, 54, .inl (row rm)))] ++ [(am 3, .inl (G.2 0, 54, .inl (row r2)))] ++ [(am 4, .inl (G.2 0, 54, .inl (row r4)))]) H := by rw [hE]; simp only [sel_n hne]; exact hP
        have hD : va_D A (wM G am ho rn ln pl sd lt ro (sel (eS (tB r t) (-1) (eS (decide (¬ sp < 0 ∧ ¬ mi < 0)) (-4) (eS (decide (sp ≤ 9 ∧ mi ≤ 99)) (-6) (eS (pSt r (ix t)) (-3) 0)))) rf (rfU rf (eS (tB r t) (-1) (eS (decide (¬ sp < 0 ∧ ¬ mi < 0)) (-4) (eS (decide (sp ≤ 9 ∧ mi ≤ 99)) (-6) (eS (pSt r (ix t)) (-3) 0)))))) nb ++ [(am 1, .inl (G.2 0, 54, .inl (row r)))] ++ [(am 2, .inl (G.2 0, 54, .inl (row rm)))] ++ [(am 3, .inl (G.2 0, 54, .inl (row r2)))] ++ [(am 4, .inl (G.2 0, 54, .inl (row r4)))]) := by rw [hE]; simp only [sel_n hne]; exact hD
        refine hret _ _ _ _ _ _ (-4) rm dX9_later_72 ?_ hP hD hS (Nat.le_of_ble_eq_true rfl) (Nat.le_of_ble_eq_true rfl)
        rw [hE, sel_n hne]
    · skip
      refine lv_iload_n hx hb dX9_later_16 rfl (lv_at hl 3 rfl) ?_
      refine lv_if_ge (tgt := 25) hx hb dX9_later_17 (by decide) (fun c_6 => ?_) (fun c_6 => ?_)
      · skip
        refine lv_iload_n hx hb dX9_later_25 rfl (lv_at hl 2 rfl) ?_
        refine lv_bipush (v := 9) hx hb dX9_later_26 (by decide) ?_
        refine lv_icmp_gt (tgt := 37) hx hb dX9_later_28 (by decide) (fun c_7 => ?_) (fun c_7 => ?_)
        · skip
          refine lv_bipush (v := (-6)) hx hb dX9_later_37 (by decide) ?_
          refine lv_goto (tgt := 59) hx hb dX9_later_39 (by decide) ?_
          refine lv_istore (lv' := [(4, .int (-6)), (0, .ref (am 0)), (1, .int (nI (ix t))), (2, .int sp), (3, .int mi)]) hx hb dX9_later_59 hl (by decide) rfl (fun ls hl => ?_)
          refine lv_iload hx hb dX9_later_61 (lv_at hl 0 rfl) ?_
          refine lv_if_eq (tgt := 73) hx hb dX9_later_63 (by decide) (fun c_8 => ?_) (fun c_8 => ?_)
          · skip
            exact absurd c_8 (by decide)
          · skip
            refine lv_aload_n hx hb dX9_later_66 rfl (lv_at hl 1 rfl) ?_
            refine lv_iload hx hb dX9_later_67 (lv_at hl 0 rfl) ?_
            refine x_Vi (wN := fun _ => (wM G am ho rn ln pl sd lt ro (rfU rf (-6)) nb ++ [(am 1, .inl (G.2 0, 54, .inl (row r)))] ++ [(am 2, .inl (G.2 0, 54, .inl (row rm)))] ++ [(am 3, .inl (G.2 0, 54, .inl (row r2)))] ++ [(am 4, .inl (G.2 0, 54, .inl (row r4)))])) ⟨C0, hK, hP, hD, hS, hA⟩ 0 rfl (ci := 8) rfl rfl ((m9_no l G am ho rn ln pl sd lt ro rf nb (-6) noOk_k.2.2.2.2)) (cwV 1 hts (lw_V q1206 q1208 qs66 q95 q1209) rfl rfl rfl (by decide +kernel) ⟨Nat.le_of_ble_eq_true rfl, Nat.le_of_ble_eq_true rfl⟩) [0, 1, 2, 3, 4] [1, 3, 5, 7, 9, 10, 12, 14, 16] rfl (fun _ => rfl) rfl rfl hl.1 rfl (Nat.le_of_ble_eq_true rfl) dX9_later_69 ⟨(Nat.le_of_ble_eq_true rfl), (Nat.le_of_ble_eq_true rfl)⟩ (fun r_9 u_9 H locs hw_9 hP hD hS => ?_)
            have hw_9 : ((-6) : Int32) = r_9 := hw_9.symm
            subst hw_9
            have hP : va_P G.1 vwCl (wM G am ho rn ln pl sd lt ro (rfU rf (-6)) nb ++ [(am 1, .inl (G.2 0, 54, .inl (row r)))] ++ [(am 2, .inl (G.2 0, 54, .inl (row rm)))] ++ [(am 3, .inl (G.2 0, 54, .inl (row r2)))] ++ [(am 4, .inl (G.2 0, 54, .inl (row r4)))]) H := hP
            have hD : va_D A (wM G am ho rn ln pl sd lt ro (rfU rf (-6)) nb ++ [(am 1, .inl (G.2 0, 54, .inl (row r)))] ++ [(am 2, .inl (G.2 0, 54, .inl (row rm)))] ++ [(am 3, .inl (G.2 0, 54, .inl (row r2)))] ++ [(am 4, .inl (G.2 0, 54, .inl (row r4)))]) := hD
            have hE : eS (tB r t) (-1) (eS (decide (¬ sp < 0 ∧ ¬ mi < 0)) (-4) (eS (decide (sp ≤ 9 ∧ mi ≤ 99)) (-6) (eS (pSt r (ix t)) (-3) 0))) = (-6) := by rw [eS_t (show tB r t = true from (by first | exact bI_n0 c_2 | exact bI_0.mp c_2)), eS_t (decide_eq_true ⟨c_3, Int32.not_lt.mpr c_6⟩), eS_f (decide_eq_false (fun z => absurd c_7 (Int32.not_lt.mpr z.1)))]
            have hne : ((-6) : Int32) ≠ 0 := (by decide)
            have hP : va_P G.1 vwCl (wM G am ho rn ln pl sd lt ro (sel (eS (tB r t) (-1) (eS (decide (¬ sp < 0 ∧ ¬ mi < 0)) (-4) (eS (decide (sp ≤ 9 ∧ mi ≤ 99)) (-6) (eS (pSt r (ix t)) (-3) 0)))) rf (rfU rf (eS (tB r t) (-1) (eS (decide (¬ sp < 0 ∧ ¬ mi < 0)) (-4) (eS (decide (sp ≤ 9 ∧ mi ≤ 99)) (-6) (eS (pSt r (ix t)) (-3) 0)))))) nb ++ [(am 1, .inl (G.2 0, 54, .inl (row r)))] ++ [(am 2, .inl (G.2 0, 54, .inl (row rm)))] ++ [(am 3, .inl (G.2 0, 54, .inl (row r2)))] ++ [(am 4, .inl (G.2 0, 54, .inl (row r4)))]) H := by rw [hE]; simp only [sel_n hne]; exact hP
            have hD : va_D A (wM G am ho rn ln pl sd lt ro (sel (eS (tB r t) (-1) (eS (decide (¬ sp < 0 ∧ ¬ mi < 0)) (-4) (eS (decide (sp ≤ 9 ∧ mi ≤ 99)) (-6) (eS (pSt r (ix t)) (-3) 0)))) rf (rfU rf (eS (tB r t) (-1) (eS (decide (¬ sp < 0 ∧ ¬ mi < 0)) (-4) (eS (decide (sp ≤ 9 ∧ mi ≤ 99)) (-6) (eS (pSt r (ix t)) (-3) 0)))))) nb ++ [(am 1, .inl (G.2 0, 54, .inl (row r)))] ++ [(am 2, .inl (G.2 0, 54, .inl (row rm)))] ++ [(am 3, .inl (G.2 0, 54, .inl (row r2)))] ++ [(am 4, .inl (G.2 0, 54, .inl (row r4)))]) := by rw [hE]; simp only [sel_n hne]; exact hD
            refine hret _ _ _ _ _ _ (-6) rm dX9_later_72 ?_ hP hD hS (Nat.le_of_ble_eq_true rfl) (Nat.le_of_ble_eq_true rfl)
            rw [hE, sel_n hne]
        · skip
          refine lv_iload_n hx hb dX9_later_31 rfl (lv_at hl 3 rfl) ?_
          refine lv_bipush (v := 99) hx hb dX9_later_32 (by decide) ?_
          refine lv_icmp_le (tgt := 42) hx hb dX9_later_34 (by decide) (fun c_10 => ?_) (fun c_10 => ?_)
          · skip
            obtain ⟨hj_mi, et_mi⟩ := nn_ix (Int32.not_lt.mpr c_6) c_10
            rw [et_mi] at hl
            refine lv_aload_n hx hb dX9_later_42 rfl (lv_at hl 0 rfl) ?_
            refine va_get (D := G.1) (ci := 8) (v := .ref (am 1)) (C := RX9) (T := TX9) (N := 13) hx hb hts in_X9 hown hK.1 hP 0 rfl rfl 0 (by decide) (hts _ q1162) (fun _ h9 => h9) rfl dX9_later_43 ?_
            refine lv_iload_n hx hb dX9_later_46 rfl (lv_at hl 1 rfl) ?_
            refine x_Si (wN := fun _ => (wM G am ho rn ln pl sd lt ro rf nb ++ [(am 1, .inl (G.2 0, 54, .inl (row r)))] ++ [(am 2, .inl (G.2 0, 54, .inl (row rm)))] ++ [(am 3, .inl (G.2 0, 54, .inl (row r2)))] ++ [(am 4, .inl (G.2 0, 54, .inl (row r4)))])) ⟨C0, hK, hP, hD, hS, hA⟩ ((m9_stands l G (am 1) r hr (ix t) (by omega))) (va_cwS 2 hts (lw_S q1251 q1252 q95 q1253) rfl rfl rfl (by decide +kernel) ⟨Nat.le_of_ble_eq_true rfl, Nat.le_of_ble_eq_true rfl⟩) [5] [0, 2, 4, 6, 8, 1, 12, 14, 16] rfl (fun _ => rfl) rfl rfl hl.1 rfl (Nat.le_of_ble_eq_true rfl) dX9_later_47 ⟨(Nat.le_of_ble_eq_true rfl), (Nat.le_of_ble_eq_true rfl)⟩ (fun r_11 u_11 H locs hw_11 hP hD hS => ?_)
            have hw_11 : (bI (pSt r (ix t)) : Int32) = r_11 := hw_11.symm
            subst hw_11
            refine lv_if_eq (tgt := 57) hx hb dX9_later_50 (by decide) (fun c_12 => ?_) (fun c_12 => ?_)
            · skip
              refine lv_bipush (v := (-3)) hx hb dX9_later_57 (by decide) ?_
              refine lv_istore (lv' := [(4, .int (-3)), (0, .ref (am 0)), (1, .int (nI (ix t))), (2, .int sp), (3, .int (nI (ix mi)))]) hx hb dX9_later_59 hl (by decide) rfl (fun ls hl => ?_)
              refine lv_iload hx hb dX9_later_61 (lv_at hl 0 rfl) ?_
              refine lv_if_eq (tgt := 73) hx hb dX9_later_63 (by decide) (fun c_13 => ?_) (fun c_13 => ?_)
              · skip
                exact absurd c_13 (by decide)
              · skip
                refine lv_aload_n hx hb dX9_later_66 rfl (lv_at hl 1 rfl) ?_
                refine lv_iload hx hb dX9_later_67 (lv_at hl 0 rfl) ?_
                refine x_Vi (wN := fun _ => (wM G am ho rn ln pl sd lt ro (rfU rf (-3)) nb ++ [(am 1, .inl (G.2 0, 54, .inl (row r)))] ++ [(am 2, .inl (G.2 0, 54, .inl (row rm)))] ++ [(am 3, .inl (G.2 0, 54, .inl (row r2)))] ++ [(am 4, .inl (G.2 0, 54, .inl (row r4)))])) ⟨C0, hK, hP, hD, hS, hA⟩ 0 rfl (ci := 8) rfl rfl ((m9_no l G am ho rn ln pl sd lt ro rf nb (-3) noOk_k.2.2.1)) (cwV 1 hts (lw_V q1206 q1208 qs66 q95 q1209) rfl rfl rfl (by decide +kernel) ⟨Nat.le_of_ble_eq_true rfl, Nat.le_of_ble_eq_true rfl⟩) [0, 1, 2, 3, 4] [1, 3, 5, 7, 9, 10, 12, 14, 16] rfl (fun _ => rfl) rfl rfl hl.1 rfl (Nat.le_of_ble_eq_true rfl) dX9_later_69 ⟨(Nat.le_of_ble_eq_true rfl), (Nat.le_of_ble_eq_true rfl)⟩ (fun r_14 u_14 H locs hw_14 hP hD hS => ?_)
                have hw_14 : ((-3) : Int32) = r_14 := hw_14.symm
                subst hw_14
                have hP : va_P G.1 vwCl (wM G am ho rn ln pl sd lt ro (rfU rf (-3)) nb ++ [(am 1, .inl (G.2 0, 54, .inl (row r)))] ++ [(am 2, .inl (G.2 0, 54, .inl (row rm)))] ++ [(am 3, .inl (G.2 0, 54, .inl (row r2)))] ++ [(am 4, .inl (G.2 0, 54, .inl (row r4)))]) H := hP
                have hD : va_D A (wM G am ho rn ln pl sd lt ro (rfU rf (-3)) nb ++ [(am 1, .inl (G.2 0, 54, .inl (row r)))] ++ [(am 2, .inl (G.2 0, 54, .inl (row rm)))] ++ [(am 3, .inl (G.2 0, 54, .inl (row r2)))] ++ [(am 4, .inl (G.2 0, 54, .inl (row r4)))]) := hD
                have hE : eS (tB r t) (-1) (eS (decide (¬ sp < 0 ∧ ¬ mi < 0)) (-4) (eS (decide (sp ≤ 9 ∧ mi ≤ 99)) (-6) (eS (pSt r (ix t)) (-3) 0))) = (-3) := by rw [eS_t (show tB r t = true from (by first | exact bI_n0 c_2 | exact bI_0.mp c_2)), eS_t (decide_eq_true ⟨c_3, Int32.not_lt.mpr c_6⟩), eS_t (decide_eq_true ⟨Int32.not_lt.mp c_7, c_10⟩), eS_f (show pSt r (ix t) = false from (by first | exact bI_n0 c_12 | exact bI_0.mp c_12))]
                have hne : ((-3) : Int32) ≠ 0 := (by decide)
                have hP : va_P G.1 vwCl (wM G am ho rn ln pl sd lt ro (sel (eS (tB r t) (-1) (eS (decide (¬ sp < 0 ∧ ¬ mi < 0)) (-4) (eS (decide (sp ≤ 9 ∧ mi ≤ 99)) (-6) (eS (pSt r (ix t)) (-3) 0)))) rf (rfU rf (eS (tB r t) (-1) (eS (decide (¬ sp < 0 ∧ ¬ mi < 0)) (-4) (eS (decide (sp ≤ 9 ∧ mi ≤ 99)) (-6) (eS (pSt r (ix t)) (-3) 0)))))) nb ++ [(am 1, .inl (G.2 0, 54, .inl (row r)))] ++ [(am 2, .inl (G.2 0, 54, .inl (row rm)))] ++ [(am 3, .inl (G.2 0, 54, .inl (row r2)))] ++ [(am 4, .inl (G.2 0, 54, .inl (row r4)))]) H := by rw [hE]; simp only [sel_n hne]; exact hP
                have hD : va_D A (wM G am ho rn ln pl sd lt ro (sel (eS (tB r t) (-1) (eS (decide (¬ sp < 0 ∧ ¬ mi < 0)) (-4) (eS (decide (sp ≤ 9 ∧ mi ≤ 99)) (-6) (eS (pSt r (ix t)) (-3) 0)))) rf (rfU rf (eS (tB r t) (-1) (eS (decide (¬ sp < 0 ∧ ¬ mi < 0)) (-4) (eS (decide (sp ≤ 9 ∧ mi ≤ 99)) (-6) (eS (pSt r (ix t)) (-3) 0)))))) nb ++ [(am 1, .inl (G.2 0, 54, .inl (row r)))] ++ [(am 2, .inl (G.2 0, 54, .inl (row rm)))] ++ [(am 3, .inl (G.2 0, 54, .inl (row r2)))] ++ [(am 4, .inl (G.2 0, 54, .inl (row r4)))]) := by rw [hE]; simp only [sel_n hne]; exact hD
                refine hret _ _ _ _ _ _ (-3) rm dX9_later_72 ?_ hP hD hS (Nat.le_of_ble_eq_true rfl) (Nat.le_of_ble_eq_true rfl)
                rw [hE, sel_n hne]
            · skip
              refine lv_iconst (v := 0) hx hb dX9_later_53 (by decide) ?_
              refine lv_goto (tgt := 59) hx hb dX9_later_54 (by decide) ?_
              refine lv_istore (lv' := [(4, .int 0), (0, .ref (am 0)), (1, .int (nI (ix t))), (2, .int sp), (3, .int (nI (ix mi)))]) hx hb dX9_later_59 hl (by decide) rfl (fun ls hl => ?_)
              refine lv_iload hx hb dX9_later_61 (lv_at hl 0 rfl) ?_
              refine lv_if_eq (tgt := 73) hx hb dX9_later_63 (by decide) (fun c_15 => ?_) (fun c_15 => ?_)
              · skip
                refine lv_aload_n hx hb dX9_later_73 rfl (lv_at hl 1 rfl) ?_
                refine lv_iload_n hx hb dX9_later_74 rfl (lv_at hl 4 rfl) ?_
                refine x_Vv (wN := fun _ => (wM G am ho rn ln pl sd lt ro rf nb ++ [(am 1, .inl (G.2 0, 54, .inl (row r)))] ++ [(am 2, .inl (G.2 0, 54, .inl (row (pMins r (ix mi)))))] ++ [(am 3, .inl (G.2 0, 54, .inl (row r2)))] ++ [(am 4, .inl (G.2 0, 54, .inl (row r4)))])) ⟨C0, hK, hP, hD, hS, hA⟩ 0 rfl (ci := 8) rfl rfl ((m9_takes l G am r rm r2 r4 ho rn ln pl sd lt ro rf nb hr hp (ix mi) (by omega))) (cwV 1 hts (lw_V q1329 q1331 qs75 q95 q1332) rfl rfl rfl (by decide +kernel) ⟨Nat.le_of_ble_eq_true rfl, Nat.le_of_ble_eq_true rfl⟩) [0, 1, 2, 3, 4, 5, 6, 7, 8] [1, 3, 5, 7, 9, 11, 13, 15, 17] rfl (fun _ => rfl) rfl rfl hl.1 rfl (Nat.le_of_ble_eq_true rfl) dX9_later_75 ⟨(Nat.le_of_ble_eq_true rfl), (Nat.le_of_ble_eq_true rfl)⟩ (fun u_16 H locs hw_16 hP hD hS => ?_)
                have hP : va_P G.1 vwCl (wM G am ho rn ln pl sd lt ro rf nb ++ [(am 1, .inl (G.2 0, 54, .inl (row r)))] ++ [(am 2, .inl (G.2 0, 54, .inl (row (pMins r (ix mi)))))] ++ [(am 3, .inl (G.2 0, 54, .inl (row r2)))] ++ [(am 4, .inl (G.2 0, 54, .inl (row r4)))]) H := hP
                have hD : va_D A (wM G am ho rn ln pl sd lt ro rf nb ++ [(am 1, .inl (G.2 0, 54, .inl (row r)))] ++ [(am 2, .inl (G.2 0, 54, .inl (row (pMins r (ix mi)))))] ++ [(am 3, .inl (G.2 0, 54, .inl (row r2)))] ++ [(am 4, .inl (G.2 0, 54, .inl (row r4)))]) := hD
                refine lv_aload_n hx hb dX9_later_78 rfl (lv_at hl 1 rfl) ?_
                refine va_get (D := G.1) (ci := 8) (v := .ref (am 2)) (C := RX9) (T := TX9) (N := 13) hx hb hts in_X9 hown hK.1 hP 0 rfl rfl 1 (by decide) (hts _ q1163) (fun _ h9 => h9) rfl dX9_later_79 ?_
                refine lv_iconst (v := 1) hx hb dX9_later_82 (by decide) ?_
                refine x_Si (wN := fun _ => (wM G am ho rn ln pl sd lt ro rf nb ++ [(am 1, .inl (G.2 0, 54, .inl (row r)))] ++ [(am 2, .inl (G.2 0, 54, .inl (row (pMins r (ix mi)))))] ++ [(am 3, .inl (G.2 0, 54, .inl (row r2)))] ++ [(am 4, .inl (G.2 0, 54, .inl (row r4)))])) ⟨C0, hK, hP, hD, hS, hA⟩ ((m9_setOf l G (am 2) (pMins r (ix mi)) (Ok.mins hr) 1)) (va_cwS 2 hts (lw_S q1281 q1282 q95 q1283) rfl rfl rfl (by decide +kernel) ⟨Nat.le_of_ble_eq_true rfl, Nat.le_of_ble_eq_true rfl⟩) [6] [0, 2, 4, 6, 8, 10, 1, 14, 16] rfl (fun _ => rfl) rfl rfl hl.1 rfl (Nat.le_of_ble_eq_true rfl) dX9_later_83 ⟨(Nat.le_of_ble_eq_true rfl), (Nat.le_of_ble_eq_true rfl)⟩ (fun r_17 u_17 H locs hw_17 hP hD hS => ?_)
                have hw_17 : (pSet (pMins r (ix mi)) 1 : Int32) = r_17 := hw_17.symm
                subst hw_17
                refine lv_istore (lv' := [(5, .int (pSet (pMins r (ix mi)) 1)), (4, .int 0), (0, .ref (am 0)), (1, .int (nI (ix t))), (2, .int sp), (3, .int (nI (ix mi)))]) hx hb dX9_later_86 hl (by decide) rfl (fun ls hl => ?_)
                refine lv_aload_n hx hb dX9_later_88 rfl (lv_at hl 2 rfl) ?_
                refine va_get (D := G.1) (ci := 8) (v := .ref (am 1)) (C := RX9) (T := TX9) (N := 13) hx hb hts in_X9 hown hK.1 hP 0 rfl rfl 0 (by decide) (hts _ q1162) (fun _ h9 => h9) rfl dX9_later_89 ?_
                refine lv_aload_n hx hb dX9_later_92 rfl (lv_at hl 2 rfl) ?_
                refine va_get (D := G.1) (ci := 8) (v := .ref (am 2)) (C := RX9) (T := TX9) (N := 13) hx hb hts in_X9 hown hK.1 hP 0 rfl rfl 1 (by decide) (hts _ q1163) (fun _ h9 => h9) rfl dX9_later_93 ?_
                refine x_Sv (wN := fun _ => (wM G am ho rn ln pl sd lt ro rf nb ++ [(am 1, .inl (G.2 0, 54, .inl (row r)))] ++ [(am 2, .inl (G.2 0, 54, .inl (row r)))] ++ [(am 3, .inl (G.2 0, 54, .inl (row r2)))] ++ [(am 4, .inl (G.2 0, 54, .inl (row r4)))])) ⟨C0, hK, hP, hD, hS, hA⟩ ((m9_copies l G (am 1) (am 2) (row r) (row (pMins r (ix mi))))) (va_cwS 2 hts (lw_S q1236 q1237 q95 q1238) rfl rfl rfl (by decide +kernel) ⟨Nat.le_of_ble_eq_true rfl, Nat.le_of_ble_eq_true rfl⟩) [5, 6] [0, 2, 4, 6, 8, 1, 3, 14, 16] rfl (fun _ => rfl) rfl rfl hl.1 rfl (Nat.le_of_ble_eq_true rfl) dX9_later_96 ⟨(Nat.le_of_ble_eq_true rfl), (Nat.le_of_ble_eq_true rfl)⟩ (fun u_18 H locs hw_18 hP hD hS => ?_)
                have hP : va_P G.1 vwCl (wM G am ho rn ln pl sd lt ro rf nb ++ [(am 1, .inl (G.2 0, 54, .inl (row r)))] ++ [(am 2, .inl (G.2 0, 54, .inl (row r)))] ++ [(am 3, .inl (G.2 0, 54, .inl (row r2)))] ++ [(am 4, .inl (G.2 0, 54, .inl (row r4)))]) H := hP
                have hD : va_D A (wM G am ho rn ln pl sd lt ro rf nb ++ [(am 1, .inl (G.2 0, 54, .inl (row r)))] ++ [(am 2, .inl (G.2 0, 54, .inl (row r)))] ++ [(am 3, .inl (G.2 0, 54, .inl (row r2)))] ++ [(am 4, .inl (G.2 0, 54, .inl (row r4)))]) := hD
                refine lv_aload_n hx hb dX9_later_99 rfl (lv_at hl 2 rfl) ?_
                refine va_get (D := G.1) (ci := 8) (v := .ref (am 1)) (C := RX9) (T := TX9) (N := 13) hx hb hts in_X9 hown hK.1 hP 0 rfl rfl 0 (by decide) (hts _ q1162) (fun _ h9 => h9) rfl dX9_later_100 ?_
                refine lv_iload_n hx hb dX9_later_103 rfl (lv_at hl 3 rfl) ?_
                refine lv_iload_n hx hb dX9_later_104 rfl (lv_at hl 4 rfl) ?_
                refine x_Si (wN := fun _ => (wM G am ho rn ln pl sd lt ro rf nb ++ [(am 1, .inl (G.2 0, 54, .inl (row r)))] ++ [(am 2, .inl (G.2 0, 54, .inl (row r)))] ++ [(am 3, .inl (G.2 0, 54, .inl (row r2)))] ++ [(am 4, .inl (G.2 0, 54, .inl (row r4)))])) ⟨C0, hK, hP, hD, hS, hA⟩ ((m9_shaken l G (am 1) r hr (nI (ix t)) sp)) (va_cwS 3 hts (lw_S q1260 q1261 q95 q1262) rfl rfl rfl (by decide +kernel) ⟨Nat.le_of_ble_eq_true rfl, Nat.le_of_ble_eq_true rfl⟩) [5] [0, 2, 4, 6, 8, 1, 12, 14, 16] rfl (fun _ => rfl) rfl rfl hl.1 rfl (Nat.le_of_ble_eq_true rfl) dX9_later_105 ⟨(Nat.le_of_ble_eq_true rfl), (Nat.le_of_ble_eq_true rfl)⟩ (fun r_19 u_19 H locs hw_19 hP hD hS => ?_)
                have hw_19 : (bs (pShk r (nI (ix t)) sp) (mny r) : Int32) = r_19 := hw_19.symm
                subst hw_19
                refine lv_istore (lv' := [(6, .int (bs (pShk r (nI (ix t)) sp) (mny r))), (5, .int (pSet (pMins r (ix mi)) 1)), (4, .int 0), (0, .ref (am 0)), (1, .int (nI (ix t))), (2, .int sp), (3, .int (nI (ix mi)))]) hx hb dX9_later_108 hl (by decide) rfl (fun ls hl => ?_)
                refine lv_aload_n hx hb dX9_later_110 rfl (lv_at hl 3 rfl) ?_
                refine va_get (D := G.1) (ci := 8) (v := .ref (am 2)) (C := RX9) (T := TX9) (N := 13) hx hb hts in_X9 hown hK.1 hP 0 rfl rfl 1 (by decide) (hts _ q1163) (fun _ h9 => h9) rfl dX9_later_111 ?_
                refine lv_iload_n hx hb dX9_later_114 rfl (lv_at hl 4 rfl) ?_
                refine lv_iload_n hx hb dX9_later_115 rfl (lv_at hl 5 rfl) ?_
                refine x_Si (wN := fun _ => (wM G am ho rn ln pl sd lt ro rf nb ++ [(am 1, .inl (G.2 0, 54, .inl (row r)))] ++ [(am 2, .inl (G.2 0, 54, .inl (row (pPull r (ix t) sp))))] ++ [(am 3, .inl (G.2 0, 54, .inl (row r2)))] ++ [(am 4, .inl (G.2 0, 54, .inl (row r4)))])) ⟨C0, hK, hP, hD, hS, hA⟩ ((m9_pull l G (am 2) r hr (ix t) sp (by omega))) (va_cwS 3 hts (lw_S q1257 q1258 q95 q1259) rfl rfl rfl (by decide +kernel) ⟨Nat.le_of_ble_eq_true rfl, Nat.le_of_ble_eq_true rfl⟩) [6] [0, 2, 4, 6, 8, 10, 1, 14, 16] rfl (fun _ => rfl) rfl rfl hl.1 rfl (Nat.le_of_ble_eq_true rfl) dX9_later_116 ⟨(Nat.le_of_ble_eq_true rfl), (Nat.le_of_ble_eq_true rfl)⟩ (fun r_20 u_20 H locs hw_20 hP hD hS => ?_)
                have hw_20 : (pPullN r (ix t) sp : Int32) = r_20 := hw_20.symm
                subst hw_20
                have hP : va_P G.1 vwCl (wM G am ho rn ln pl sd lt ro rf nb ++ [(am 1, .inl (G.2 0, 54, .inl (row r)))] ++ [(am 2, .inl (G.2 0, 54, .inl (row (pPull r (ix t) sp))))] ++ [(am 3, .inl (G.2 0, 54, .inl (row r2)))] ++ [(am 4, .inl (G.2 0, 54, .inl (row r4)))]) H := hP
                have hD : va_D A (wM G am ho rn ln pl sd lt ro rf nb ++ [(am 1, .inl (G.2 0, 54, .inl (row r)))] ++ [(am 2, .inl (G.2 0, 54, .inl (row (pPull r (ix t) sp))))] ++ [(am 3, .inl (G.2 0, 54, .inl (row r2)))] ++ [(am 4, .inl (G.2 0, 54, .inl (row r4)))]) := hD
                refine lv_istore (lv' := [(7, .int (pPullN r (ix t) sp)), (6, .int (bs (pShk r (nI (ix t)) sp) (mny r))), (5, .int (pSet (pMins r (ix mi)) 1)), (4, .int 0), (0, .ref (am 0)), (1, .int (nI (ix t))), (2, .int sp), (3, .int (nI (ix mi)))]) hx hb dX9_later_119 hl (by decide) rfl (fun ls hl => ?_)
                refine lv_aload_n hx hb dX9_later_121 rfl (lv_at hl 4 rfl) ?_
                refine va_get (D := G.1) (ci := 8) (v := .ref (am 2)) (C := RX9) (T := TX9) (N := 13) hx hb hts in_X9 hown hK.1 hP 0 rfl rfl 1 (by decide) (hts _ q1163) (fun _ h9 => h9) rfl dX9_later_122 ?_
                refine lv_iload_n hx hb dX9_later_125 rfl (lv_at hl 7 rfl) ?_
                refine x_Sv (wN := fun _ => (wM G am ho rn ln pl sd lt ro rf nb ++ [(am 1, .inl (G.2 0, 54, .inl (row r)))] ++ [(am 2, .inl (G.2 0, 54, .inl (row (pMins (pPull r (ix t) sp) (ix mi)))))] ++ [(am 3, .inl (G.2 0, 54, .inl (row r2)))] ++ [(am 4, .inl (G.2 0, 54, .inl (row r4)))])) ⟨C0, hK, hP, hD, hS, hA⟩ ((m9_minutesOn l G (am 2) (pPull r (ix t) sp) (Ok.pull hr) (ix mi) (by omega))) (va_cwS 2 hts (lw_S q1272 q1273 q95 q1274) rfl rfl rfl (by decide +kernel) ⟨Nat.le_of_ble_eq_true rfl, Nat.le_of_ble_eq_true rfl⟩) [6] [0, 2, 4, 6, 8, 10, 1, 14, 16] rfl (fun _ => rfl) rfl rfl hl.1 rfl (Nat.le_of_ble_eq_true rfl) dX9_later_126 ⟨(Nat.le_of_ble_eq_true rfl), (Nat.le_of_ble_eq_true rfl)⟩ (fun u_21 H locs hw_21 hP hD hS => ?_)
                have hP : va_P G.1 vwCl (wM G am ho rn ln pl sd lt ro rf nb ++ [(am 1, .inl (G.2 0, 54, .inl (row r)))] ++ [(am 2, .inl (G.2 0, 54, .inl (row (pMins (pPull r (ix t) sp) (ix mi)))))] ++ [(am 3, .inl (G.2 0, 54, .inl (row r2)))] ++ [(am 4, .inl (G.2 0, 54, .inl (row r4)))]) H := hP
                have hD : va_D A (wM G am ho rn ln pl sd lt ro rf nb ++ [(am 1, .inl (G.2 0, 54, .inl (row r)))] ++ [(am 2, .inl (G.2 0, 54, .inl (row (pMins (pPull r (ix t) sp) (ix mi)))))] ++ [(am 3, .inl (G.2 0, 54, .inl (row r2)))] ++ [(am 4, .inl (G.2 0, 54, .inl (row r4)))]) := hD
                refine lv_aload_n hx hb dX9_later_129 rfl (lv_at hl 4 rfl) ?_
                refine va_get (D := G.1) (ci := 8) (v := .ref (am 2)) (C := RX9) (T := TX9) (N := 13) hx hb hts in_X9 hown hK.1 hP 0 rfl rfl 1 (by decide) (hts _ q1163) (fun _ h9 => h9) rfl dX9_later_130 ?_
                refine lv_iconst (v := 1) hx hb dX9_later_133 (by decide) ?_
                refine x_Si (wN := fun _ => (wM G am ho rn ln pl sd lt ro rf nb ++ [(am 1, .inl (G.2 0, 54, .inl (row r)))] ++ [(am 2, .inl (G.2 0, 54, .inl (row (pMins (pPull r (ix t) sp) (ix mi)))))] ++ [(am 3, .inl (G.2 0, 54, .inl (row r2)))] ++ [(am 4, .inl (G.2 0, 54, .inl (row r4)))])) ⟨C0, hK, hP, hD, hS, hA⟩ ((m9_setOf l G (am 2) (pMins (pPull r (ix t) sp) (ix mi)) (Ok.mins (Ok.pull hr)) 1)) (va_cwS 2 hts (lw_S q1281 q1282 q95 q1283) rfl rfl rfl (by decide +kernel) ⟨Nat.le_of_ble_eq_true rfl, Nat.le_of_ble_eq_true rfl⟩) [6] [0, 2, 4, 6, 8, 10, 1, 14, 16] rfl (fun _ => rfl) rfl rfl hl.1 rfl (Nat.le_of_ble_eq_true rfl) dX9_later_134 ⟨(Nat.le_of_ble_eq_true rfl), (Nat.le_of_ble_eq_true rfl)⟩ (fun r_22 u_22 H locs hw_22 hP hD hS => ?_)
                have hw_22 : (pSet (pMins (pPull r (ix t) sp) (ix mi)) 1 : Int32) = r_22 := hw_22.symm
                subst hw_22
                refine lv_iload hx hb dX9_later_137 (lv_at hl 1 rfl) ?_
                refine lv_iconst (v := (-1)) hx hb dX9_later_139 (by decide) ?_
                refine x_ixor hx hb dX9_later_140 (v := (bs (pShk r (nI (ix t)) sp) (mny r)) ^^^ (-1)) rfl ?_
                refine x_iand hx hb dX9_later_141 (v := (pSet (pMins (pPull r (ix t) sp) (ix mi)) 1) &&& ((bs (pShk r (nI (ix t)) sp) (mny r)) ^^^ (-1))) rfl ?_
                refine lv_iload hx hb dX9_later_142 (lv_at hl 2 rfl) ?_
                refine lv_iconst (v := (-1)) hx hb dX9_later_144 (by decide) ?_
                refine x_ixor hx hb dX9_later_145 (v := (pSet (pMins r (ix mi)) 1) ^^^ (-1)) rfl ?_
                refine x_iand hx hb dX9_later_146 (v := ((pSet (pMins (pPull r (ix t) sp) (ix mi)) 1) &&& ((bs (pShk r (nI (ix t)) sp) (mny r)) ^^^ (-1))) &&& ((pSet (pMins r (ix mi)) 1) ^^^ (-1))) rfl ?_
                have hE : eS (tB r t) (-1) (eS (decide (¬ sp < 0 ∧ ¬ mi < 0)) (-4) (eS (decide (sp ≤ 9 ∧ mi ≤ 99)) (-6) (eS (pSt r (ix t)) (-3) 0))) = 0 := by rw [eS_t (show tB r t = true from (by first | exact bI_n0 c_2 | exact bI_0.mp c_2)), eS_t (decide_eq_true ⟨c_3, Int32.not_lt.mpr c_6⟩), eS_t (decide_eq_true ⟨Int32.not_lt.mp c_7, c_10⟩), eS_t (show pSt r (ix t) = true from (by first | exact bI_n0 c_12 | exact bI_0.mp c_12))]
                have hP : va_P G.1 vwCl (wM G am ho rn ln pl sd lt ro (sel (eS (tB r t) (-1) (eS (decide (¬ sp < 0 ∧ ¬ mi < 0)) (-4) (eS (decide (sp ≤ 9 ∧ mi ≤ 99)) (-6) (eS (pSt r (ix t)) (-3) 0)))) rf (rfU rf (eS (tB r t) (-1) (eS (decide (¬ sp < 0 ∧ ¬ mi < 0)) (-4) (eS (decide (sp ≤ 9 ∧ mi ≤ 99)) (-6) (eS (pSt r (ix t)) (-3) 0)))))) nb ++ [(am 1, .inl (G.2 0, 54, .inl (row r)))] ++ [(am 2, .inl (G.2 0, 54, .inl (row (pMins (pPull r (ix t) sp) (ix mi)))))] ++ [(am 3, .inl (G.2 0, 54, .inl (row r2)))] ++ [(am 4, .inl (G.2 0, 54, .inl (row r4)))]) H := by rw [hE]; simp only [sel_0 rfl]; exact hP
                have hD : va_D A (wM G am ho rn ln pl sd lt ro (sel (eS (tB r t) (-1) (eS (decide (¬ sp < 0 ∧ ¬ mi < 0)) (-4) (eS (decide (sp ≤ 9 ∧ mi ≤ 99)) (-6) (eS (pSt r (ix t)) (-3) 0)))) rf (rfU rf (eS (tB r t) (-1) (eS (decide (¬ sp < 0 ∧ ¬ mi < 0)) (-4) (eS (decide (sp ≤ 9 ∧ mi ≤ 99)) (-6) (eS (pSt r (ix t)) (-3) 0)))))) nb ++ [(am 1, .inl (G.2 0, 54, .inl (row r)))] ++ [(am 2, .inl (G.2 0, 54, .inl (row (pMins (pPull r (ix t) sp) (ix mi)))))] ++ [(am 3, .inl (G.2 0, 54, .inl (row r2)))] ++ [(am 4, .inl (G.2 0, 54, .inl (row r4)))]) := by rw [hE]; simp only [sel_0 rfl]; exact hD
                refine hret _ _ _ _ _ _ (((pSet (pMins (pPull r (ix t) sp) (ix mi)) 1) &&& ((bs (pShk r (nI (ix t)) sp) (mny r)) ^^^ (-1))) &&& ((pSet (pMins r (ix mi)) 1) ^^^ (-1))) (pMins (pPull r (ix t) sp) (ix mi)) dX9_later_147 ?_ hP hD hS (Nat.le_of_ble_eq_true rfl) (Nat.le_of_ble_eq_true rfl)
                rw [hE, sel_0 rfl]
                rw [pFB_sh hr hj_t, and_sw]
                rfl
              · skip
                exact absurd c_15 (by decide)
          · skip
            refine lv_bipush (v := (-6)) hx hb dX9_later_37 (by decide) ?_
            refine lv_goto (tgt := 59) hx hb dX9_later_39 (by decide) ?_
            refine lv_istore (lv' := [(4, .int (-6)), (0, .ref (am 0)), (1, .int (nI (ix t))), (2, .int sp), (3, .int mi)]) hx hb dX9_later_59 hl (by decide) rfl (fun ls hl => ?_)
            refine lv_iload hx hb dX9_later_61 (lv_at hl 0 rfl) ?_
            refine lv_if_eq (tgt := 73) hx hb dX9_later_63 (by decide) (fun c_23 => ?_) (fun c_23 => ?_)
            · skip
              exact absurd c_23 (by decide)
            · skip
              refine lv_aload_n hx hb dX9_later_66 rfl (lv_at hl 1 rfl) ?_
              refine lv_iload hx hb dX9_later_67 (lv_at hl 0 rfl) ?_
              refine x_Vi (wN := fun _ => (wM G am ho rn ln pl sd lt ro (rfU rf (-6)) nb ++ [(am 1, .inl (G.2 0, 54, .inl (row r)))] ++ [(am 2, .inl (G.2 0, 54, .inl (row rm)))] ++ [(am 3, .inl (G.2 0, 54, .inl (row r2)))] ++ [(am 4, .inl (G.2 0, 54, .inl (row r4)))])) ⟨C0, hK, hP, hD, hS, hA⟩ 0 rfl (ci := 8) rfl rfl ((m9_no l G am ho rn ln pl sd lt ro rf nb (-6) noOk_k.2.2.2.2)) (cwV 1 hts (lw_V q1206 q1208 qs66 q95 q1209) rfl rfl rfl (by decide +kernel) ⟨Nat.le_of_ble_eq_true rfl, Nat.le_of_ble_eq_true rfl⟩) [0, 1, 2, 3, 4] [1, 3, 5, 7, 9, 10, 12, 14, 16] rfl (fun _ => rfl) rfl rfl hl.1 rfl (Nat.le_of_ble_eq_true rfl) dX9_later_69 ⟨(Nat.le_of_ble_eq_true rfl), (Nat.le_of_ble_eq_true rfl)⟩ (fun r_24 u_24 H locs hw_24 hP hD hS => ?_)
              have hw_24 : ((-6) : Int32) = r_24 := hw_24.symm
              subst hw_24
              have hP : va_P G.1 vwCl (wM G am ho rn ln pl sd lt ro (rfU rf (-6)) nb ++ [(am 1, .inl (G.2 0, 54, .inl (row r)))] ++ [(am 2, .inl (G.2 0, 54, .inl (row rm)))] ++ [(am 3, .inl (G.2 0, 54, .inl (row r2)))] ++ [(am 4, .inl (G.2 0, 54, .inl (row r4)))]) H := hP
              have hD : va_D A (wM G am ho rn ln pl sd lt ro (rfU rf (-6)) nb ++ [(am 1, .inl (G.2 0, 54, .inl (row r)))] ++ [(am 2, .inl (G.2 0, 54, .inl (row rm)))] ++ [(am 3, .inl (G.2 0, 54, .inl (row r2)))] ++ [(am 4, .inl (G.2 0, 54, .inl (row r4)))]) := hD
              have hE : eS (tB r t) (-1) (eS (decide (¬ sp < 0 ∧ ¬ mi < 0)) (-4) (eS (decide (sp ≤ 9 ∧ mi ≤ 99)) (-6) (eS (pSt r (ix t)) (-3) 0))) = (-6) := by rw [eS_t (show tB r t = true from (by first | exact bI_n0 c_2 | exact bI_0.mp c_2)), eS_t (decide_eq_true ⟨c_3, Int32.not_lt.mpr c_6⟩), eS_f (decide_eq_false (fun z => c_10 z.2))]
              have hne : ((-6) : Int32) ≠ 0 := (by decide)
              have hP : va_P G.1 vwCl (wM G am ho rn ln pl sd lt ro (sel (eS (tB r t) (-1) (eS (decide (¬ sp < 0 ∧ ¬ mi < 0)) (-4) (eS (decide (sp ≤ 9 ∧ mi ≤ 99)) (-6) (eS (pSt r (ix t)) (-3) 0)))) rf (rfU rf (eS (tB r t) (-1) (eS (decide (¬ sp < 0 ∧ ¬ mi < 0)) (-4) (eS (decide (sp ≤ 9 ∧ mi ≤ 99)) (-6) (eS (pSt r (ix t)) (-3) 0)))))) nb ++ [(am 1, .inl (G.2 0, 54, .inl (row r)))] ++ [(am 2, .inl (G.2 0, 54, .inl (row rm)))] ++ [(am 3, .inl (G.2 0, 54, .inl (row r2)))] ++ [(am 4, .inl (G.2 0, 54, .inl (row r4)))]) H := by rw [hE]; simp only [sel_n hne]; exact hP
              have hD : va_D A (wM G am ho rn ln pl sd lt ro (sel (eS (tB r t) (-1) (eS (decide (¬ sp < 0 ∧ ¬ mi < 0)) (-4) (eS (decide (sp ≤ 9 ∧ mi ≤ 99)) (-6) (eS (pSt r (ix t)) (-3) 0)))) rf (rfU rf (eS (tB r t) (-1) (eS (decide (¬ sp < 0 ∧ ¬ mi < 0)) (-4) (eS (decide (sp ≤ 9 ∧ mi ≤ 99)) (-6) (eS (pSt r (ix t)) (-3) 0)))))) nb ++ [(am 1, .inl (G.2 0, 54, .inl (row r)))] ++ [(am 2, .inl (G.2 0, 54, .inl (row rm)))] ++ [(am 3, .inl (G.2 0, 54, .inl (row r2)))] ++ [(am 4, .inl (G.2 0, 54, .inl (row r4)))]) := by rw [hE]; simp only [sel_n hne]; exact hD
              refine hret _ _ _ _ _ _ (-6) rm dX9_later_72 ?_ hP hD hS (Nat.le_of_ble_eq_true rfl) (Nat.le_of_ble_eq_true rfl)
              rw [hE, sel_n hne]
      · skip
        refine lv_bipush (v := (-4)) hx hb dX9_later_20 (by decide) ?_
        refine lv_goto (tgt := 59) hx hb dX9_later_22 (by decide) ?_
        refine lv_istore (lv' := [(4, .int (-4)), (0, .ref (am 0)), (1, .int (nI (ix t))), (2, .int sp), (3, .int mi)]) hx hb dX9_later_59 hl (by decide) rfl (fun ls hl => ?_)
        refine lv_iload hx hb dX9_later_61 (lv_at hl 0 rfl) ?_
        refine lv_if_eq (tgt := 73) hx hb dX9_later_63 (by decide) (fun c_25 => ?_) (fun c_25 => ?_)
        · skip
          exact absurd c_25 (by decide)
        · skip
          refine lv_aload_n hx hb dX9_later_66 rfl (lv_at hl 1 rfl) ?_
          refine lv_iload hx hb dX9_later_67 (lv_at hl 0 rfl) ?_
          refine x_Vi (wN := fun _ => (wM G am ho rn ln pl sd lt ro (rfU rf (-4)) nb ++ [(am 1, .inl (G.2 0, 54, .inl (row r)))] ++ [(am 2, .inl (G.2 0, 54, .inl (row rm)))] ++ [(am 3, .inl (G.2 0, 54, .inl (row r2)))] ++ [(am 4, .inl (G.2 0, 54, .inl (row r4)))])) ⟨C0, hK, hP, hD, hS, hA⟩ 0 rfl (ci := 8) rfl rfl ((m9_no l G am ho rn ln pl sd lt ro rf nb (-4) noOk_k.2.2.2.1)) (cwV 1 hts (lw_V q1206 q1208 qs66 q95 q1209) rfl rfl rfl (by decide +kernel) ⟨Nat.le_of_ble_eq_true rfl, Nat.le_of_ble_eq_true rfl⟩) [0, 1, 2, 3, 4] [1, 3, 5, 7, 9, 10, 12, 14, 16] rfl (fun _ => rfl) rfl rfl hl.1 rfl (Nat.le_of_ble_eq_true rfl) dX9_later_69 ⟨(Nat.le_of_ble_eq_true rfl), (Nat.le_of_ble_eq_true rfl)⟩ (fun r_26 u_26 H locs hw_26 hP hD hS => ?_)
          have hw_26 : ((-4) : Int32) = r_26 := hw_26.symm
          subst hw_26
          have hP : va_P G.1 vwCl (wM G am ho rn ln pl sd lt ro (rfU rf (-4)) nb ++ [(am 1, .inl (G.2 0, 54, .inl (row r)))] ++ [(am 2, .inl (G.2 0, 54, .inl (row rm)))] ++ [(am 3, .inl (G.2 0, 54, .inl (row r2)))] ++ [(am 4, .inl (G.2 0, 54, .inl (row r4)))]) H := hP
          have hD : va_D A (wM G am ho rn ln pl sd lt ro (rfU rf (-4)) nb ++ [(am 1, .inl (G.2 0, 54, .inl (row r)))] ++ [(am 2, .inl (G.2 0, 54, .inl (row rm)))] ++ [(am 3, .inl (G.2 0, 54, .inl (row r2)))] ++ [(am 4, .inl (G.2 0, 54, .inl (row r4)))]) := hD
          have hE : eS (tB r t) (-1) (eS (decide (¬ sp < 0 ∧ ¬ mi < 0)) (-4) (eS (decide (sp ≤ 9 ∧ mi ≤ 99)) (-6) (eS (pSt r (ix t)) (-3) 0))) = (-4) := by rw [eS_t (show tB r t = true from (by first | exact bI_n0 c_2 | exact bI_0.mp c_2)), eS_f (decide_eq_false (fun z => z.2 (Int32.not_le.mp c_6)))]
          have hne : ((-4) : Int32) ≠ 0 := (by decide)
          have hP : va_P G.1 vwCl (wM G am ho rn ln pl sd lt ro (sel (eS (tB r t) (-1) (eS (decide (¬ sp < 0 ∧ ¬ mi < 0)) (-4) (eS (decide (sp ≤ 9 ∧ mi ≤ 99)) (-6) (eS (pSt r (ix t)) (-3) 0)))) rf (rfU rf (eS (tB r t) (-1) (eS (decide (¬ sp < 0 ∧ ¬ mi < 0)) (-4) (eS (decide (sp ≤ 9 ∧ mi ≤ 99)) (-6) (eS (pSt r (ix t)) (-3) 0)))))) nb ++ [(am 1, .inl (G.2 0, 54, .inl (row r)))] ++ [(am 2, .inl (G.2 0, 54, .inl (row rm)))] ++ [(am 3, .inl (G.2 0, 54, .inl (row r2)))] ++ [(am 4, .inl (G.2 0, 54, .inl (row r4)))]) H := by rw [hE]; simp only [sel_n hne]; exact hP
          have hD : va_D A (wM G am ho rn ln pl sd lt ro (sel (eS (tB r t) (-1) (eS (decide (¬ sp < 0 ∧ ¬ mi < 0)) (-4) (eS (decide (sp ≤ 9 ∧ mi ≤ 99)) (-6) (eS (pSt r (ix t)) (-3) 0)))) rf (rfU rf (eS (tB r t) (-1) (eS (decide (¬ sp < 0 ∧ ¬ mi < 0)) (-4) (eS (decide (sp ≤ 9 ∧ mi ≤ 99)) (-6) (eS (pSt r (ix t)) (-3) 0)))))) nb ++ [(am 1, .inl (G.2 0, 54, .inl (row r)))] ++ [(am 2, .inl (G.2 0, 54, .inl (row rm)))] ++ [(am 3, .inl (G.2 0, 54, .inl (row r2)))] ++ [(am 4, .inl (G.2 0, 54, .inl (row r4)))]) := by rw [hE]; simp only [sel_n hne]; exact hD
          refine hret _ _ _ _ _ _ (-4) rm dX9_later_72 ?_ hP hD hS (Nat.le_of_ble_eq_true rfl) (Nat.le_of_ble_eq_true rfl)
          rw [hE, sel_n hne]
  · skip
    refine lv_iconst (v := (-1)) hx hb dX9_later_8 (by decide) ?_
    refine lv_goto (tgt := 59) hx hb dX9_later_9 (by decide) ?_
    refine lv_istore (lv' := [(4, .int (-1)), (0, .ref (am 0)), (1, .int t), (2, .int sp), (3, .int mi)]) hx hb dX9_later_59 hl (by decide) rfl (fun ls hl => ?_)
    refine lv_iload hx hb dX9_later_61 (lv_at hl 0 rfl) ?_
    refine lv_if_eq (tgt := 73) hx hb dX9_later_63 (by decide) (fun c_27 => ?_) (fun c_27 => ?_)
    · skip
      exact absurd c_27 (by decide)
    · skip
      refine lv_aload_n hx hb dX9_later_66 rfl (lv_at hl 1 rfl) ?_
      refine lv_iload hx hb dX9_later_67 (lv_at hl 0 rfl) ?_
      refine x_Vi (wN := fun _ => (wM G am ho rn ln pl sd lt ro (rfU rf (-1)) nb ++ [(am 1, .inl (G.2 0, 54, .inl (row r)))] ++ [(am 2, .inl (G.2 0, 54, .inl (row rm)))] ++ [(am 3, .inl (G.2 0, 54, .inl (row r2)))] ++ [(am 4, .inl (G.2 0, 54, .inl (row r4)))])) ⟨C0, hK, hP, hD, hS, hA⟩ 0 rfl (ci := 8) rfl rfl ((m9_no l G am ho rn ln pl sd lt ro rf nb (-1) noOk_k.1)) (cwV 1 hts (lw_V q1206 q1208 qs66 q95 q1209) rfl rfl rfl (by decide +kernel) ⟨Nat.le_of_ble_eq_true rfl, Nat.le_of_ble_eq_true rfl⟩) [0, 1, 2, 3, 4] [1, 3, 5, 7, 9, 10, 12, 14, 16] rfl (fun _ => rfl) rfl rfl hl.1 rfl (Nat.le_of_ble_eq_true rfl) dX9_later_69 ⟨(Nat.le_of_ble_eq_true rfl), (Nat.le_of_ble_eq_true rfl)⟩ (fun r_28 u_28 H locs hw_28 hP hD hS => ?_)
      have hw_28 : ((-1) : Int32) = r_28 := hw_28.symm
      subst hw_28
      have hP : va_P G.1 vwCl (wM G am ho rn ln pl sd lt ro (rfU rf (-1)) nb ++ [(am 1, .inl (G.2 0, 54, .inl (row r)))] ++ [(am 2, .inl (G.2 0, 54, .inl (row rm)))] ++ [(am 3, .inl (G.2 0, 54, .inl (row r2)))] ++ [(am 4, .inl (G.2 0, 54, .inl (row r4)))]) H := hP
      have hD : va_D A (wM G am ho rn ln pl sd lt ro (rfU rf (-1)) nb ++ [(am 1, .inl (G.2 0, 54, .inl (row r)))] ++ [(am 2, .inl (G.2 0, 54, .inl (row rm)))] ++ [(am 3, .inl (G.2 0, 54, .inl (row r2)))] ++ [(am 4, .inl (G.2 0, 54, .inl (row r4)))]) := hD
      have hE : eS (tB r t) (-1) (eS (decide (¬ sp < 0 ∧ ¬ mi < 0)) (-4) (eS (decide (sp ≤ 9 ∧ mi ≤ 99)) (-6) (eS (pSt r (ix t)) (-3) 0))) = (-1) := by rw [eS_f (show tB r t = false from (by first | exact bI_n0 c_2 | exact bI_0.mp c_2))]
      have hne : ((-1) : Int32) ≠ 0 := (by decide)
      have hP : va_P G.1 vwCl (wM G am ho rn ln pl sd lt ro (sel (eS (tB r t) (-1) (eS (decide (¬ sp < 0 ∧ ¬ mi < 0)) (-4) (eS (decide (sp ≤ 9 ∧ mi ≤ 99)) (-6) (eS (pSt r (ix t)) (-3) 0)))) rf (rfU rf (eS (tB r t) (-1) (eS (decide (¬ sp < 0 ∧ ¬ mi < 0)) (-4) (eS (decide (sp ≤ 9 ∧ mi ≤ 99)) (-6) (eS (pSt r (ix t)) (-3) 0)))))) nb ++ [(am 1, .inl (G.2 0, 54, .inl (row r)))] ++ [(am 2, .inl (G.2 0, 54, .inl (row rm)))] ++ [(am 3, .inl (G.2 0, 54, .inl (row r2)))] ++ [(am 4, .inl (G.2 0, 54, .inl (row r4)))]) H := by rw [hE]; simp only [sel_n hne]; exact hP
      have hD : va_D A (wM G am ho rn ln pl sd lt ro (sel (eS (tB r t) (-1) (eS (decide (¬ sp < 0 ∧ ¬ mi < 0)) (-4) (eS (decide (sp ≤ 9 ∧ mi ≤ 99)) (-6) (eS (pSt r (ix t)) (-3) 0)))) rf (rfU rf (eS (tB r t) (-1) (eS (decide (¬ sp < 0 ∧ ¬ mi < 0)) (-4) (eS (decide (sp ≤ 9 ∧ mi ≤ 99)) (-6) (eS (pSt r (ix t)) (-3) 0)))))) nb ++ [(am 1, .inl (G.2 0, 54, .inl (row r)))] ++ [(am 2, .inl (G.2 0, 54, .inl (row rm)))] ++ [(am 3, .inl (G.2 0, 54, .inl (row r2)))] ++ [(am 4, .inl (G.2 0, 54, .inl (row r4)))]) := by rw [hE]; simp only [sel_n hne]; exact hD
      refine hret _ _ _ _ _ _ (-1) rm dX9_later_72 ?_ hP hD hS (Nat.le_of_ble_eq_true rfl) (Nat.le_of_ble_eq_true rfl)
      rw [hE, sel_n hne]
set_option maxHeartbeats 4000000 in
set_option maxRecDepth 100000 in
theorem n_allStand (l : Launch) (G : xG) (am : Nat → Nat) (r rm r2 r4 : Rw) (ho rn ln pl sd : Int32) (lt ro rf nb : Nat → Int32) (hr : Ok r) (hp : r 5 3 = 0) : xCi l G yX9_allStand cX9_allStand 3 (some .int) ({ frames := 4, cells := 0, slots := 0, locals := 88 } : Room) [.ref (am 0)] (wM G am ho rn ln pl sd lt ro rf nb ++ [(am 1, .inl (G.2 0, 54, .inl (row r)))] ++ [(am 2, .inl (G.2 0, 54, .inl (row rm)))] ++ [(am 3, .inl (G.2 0, 54, .inl (row r2)))] ++ [(am 4, .inl (G.2 0, 54, .inl (row r4)))]) (S := Rw) (fun v _ => v = sel ((0 : Int32)) (pSF r) ((0 : Int32))) (fun u => (wM G am ho rn ln pl sd lt ro (sel (0 : Int32) rf (rfU rf (0 : Int32))) nb ++ [(am 1, .inl (G.2 0, 54, .inl (row r)))] ++ [(am 2, .inl (G.2 0, 54, .inl (row u)))] ++ [(am 3, .inl (G.2 0, 54, .inl (row r2)))] ++ [(am 4, .inl (G.2 0, 54, .inl (row r4)))])) := by
  refine x_openi (by decide) (Nat.le_of_ble_eq_true rfl) (fun _ _ _ => rfl) ?_
  intro p e s m args below meth c A Q ls C0 hK hP hD hA hl hret
  obtain ⟨hx, hb, hml, hown, hts⟩ := id C0
  have hS : va_S A s.heap s.heap [] := va_S.rf
  have hP : va_P G.1 vwCl (wM G am ho rn ln pl sd lt ro rf nb ++ [(am 1, .inl (G.2 0, 54, .inl (row r)))] ++ [(am 2, .inl (G.2 0, 54, .inl (row rm)))] ++ [(am 3, .inl (G.2 0, 54, .inl (row r2)))] ++ [(am 4, .inl (G.2 0, 54, .inl (row r4)))]) s.heap := hP
  have hD : va_D A (wM G am ho rn ln pl sd lt ro rf nb ++ [(am 1, .inl (G.2 0, 54, .inl (row r)))] ++ [(am 2, .inl (G.2 0, 54, .inl (row rm)))] ++ [(am 3, .inl (G.2 0, 54, .inl (row r2)))] ++ [(am 4, .inl (G.2 0, 54, .inl (row r4)))]) := hD
  have hl : lv_has ls 3 [(0, .ref (am 0))] := hl
  have hr0 := hr.n
  have hN := hr.le
  refine lv_aload_n hx hb dX9_allStand_0 rfl (lv_at hl 0 rfl) ?_
  refine va_get (D := G.1) (ci := 8) (v := .ref (am 1)) (C := RX9) (T := TX9) (N := 13) hx hb hts in_X9 hown hK.1 hP 0 rfl rfl 0 (by decide) (hts _ q1162) (fun _ h9 => h9) rfl dX9_allStand_1 ?_
  refine lv_aload_n hx hb dX9_allStand_4 rfl (lv_at hl 0 rfl) ?_
  refine va_get (D := G.1) (ci := 8) (v := .ref (am 2)) (C := RX9) (T := TX9) (N := 13) hx hb hts in_X9 hown hK.1 hP 0 rfl rfl 1 (by decide) (hts _ q1163) (fun _ h9 => h9) rfl dX9_allStand_5 ?_
  refine x_Sv (wN := fun _ => (wM G am ho rn ln pl sd lt ro rf nb ++ [(am 1, .inl (G.2 0, 54, .inl (row r)))] ++ [(am 2, .inl (G.2 0, 54, .inl (row r)))] ++ [(am 3, .inl (G.2 0, 54, .inl (row r2)))] ++ [(am 4, .inl (G.2 0, 54, .inl (row r4)))])) ⟨C0, hK, hP, hD, hS, hA⟩ ((m9_copies l G (am 1) (am 2) (row r) (row rm))) (va_cwS 2 hts (lw_S q1236 q1237 q95 q1238) rfl rfl rfl (by decide +kernel) ⟨Nat.le_of_ble_eq_true rfl, Nat.le_of_ble_eq_true rfl⟩) [5, 6] [0, 2, 4, 6, 8, 1, 3, 14, 16] rfl (fun _ => rfl) rfl rfl hl.1 rfl (Nat.le_of_ble_eq_true rfl) dX9_allStand_8 ⟨(Nat.le_of_ble_eq_true rfl), (Nat.le_of_ble_eq_true rfl)⟩ (fun u_1 H locs hw_1 hP hD hS => ?_)
  have hP : va_P G.1 vwCl (wM G am ho rn ln pl sd lt ro rf nb ++ [(am 1, .inl (G.2 0, 54, .inl (row r)))] ++ [(am 2, .inl (G.2 0, 54, .inl (row r)))] ++ [(am 3, .inl (G.2 0, 54, .inl (row r2)))] ++ [(am 4, .inl (G.2 0, 54, .inl (row r4)))]) H := hP
  have hD : va_D A (wM G am ho rn ln pl sd lt ro rf nb ++ [(am 1, .inl (G.2 0, 54, .inl (row r)))] ++ [(am 2, .inl (G.2 0, 54, .inl (row r)))] ++ [(am 3, .inl (G.2 0, 54, .inl (row r2)))] ++ [(am 4, .inl (G.2 0, 54, .inl (row r4)))]) := hD
  refine lv_aload_n hx hb dX9_allStand_11 rfl (lv_at hl 0 rfl) ?_
  refine va_get (D := G.1) (ci := 8) (v := .ref (am 1)) (C := RX9) (T := TX9) (N := 13) hx hb hts in_X9 hown hK.1 hP 0 rfl rfl 0 (by decide) (hts _ q1162) (fun _ h9 => h9) rfl dX9_allStand_12 ?_
  refine lv_iconst (v := 1) hx hb dX9_allStand_15 (by decide) ?_
  refine x_Si (wN := fun _ => (wM G am ho rn ln pl sd lt ro rf nb ++ [(am 1, .inl (G.2 0, 54, .inl (row r)))] ++ [(am 2, .inl (G.2 0, 54, .inl (row r)))] ++ [(am 3, .inl (G.2 0, 54, .inl (row r2)))] ++ [(am 4, .inl (G.2 0, 54, .inl (row r4)))])) ⟨C0, hK, hP, hD, hS, hA⟩ ((m9_setOf l G (am 1) r hr 1)) (va_cwS 2 hts (lw_S q1281 q1282 q95 q1283) rfl rfl rfl (by decide +kernel) ⟨Nat.le_of_ble_eq_true rfl, Nat.le_of_ble_eq_true rfl⟩) [5] [0, 2, 4, 6, 8, 1, 12, 14, 16] rfl (fun _ => rfl) rfl rfl hl.1 rfl (Nat.le_of_ble_eq_true rfl) dX9_allStand_16 ⟨(Nat.le_of_ble_eq_true rfl), (Nat.le_of_ble_eq_true rfl)⟩ (fun r_2 u_2 H locs hw_2 hP hD hS => ?_)
  have hw_2 : (pSet r 1 : Int32) = r_2 := hw_2.symm
  subst hw_2
  refine lv_istore_n (lv' := [(1, .int (pSet r 1)), (0, .ref (am 0))]) hx hb dX9_allStand_19 rfl hl (by decide) rfl (fun ls hl => ?_)
  refine lv_iconst (v := 0) hx hb dX9_allStand_20 (by decide) ?_
  refine lv_istore_n (lv' := [(2, .int 0), (1, .int (pSet r 1)), (0, .ref (am 0))]) hx hb dX9_allStand_21 rfl hl (by decide) rfl (fun ls hl => ?_)
  have loop_22 : ∀ (n : Nat) (i : Nat), (i ≤ 99) → (99 < i + n) → (∀ j, j ≤ i → pSet (pMins r j) 1 = pSet r 1) → ∀ (H : Heap) (locs : List Loc) (ls : Array Slot), va_P G.1 vwCl (wM G am ho rn ln pl sd lt ro rf nb ++ [(am 1, .inl (G.2 0, 54, .inl (row r)))] ++ [(am 2, .inl (G.2 0, 54, .inl (row (pMins r i))))] ++ [(am 3, .inl (G.2 0, 54, .inl (row r2)))] ++ [(am 4, .inl (G.2 0, 54, .inl (row r4)))]) H → va_D A (wM G am ho rn ln pl sd lt ro rf nb ++ [(am 1, .inl (G.2 0, 54, .inl (row r)))] ++ [(am 2, .inl (G.2 0, 54, .inl (row (pMins r i))))] ++ [(am 3, .inl (G.2 0, 54, .inl (row r2)))] ++ [(am 4, .inl (G.2 0, 54, .inl (row r4)))]) → va_S A s.heap H locs → lv_has ls 3 [(2, .int (nI i)), (1, .int (pSet r 1)), (0, .ref (am 0))] → W p l e ({ frames := 4, cells := 0, slots := 0, locals := 88 } : Room) s m args below meth c H locs 0 0 Q (F0 m 22 ls []) := by
    intro n
    induction n with
    | zero => intro i hi22_0 hi22_1 hi22_2; exact absurd hi22_1 (by omega)
    | succ n ih_22 =>
      intro i hi22_0 hi22_1 hi22_2 H locs ls hP hD hS hl
      refine lv_iload_n hx hb dX9_allStand_22 rfl (lv_at hl 0 rfl) ?_
      refine lv_bipush (v := 99) hx hb dX9_allStand_23 (by decide) ?_
      refine lv_icmp_ge (tgt := 56) hx hb dX9_allStand_25 (by decide) (fun c_3 => ?_) (fun c_3 => ?_)
      · skip
        have g_3 := (nI_leI (by omega) (by omega)).mp (show nI i ≥ nI 99 from c_3)
        refine lv_bipush (v := 99) hx hb dX9_allStand_56 (by decide) ?_
        have hE : (0 : Int32) = 0 := rfl
        have hP : va_P G.1 vwCl (wM G am ho rn ln pl sd lt ro (sel (0 : Int32) rf (rfU rf (0 : Int32))) nb ++ [(am 1, .inl (G.2 0, 54, .inl (row r)))] ++ [(am 2, .inl (G.2 0, 54, .inl (row (pMins r i))))] ++ [(am 3, .inl (G.2 0, 54, .inl (row r2)))] ++ [(am 4, .inl (G.2 0, 54, .inl (row r4)))]) H := by rw [hE]; simp only [sel_0 rfl]; exact hP
        have hD : va_D A (wM G am ho rn ln pl sd lt ro (sel (0 : Int32) rf (rfU rf (0 : Int32))) nb ++ [(am 1, .inl (G.2 0, 54, .inl (row r)))] ++ [(am 2, .inl (G.2 0, 54, .inl (row (pMins r i))))] ++ [(am 3, .inl (G.2 0, 54, .inl (row r2)))] ++ [(am 4, .inl (G.2 0, 54, .inl (row r4)))]) := by rw [hE]; simp only [sel_0 rfl]; exact hD
        refine hret _ _ _ _ _ _ 99 (pMins r i) dX9_allStand_58 ?_ hP hD hS (Nat.le_of_ble_eq_true rfl) (Nat.le_of_ble_eq_true rfl)
        rw [hE, sel_0 rfl]
        exact pSF_no hN (fun j hj => hi22_2 j (by omega))
      · skip
        have g_3 := mt (nI_leI (by omega) (by omega)).mpr (show ¬ (nI i ≥ nI 99) from c_3)
        refine lv_aload_n hx hb dX9_allStand_28 rfl (lv_at hl 2 rfl) ?_
        refine va_get (D := G.1) (ci := 8) (v := .ref (am 2)) (C := RX9) (T := TX9) (N := 13) hx hb hts in_X9 hown hK.1 hP 0 rfl rfl 1 (by decide) (hts _ q1163) (fun _ h9 => h9) rfl dX9_allStand_29 ?_
        refine lv_iconst (v := 0) hx hb dX9_allStand_32 (by decide) ?_
        refine x_Sv (wN := fun _ => (wM G am ho rn ln pl sd lt ro rf nb ++ [(am 1, .inl (G.2 0, 54, .inl (row r)))] ++ [(am 2, .inl (G.2 0, 54, .inl (row (pMin (pMins r i) 0))))] ++ [(am 3, .inl (G.2 0, 54, .inl (row r2)))] ++ [(am 4, .inl (G.2 0, 54, .inl (row r4)))])) ⟨C0, hK, hP, hD, hS, hA⟩ ((m9_minute l G (am 2) (pMins r i) (hr.mins) 0)) (va_cwS 2 hts (lw_S q1275 q1276 q95 q1277) rfl rfl rfl (by decide +kernel) ⟨Nat.le_of_ble_eq_true rfl, Nat.le_of_ble_eq_true rfl⟩) [6] [0, 2, 4, 6, 8, 10, 1, 14, 16] rfl (fun _ => rfl) rfl rfl hl.1 rfl (Nat.le_of_ble_eq_true rfl) dX9_allStand_33 ⟨(Nat.le_of_ble_eq_true rfl), (Nat.le_of_ble_eq_true rfl)⟩ (fun u_4 H locs hw_4 hP hD hS => ?_)
        have hP : va_P G.1 vwCl (wM G am ho rn ln pl sd lt ro rf nb ++ [(am 1, .inl (G.2 0, 54, .inl (row r)))] ++ [(am 2, .inl (G.2 0, 54, .inl (row (pMin (pMins r i) 0))))] ++ [(am 3, .inl (G.2 0, 54, .inl (row r2)))] ++ [(am 4, .inl (G.2 0, 54, .inl (row r4)))]) H := hP
        have hD : va_D A (wM G am ho rn ln pl sd lt ro rf nb ++ [(am 1, .inl (G.2 0, 54, .inl (row r)))] ++ [(am 2, .inl (G.2 0, 54, .inl (row (pMin (pMins r i) 0))))] ++ [(am 3, .inl (G.2 0, 54, .inl (row r2)))] ++ [(am 4, .inl (G.2 0, 54, .inl (row r4)))]) := hD
        refine lv_aload_n hx hb dX9_allStand_36 rfl (lv_at hl 2 rfl) ?_
        refine va_get (D := G.1) (ci := 8) (v := .ref (am 2)) (C := RX9) (T := TX9) (N := 13) hx hb hts in_X9 hown hK.1 hP 0 rfl rfl 1 (by decide) (hts _ q1163) (fun _ h9 => h9) rfl dX9_allStand_37 ?_
        refine lv_iconst (v := 1) hx hb dX9_allStand_40 (by decide) ?_
        refine x_Si (wN := fun _ => (wM G am ho rn ln pl sd lt ro rf nb ++ [(am 1, .inl (G.2 0, 54, .inl (row r)))] ++ [(am 2, .inl (G.2 0, 54, .inl (row (pMin (pMins r i) 0))))] ++ [(am 3, .inl (G.2 0, 54, .inl (row r2)))] ++ [(am 4, .inl (G.2 0, 54, .inl (row r4)))])) ⟨C0, hK, hP, hD, hS, hA⟩ ((m9_setOf l G (am 2) (pMin (pMins r i) 0) (Ok.min (hr.mins)) 1)) (va_cwS 2 hts (lw_S q1281 q1282 q95 q1283) rfl rfl rfl (by decide +kernel) ⟨Nat.le_of_ble_eq_true rfl, Nat.le_of_ble_eq_true rfl⟩) [6] [0, 2, 4, 6, 8, 10, 1, 14, 16] rfl (fun _ => rfl) rfl rfl hl.1 rfl (Nat.le_of_ble_eq_true rfl) dX9_allStand_41 ⟨(Nat.le_of_ble_eq_true rfl), (Nat.le_of_ble_eq_true rfl)⟩ (fun r_5 u_5 H locs hw_5 hP hD hS => ?_)
        have hw_5 : (pSet (pMin (pMins r i) 0) 1 : Int32) = r_5 := hw_5.symm
        subst hw_5
        refine lv_iload_n hx hb dX9_allStand_44 rfl (lv_at hl 1 rfl) ?_
        refine lv_icmp_eq (tgt := 50) hx hb dX9_allStand_45 (by decide) (fun c_6 => ?_) (fun c_6 => ?_)
        · skip
          refine lv_iinc (v := nI (i + 1)) (lv' := [(2, .int (nI (i + 1))), (1, .int (pSet r 1)), (0, .ref (am 0))]) hx hb dX9_allStand_50 hl (k := 0) rfl (x_inc1 _) (by decide) rfl (fun ls hl => ?_)
          refine lv_goto (tgt := 22) hx hb dX9_allStand_53 (by decide) ?_
          exact ih_22 (i + 1) (by omega) (by omega) (fun j hj => if q : j = i + 1 then q ▸ c_6 else hi22_2 j (by omega)) _ _ _ hP hD hS (lv_sub hl [0, 1, 2] rfl)
        · skip
          refine lv_iload_n hx hb dX9_allStand_48 rfl (lv_at hl 0 rfl) ?_
          have hE : (0 : Int32) = 0 := rfl
          have hP : va_P G.1 vwCl (wM G am ho rn ln pl sd lt ro (sel (0 : Int32) rf (rfU rf (0 : Int32))) nb ++ [(am 1, .inl (G.2 0, 54, .inl (row r)))] ++ [(am 2, .inl (G.2 0, 54, .inl (row (pMin (pMins r i) 0))))] ++ [(am 3, .inl (G.2 0, 54, .inl (row r2)))] ++ [(am 4, .inl (G.2 0, 54, .inl (row r4)))]) H := by rw [hE]; simp only [sel_0 rfl]; exact hP
          have hD : va_D A (wM G am ho rn ln pl sd lt ro (sel (0 : Int32) rf (rfU rf (0 : Int32))) nb ++ [(am 1, .inl (G.2 0, 54, .inl (row r)))] ++ [(am 2, .inl (G.2 0, 54, .inl (row (pMin (pMins r i) 0))))] ++ [(am 3, .inl (G.2 0, 54, .inl (row r2)))] ++ [(am 4, .inl (G.2 0, 54, .inl (row r4)))]) := by rw [hE]; simp only [sel_0 rfl]; exact hD
          refine hret _ _ _ _ _ _ (nI i) (pMin (pMins r i) 0) dX9_allStand_49 ?_ hP hD hS (Nat.le_of_ble_eq_true rfl) (Nat.le_of_ble_eq_true rfl)
          rw [hE, sel_0 rfl]
          exact pSF_fM (by omega) hi22_2 hN c_6
  exact loop_22 100 0 (by omega) (by omega) (fun j hj => by rw [show j = 0 by omega]; rfl) _ _ _ hP hD hS (lv_sub hl [0, 1, 2] rfl)

/-! the model: draughts, what it was (printed by tools/model9.py) -/
/-! the model: draughts, what it was, orders -/
set_option maxRecDepth 100000
theorem mn_and {x k : Nat} (hx : x < 1024) (hk : k < 32) : (nI x >>> (nI k &&& 31)) &&& 1 = bI (hs (nI x) k) := by
  rw [sh_nI (by omega) hk, and1, hs_nI (by omega) hk, pc_bit]
  cases x.testBit k <;> rfl
/-- whether a turned thing's falls are as told, of those below i -/
def wwP (r : Rw) (ro : Nat → Int32) (t : Nat) (w : Int32) (k a : Nat) : Bool := decide ((if pFls (pFit r t w k) a < 0 then 99 else pFls (pFit r t w k) a) = ro a)
theorem fls_wA {q : Rw} {a : Nat} : (if pFls q a < 0 then 99 else pFls q a) = wA q 99 a := by
  have h0 := fs_le (fun n => decide (pMins q n 3 a = 1)) 100
  have e0 : fs (wnP q a) 100 = pFallIn q a := rfl
  rcases pFls_c q a with ⟨e1, e2⟩ | ⟨e1, e2⟩
  · rw [e2, if_pos (by decide)]
    unfold wA
    have h1 : ¬ fs (wnP q a) 99 < 99 := fun z => by
      have h2 := fs_y z
      rw [e0] at h2
      omega
    rw [if_neg h1]
  · rw [e2, if_neg (nI_nn (by omega))]
    unfold wA
    by_cases h : fs (wnP q a) 99 < 99
    · rw [if_pos h]
      have h2 := fs_y h
      rw [e0] at h2
      rw [h2]
    · rw [if_neg h]
      have h3 := fs_le (wnP q a) 99
      have h4 : pFallIn q a = 99 := by
        cases hq : wnP q a 99 with
        | true => have := fs_s h hq; rw [e0] at this; exact this
        | false => have := fs_n h hq; rw [e0] at this; omega
      rw [h4]
      rfl
theorem wwP_e {r : Rw} {ro : Nat → Int32} {t : Nat} {w : Int32} {k a : Nat} : wwP r ro t w k a = rwP ro (pFit r t w k) a := by
  unfold wwP rwP
  rw [fls_wA]
  simp only [decide_eq_decide]
  exact eq_comm
theorem isRw_e {r : Rw} {ro : Nat → Int32} {t : Nat} {w : Int32} {k : Nat} : pAll (wwP r ro t w k) (mny r) = isRw ro (pFit r t w k) := by
  unfold isRw
  have em : mny (pFit r t w k) = mny r := by unfold pFit; split <;> rfl
  rw [em, show wwP r ro t w k = rwP ro (pFit r t w k) from funext (fun a => wwP_e)]
theorem pAll_le {P : Nat → Bool} {i n : Nat} (h : i ≤ n) (h2 : pAll P i = false) : pAll P n = false := by
  cases e : pAll P n with
  | false => rfl
  | true =>
    have := pAll_spec.mpr (fun t (ht : t < i) => pAll_spec.mp e t (by omega))
    rw [this] at h2
    cases h2
theorem pAll_sT {P : Nat → Bool} {n : Nat} (h : pAll P n = true) (h2 : P n = true) : 1 = bI (pAll P (n + 1)) := by
  show 1 = bI (pAll P n && P n)
  rw [h, h2]
  rfl
theorem Ok.fit {r : Rw} (h : Ok r) {t k : Nat} {w : Int32} (hw : w = 0 ∨ w = 1) (hk : k < pFiN w) : Ok (pFit r t w k) := by
  rcases hw with rfl | rfl
  · exact h.fit0 hk
  · exact h.fit1 (by have hk : k < 10 := hk; omega)
theorem pDrR_n (r : Rw) (x : Nat) : ∀ k, mny (pDrR r x k) = mny r
  | 0 => rfl
  | k + 1 => pDrR_n r x k
set_option maxHeartbeats 4000000 in
set_option maxRecDepth 100000 in
theorem n_draught (l : Launch) (G : xG) (am : Nat → Nat) (r rm r2 r4 : Rw) (ho rn ln pl sd : Int32) (lt ro rf nb : Nat → Int32) (hr : Ok r) (hp : r 5 3 = 0) (t b x w : Int32) : xCl l G yX9_draught cX9_draught 13 (some .long) ({ frames := 4, cells := 0, slots := 0, locals := 88 } : Room) [.ref (am 0), .int t, .int b, .int x, .int w] (wM G am ho rn ln pl sd lt ro rf nb ++ [(am 1, .inl (G.2 0, 54, .inl (row r)))] ++ [(am 2, .inl (G.2 0, 54, .inl (row rm)))] ++ [(am 3, .inl (G.2 0, 54, .inl (row r2)))] ++ [(am 4, .inl (G.2 0, 54, .inl (row r4)))]) (S := Rw) (fun v _ => v = sel (eS (tB r t) (-1) (eS (decide (¬ b < 0 ∧ ¬ x < 2)) (-4) (eS (decide (b ≤ 7 ∧ x ≤ 20)) (-6) (eS (inR w 0 1) (-2) 0)))) (pDr r (ix t) (ix b) (ix x) w) (4000000000000000000 - (eS (tB r t) (-1) (eS (decide (¬ b < 0 ∧ ¬ x < 2)) (-4) (eS (decide (b ≤ 7 ∧ x ≤ 20)) (-6) (eS (inR w 0 1) (-2) 0)))).toInt64)) (fun u => (wM G am ho rn ln pl sd lt ro (sel (eS (tB r t) (-1) (eS (decide (¬ b < 0 ∧ ¬ x < 2)) (-4) (eS (decide (b ≤ 7 ∧ x ≤ 20)) (-6) (eS (inR w 0 1) (-2) 0)))) rf (rfU rf (eS (tB r t) (-1) (eS (decide (¬ b < 0 ∧ ¬ x < 2)) (-4) (eS (decide (b ≤ 7 ∧ x ≤ 20)) (-6) (eS (inR w 0 1) (-2) 0)))))) nb ++ [(am 1, .inl (G.2 0, 54, .inl (row r)))] ++ [(am 2, .inl (G.2 0, 54, .inl (row u)))] ++ [(am 3, .inl (G.2 0, 54, .inl (row r2)))] ++ [(am 4, .inl (G.2 0, 54, .inl (row r4)))])) := by
  refine x_openl (by decide) (Nat.le_of_ble_eq_true rfl) ?_
  intro p e s m args below meth c A Q ls C0 hK hP hD hA hl hret
  obtain ⟨hx, hb, hml, hown, hts⟩ := id C0
  have hS : va_S A s.heap s.heap [] := va_S.rf
  have hP : va_P G.1 vwCl (wM G am ho rn ln pl sd lt ro rf nb ++ [(am 1, .inl (G.2 0, 54, .inl (row r)))] ++ [(am 2, .inl (G.2 0, 54, .inl (row rm)))] ++ [(am 3, .inl (G.2 0, 54, .inl (row r2)))] ++ [(am 4, .inl (G.2 0, 54, .inl (row r4)))]) s.heap := hP
  have hD : va_D A (wM G am ho rn ln pl sd lt ro rf nb ++ [(am 1, .inl (G.2 0, 54, .inl (row r)))] ++ [(am 2, .inl (G.2 0, 54, .inl (row rm)))] ++ [(am 3, .inl (G.2 0, 54, .inl (row r2)))] ++ [(am 4, .inl (G.2 0, 54, .inl (row r4)))]) := hD
  have hl : lv_has ls 13 [(0, .ref (am 0)), (1, .int t), (2, .int b), (3, .int x), (4, .int w)] := hl
  have hr0 := hr.n
  have hN := hr.le
  refine lv_aload_n hx hb dX9_draught_0 rfl (lv_at hl 0 rfl) ?_
  refine lv_iload_n hx hb dX9_draught_1 rfl (lv_at hl 1 rfl) ?_
  refine x_Vi (wN := fun _ => (wM G am ho rn ln pl sd lt ro rf nb ++ [(am 1, .inl (G.2 0, 54, .inl (row r)))] ++ [(am 2, .inl (G.2 0, 54, .inl (row rm)))] ++ [(am 3, .inl (G.2 0, 54, .inl (row r2)))] ++ [(am 4, .inl (G.2 0, 54, .inl (row r4)))])) ⟨C0, hK, hP, hD, hS, hA⟩ 0 rfl (ci := 8) rfl rfl ((m9_isThing l G am r rm r2 r4 ho rn ln pl sd lt ro rf nb hr hp t)) (cwV 1 hts (lw_V q1247 q1249 qs73 q95 q1250) rfl rfl rfl (by decide +kernel) ⟨Nat.le_of_ble_eq_true rfl, Nat.le_of_ble_eq_true rfl⟩) [0, 1, 2, 3, 4, 5, 6, 7, 8] [1, 3, 5, 7, 9, 11, 13, 15, 17] rfl (fun _ => rfl) rfl rfl hl.1 rfl (Nat.le_of_ble_eq_true rfl) dX9_draught_2 ⟨(Nat.le_of_ble_eq_true rfl), (Nat.le_of_ble_eq_true rfl)⟩ (fun r_1 u_1 H locs hw_1 hP hD hS => ?_)
  have hw_1 : (bI (tB r t) : Int32) = r_1 := hw_1.symm
  subst hw_1
  refine lv_if_ne (tgt := 14) hx hb dX9_draught_5 (by decide) (fun c_2 => ?_) (fun c_2 => ?_)
  · skip
    obtain ⟨hj_t, et_t⟩ := tB_ix hN (by first | exact bI_n0 c_2 | exact bI_0.mp c_2)
    rw [et_t] at hl
    refine lv_iload_n hx hb dX9_draught_14 rfl (lv_at hl 2 rfl) ?_
    refine lv_if_lt (tgt := 23) hx hb dX9_draught_15 (by decide) (fun c_3 => ?_) (fun c_3 => ?_)
    · skip
      refine lv_aload_n hx hb dX9_draught_23 rfl (lv_at hl 0 rfl) ?_
      refine lv_bipush (v := (-4)) hx hb dX9_draught_24 (by decide) ?_
      refine x_Vl (wN := fun _ => (wM G am ho rn ln pl sd lt ro (rfU rf (-4)) nb ++ [(am 1, .inl (G.2 0, 54, .inl (row r)))] ++ [(am 2, .inl (G.2 0, 54, .inl (row rm)))] ++ [(am 3, .inl (G.2 0, 54, .inl (row r2)))] ++ [(am 4, .inl (G.2 0, 54, .inl (row r4)))])) ⟨C0, hK, hP, hD, hS, hA⟩ 0 rfl (ci := 8) rfl rfl ((m9_noWide l G am ho rn ln pl sd lt ro rf nb (-4) noOk_k.2.2.2.1)) (cwV 1 hts (lw_V q1424 q1426 qs82 q95 q1427) rfl rfl rfl (by decide +kernel) ⟨Nat.le_of_ble_eq_true rfl, Nat.le_of_ble_eq_true rfl⟩) [0, 1, 2, 3, 4] [1, 3, 5, 7, 9, 10, 12, 14, 16] rfl (fun _ => rfl) rfl rfl hl.1 rfl (Nat.le_of_ble_eq_true rfl) dX9_draught_26 ⟨(Nat.le_of_ble_eq_true rfl), (Nat.le_of_ble_eq_true rfl)⟩ (fun r_4 u_4 H locs hw_4 hP hD hS => ?_)
      have hw_4 : (4000000000000000000 - ((-4) : Int32).toInt64 : Int64) = r_4 := hw_4.symm
      subst hw_4
      have hP : va_P G.1 vwCl (wM G am ho rn ln pl sd lt ro (rfU rf (-4)) nb ++ [(am 1, .inl (G.2 0, 54, .inl (row r)))] ++ [(am 2, .inl (G.2 0, 54, .inl (row rm)))] ++ [(am 3, .inl (G.2 0, 54, .inl (row r2)))] ++ [(am 4, .inl (G.2 0, 54, .inl (row r4)))]) H := hP
      have hD : va_D A (wM G am ho rn ln pl sd lt ro (rfU rf (-4)) nb ++ [(am 1, .inl (G.2 0, 54, .inl (row r)))] ++ [(am 2, .inl (G.2 0, 54, .inl (row rm)))] ++ [(am 3, .inl (G.2 0, 54, .inl (row r2)))] ++ [(am 4, .inl (G.2 0, 54, .inl (row r4)))]) := hD
      have hE : eS (tB r t) (-1) (eS (decide (¬ b < 0 ∧ ¬ x < 2)) (-4) (eS (decide (b ≤ 7 ∧ x ≤ 20)) (-6) (eS (inR w 0 1) (-2) 0))) = (-4) := by rw [eS_t (show tB r t = true from (by first | exact bI_n0 c_2 | exact bI_0.mp c_2)), eS_f (decide_eq_false (fun z => z.1 c_3))]
      have hne : ((-4) : Int32) ≠ 0 := by decide
      have hP : va_P G.1 vwCl (wM G am ho rn ln pl sd lt ro (sel (eS (tB r t) (-1) (eS (decide (¬ b < 0 ∧ ¬ x < 2)) (-4) (eS (decide (b ≤ 7 ∧ x ≤ 20)) (-6) (eS (inR w 0 1) (-2) 0)))) rf (rfU rf (eS (tB r t) (-1) (eS (decide (¬ b < 0 ∧ ¬ x < 2)) (-4) (eS (decide (b ≤ 7 ∧ x ≤ 20)) (-6) (eS (inR w 0 1) (-2) 0)))))) nb ++ [(am 1, .inl (G.2 0, 54, .inl (row r)))] ++ [(am 2, .inl (G.2 0, 54, .inl (row rm)))] ++ [(am 3, .inl (G.2 0, 54, .inl (row r2)))] ++ [(am 4, .inl (G.2 0, 54, .inl (row r4)))]) H := by rw [hE]; simp only [sel_n hne]; exact hP
      have hD : va_D A (wM G am ho rn ln pl sd lt ro (sel (eS (tB r t) (-1) (eS (decide (¬ b < 0 ∧ ¬ x < 2)) (-4) (eS (decide (b ≤ 7 ∧ x ≤ 20)) (-6) (eS (inR w 0 1) (-2) 0)))) rf (rfU rf (eS (tB r t) (-1) (eS (decide (¬ b < 0 ∧ ¬ x < 2)) (-4) (eS (decide (b ≤ 7 ∧ x ≤ 20)) (-6) (eS (inR w 0 1) (-2) 0)))))) nb ++ [(am 1, .inl (G.2 0, 54, .inl (row r)))] ++ [(am 2, .inl (G.2 0, 54, .inl (row rm)))] ++ [(am 3, .inl (G.2 0, 54, .inl (row r2)))] ++ [(am 4, .inl (G.2 0, 54, .inl (row r4)))]) := by rw [hE]; simp only [sel_n hne]; exact hD
      refine hret _ _ _ _ _ _ (4000000000000000000 - ((-4) : Int32).toInt64) rm dX9_draught_29 ?_ hP hD hS (Nat.le_of_ble_eq_true rfl) (Nat.le_of_ble_eq_true rfl)
      rw [hE, sel_n hne]
    · skip
      refine lv_iload_n hx hb dX9_draught_18 rfl (lv_at hl 3 rfl) ?_
      refine lv_iconst (v := 2) hx hb dX9_draught_19 (by decide) ?_
      refine lv_icmp_ge (tgt := 30) hx hb dX9_draught_20 (by decide) (fun c_5 => ?_) (fun c_5 => ?_)
      · skip
        refine lv_iload_n hx hb dX9_draught_30 rfl (lv_at hl 2 rfl) ?_
        refine lv_bipush (v := 7) hx hb dX9_draught_31 (by decide) ?_
        refine lv_icmp_gt (tgt := 42) hx hb dX9_draught_33 (by decide) (fun c_6 => ?_) (fun c_6 => ?_)
        · skip
          refine lv_aload_n hx hb dX9_draught_42 rfl (lv_at hl 0 rfl) ?_
          refine lv_bipush (v := (-6)) hx hb dX9_draught_43 (by decide) ?_
          refine x_Vl (wN := fun _ => (wM G am ho rn ln pl sd lt ro (rfU rf (-6)) nb ++ [(am 1, .inl (G.2 0, 54, .inl (row r)))] ++ [(am 2, .inl (G.2 0, 54, .inl (row rm)))] ++ [(am 3, .inl (G.2 0, 54, .inl (row r2)))] ++ [(am 4, .inl (G.2 0, 54, .inl (row r4)))])) ⟨C0, hK, hP, hD, hS, hA⟩ 0 rfl (ci := 8) rfl rfl ((m9_noWide l G am ho rn ln pl sd lt ro rf nb (-6) noOk_k.2.2.2.2)) (cwV 1 hts (lw_V q1424 q1426 qs82 q95 q1427) rfl rfl rfl (by decide +kernel) ⟨Nat.le_of_ble_eq_true rfl, Nat.le_of_ble_eq_true rfl⟩) [0, 1, 2, 3, 4] [1, 3, 5, 7, 9, 10, 12, 14, 16] rfl (fun _ => rfl) rfl rfl hl.1 rfl (Nat.le_of_ble_eq_true rfl) dX9_draught_45 ⟨(Nat.le_of_ble_eq_true rfl), (Nat.le_of_ble_eq_true rfl)⟩ (fun r_7 u_7 H locs hw_7 hP hD hS => ?_)
          have hw_7 : (4000000000000000000 - ((-6) : Int32).toInt64 : Int64) = r_7 := hw_7.symm
          subst hw_7
          have hP : va_P G.1 vwCl (wM G am ho rn ln pl sd lt ro (rfU rf (-6)) nb ++ [(am 1, .inl (G.2 0, 54, .inl (row r)))] ++ [(am 2, .inl (G.2 0, 54, .inl (row rm)))] ++ [(am 3, .inl (G.2 0, 54, .inl (row r2)))] ++ [(am 4, .inl (G.2 0, 54, .inl (row r4)))]) H := hP
          have hD : va_D A (wM G am ho rn ln pl sd lt ro (rfU rf (-6)) nb ++ [(am 1, .inl (G.2 0, 54, .inl (row r)))] ++ [(am 2, .inl (G.2 0, 54, .inl (row rm)))] ++ [(am 3, .inl (G.2 0, 54, .inl (row r2)))] ++ [(am 4, .inl (G.2 0, 54, .inl (row r4)))]) := hD
          have hE : eS (tB r t) (-1) (eS (decide (¬ b < 0 ∧ ¬ x < 2)) (-4) (eS (decide (b ≤ 7 ∧ x ≤ 20)) (-6) (eS (inR w 0 1) (-2) 0))) = (-6) := by rw [eS_t (show tB r t = true from (by first | exact bI_n0 c_2 | exact bI_0.mp c_2)), eS_t (decide_eq_true ⟨c_3, Int32.not_lt.mpr c_5⟩), eS_f (decide_eq_false (fun z => absurd c_6 (Int32.not_lt.mpr z.1)))]
          have hne : ((-6) : Int32) ≠ 0 := by decide
          have hP : va_P G.1 vwCl (wM G am ho rn ln pl sd lt ro (sel (eS (tB r t) (-1) (eS (decide (¬ b < 0 ∧ ¬ x < 2)) (-4) (eS (decide (b ≤ 7 ∧ x ≤ 20)) (-6) (eS (inR w 0 1) (-2) 0)))) rf (rfU rf (eS (tB r t) (-1) (eS (decide (¬ b < 0 ∧ ¬ x < 2)) (-4) (eS (decide (b ≤ 7 ∧ x ≤ 20)) (-6) (eS (inR w 0 1) (-2) 0)))))) nb ++ [(am 1, .inl (G.2 0, 54, .inl (row r)))] ++ [(am 2, .inl (G.2 0, 54, .inl (row rm)))] ++ [(am 3, .inl (G.2 0, 54, .inl (row r2)))] ++ [(am 4, .inl (G.2 0, 54, .inl (row r4)))]) H := by rw [hE]; simp only [sel_n hne]; exact hP
          have hD : va_D A (wM G am ho rn ln pl sd lt ro (sel (eS (tB r t) (-1) (eS (decide (¬ b < 0 ∧ ¬ x < 2)) (-4) (eS (decide (b ≤ 7 ∧ x ≤ 20)) (-6) (eS (inR w 0 1) (-2) 0)))) rf (rfU rf (eS (tB r t) (-1) (eS (decide (¬ b < 0 ∧ ¬ x < 2)) (-4) (eS (decide (b ≤ 7 ∧ x ≤ 20)) (-6) (eS (inR w 0 1) (-2) 0)))))) nb ++ [(am 1, .inl (G.2 0, 54, .inl (row r)))] ++ [(am 2, .inl (G.2 0, 54, .inl (row rm)))] ++ [(am 3, .inl (G.2 0, 54, .inl (row r2)))] ++ [(am 4, .inl (G.2 0, 54, .inl (row r4)))]) := by rw [hE]; simp only [sel_n hne]; exact hD
          refine hret _ _ _ _ _ _ (4000000000000000000 - ((-6) : Int32).toInt64) rm dX9_draught_48 ?_ hP hD hS (Nat.le_of_ble_eq_true rfl) (Nat.le_of_ble_eq_true rfl)
          rw [hE, sel_n hne]
        · skip
          refine lv_iload_n hx hb dX9_draught_36 rfl (lv_at hl 3 rfl) ?_
          refine lv_bipush (v := 20) hx hb dX9_draught_37 (by decide) ?_
          refine lv_icmp_le (tgt := 49) hx hb dX9_draught_39 (by decide) (fun c_8 => ?_) (fun c_8 => ?_)
          · skip
            refine lv_iload hx hb dX9_draught_49 (lv_at hl 4 rfl) ?_
            refine lv_iconst (v := 0) hx hb dX9_draught_51 (by decide) ?_
            refine lv_iconst (v := 1) hx hb dX9_draught_52 (by decide) ?_
            refine x_Si (wN := fun _ => (wM G am ho rn ln pl sd lt ro rf nb ++ [(am 1, .inl (G.2 0, 54, .inl (row r)))] ++ [(am 2, .inl (G.2 0, 54, .inl (row rm)))] ++ [(am 3, .inl (G.2 0, 54, .inl (row r2)))] ++ [(am 4, .inl (G.2 0, 54, .inl (row r4)))])) ⟨C0, hK, hP, hD, hS, hA⟩ ((m9_isIn l G w 0 1)) (va_cwS 3 hts (lw_S q1233 q1234 q95 q1235) rfl rfl rfl (by decide +kernel) ⟨Nat.le_of_ble_eq_true rfl, Nat.le_of_ble_eq_true rfl⟩) [] [0, 2, 4, 6, 8, 10, 12, 14, 16] rfl (fun _ => rfl) rfl rfl hl.1 rfl (Nat.le_of_ble_eq_true rfl) dX9_draught_53 ⟨(Nat.le_of_ble_eq_true rfl), (Nat.le_of_ble_eq_true rfl)⟩ (fun r_9 u_9 H locs hw_9 hP hD hS => ?_)
            have hw_9 : r_9 = bI (inR w 0 1) := hw_9.trans rfl
            have hw_9 : (bI (inR w 0 1) : Int32) = r_9 := hw_9.symm
            subst hw_9
            refine lv_if_ne (tgt := 66) hx hb dX9_draught_56 (by decide) (fun c_10 => ?_) (fun c_10 => ?_)
            · skip
              obtain ⟨hj_b, et_b⟩ := dr_b c_3 (Int32.not_lt.mp c_6)
              rw [et_b] at hl
              obtain ⟨hi_x, hj_x, et_x⟩ := dr_x (Int32.not_lt.mpr c_5) c_8
              rw [et_x] at hl
              have h2c := p7_le hj_b
              have htn := tn_le hj_x (by omega) hj_b
              have htp : 0 < ix x ^ ix b := Nat.pow_pos (by omega)
              refine lv_lconst (v := 0) hx hb dX9_draught_66 (by decide) ?_
              refine lv_lstore (lv' := [(5, .long 0), (0, .ref (am 0)), (1, .int (nI (ix t))), (2, .int (nI (ix b))), (3, .int (nI (ix x))), (4, .int w)]) hx hb dX9_draught_67 hl (by decide) rfl (fun ls hl => ?_)
              refine lv_lconst (v := 1) hx hb dX9_draught_69 (by decide) ?_
              refine lv_lstore (lv' := [(7, .long 1), (5, .long 0), (0, .ref (am 0)), (1, .int (nI (ix t))), (2, .int (nI (ix b))), (3, .int (nI (ix x))), (4, .int w)]) hx hb dX9_draught_70 hl (by decide) rfl (fun ls hl => ?_)
              refine lv_iconst (v := 0) hx hb dX9_draught_72 (by decide) ?_
              refine lv_istore (lv' := [(9, .int 0), (7, .long 1), (5, .long 0), (0, .ref (am 0)), (1, .int (nI (ix t))), (2, .int (nI (ix b))), (3, .int (nI (ix x))), (4, .int w)]) hx hb dX9_draught_73 hl (by decide) rfl (fun ls hl => ?_)
              have loop_75 : ∀ (n : Nat) (k : Nat), (k ≤ ix b) → (ix b < k + n) → ∀ (H : Heap) (locs : List Loc) (ls : Array Slot), va_P G.1 vwCl (wM G am ho rn ln pl sd lt ro rf nb ++ [(am 1, .inl (G.2 0, 54, .inl (row r)))] ++ [(am 2, .inl (G.2 0, 54, .inl (row rm)))] ++ [(am 3, .inl (G.2 0, 54, .inl (row r2)))] ++ [(am 4, .inl (G.2 0, 54, .inl (row r4)))]) H → va_D A (wM G am ho rn ln pl sd lt ro rf nb ++ [(am 1, .inl (G.2 0, 54, .inl (row r)))] ++ [(am 2, .inl (G.2 0, 54, .inl (row rm)))] ++ [(am 3, .inl (G.2 0, 54, .inl (row r2)))] ++ [(am 4, .inl (G.2 0, 54, .inl (row r4)))]) → va_S A s.heap H locs → lv_has ls 13 [(9, .int (nI k)), (7, .long (lN (ix x ^ k))), (5, .long 0), (0, .ref (am 0)), (1, .int (nI (ix t))), (2, .int (nI (ix b))), (3, .int (nI (ix x))), (4, .int w)] → W p l e ({ frames := 4, cells := 0, slots := 0, locals := 88 } : Room) s m args below meth c H locs 0 0 Q (F0 m 75 ls []) := by
                intro n
                induction n with
                | zero => intro k hi75_0 hi75_1; exact absurd hi75_1 (by omega)
                | succ n ih_75 =>
                  intro k hi75_0 hi75_1 H locs ls hP hD hS hl
                  refine lv_iload hx hb dX9_draught_75 (lv_at hl 0 rfl) ?_
                  refine lv_iload_n hx hb dX9_draught_77 rfl (lv_at hl 5 rfl) ?_
                  refine lv_icmp_ge (tgt := 94) hx hb dX9_draught_78 (by decide) (fun c_11 => ?_) (fun c_11 => ?_)
                  · skip
                    have g_11 := (nI_leI (by omega) (by omega)).mp c_11
                    rw [show k = ix b by omega] at hl
                    refine lv_iconst (v := 0) hx hb dX9_draught_94 (by decide) ?_
                    refine lv_istore (lv' := [(9, .int 0), (7, .long (lN (ix x ^ (ix b)))), (5, .long 0), (0, .ref (am 0)), (1, .int (nI (ix t))), (2, .int (nI (ix b))), (3, .int (nI (ix x))), (4, .int w)]) hx hb dX9_draught_95 hl (by decide) rfl (fun ls hl => ?_)
                    have loop_97 : ∀ (n : Nat) (y : Nat) (q9 : Rw), (y ≤ 2 ^ ix b) → (2 ^ ix b < y + n) → ∀ (H : Heap) (locs : List Loc) (ls : Array Slot), va_P G.1 vwCl (wM G am ho rn ln pl sd lt ro rf nb ++ [(am 1, .inl (G.2 0, 54, .inl (row r)))] ++ [(am 2, .inl (G.2 0, 54, .inl (row q9)))] ++ [(am 3, .inl (G.2 0, 54, .inl (row r2)))] ++ [(am 4, .inl (G.2 0, 54, .inl (row r4)))]) H → va_D A (wM G am ho rn ln pl sd lt ro rf nb ++ [(am 1, .inl (G.2 0, 54, .inl (row r)))] ++ [(am 2, .inl (G.2 0, 54, .inl (row q9)))] ++ [(am 3, .inl (G.2 0, 54, .inl (row r2)))] ++ [(am 4, .inl (G.2 0, 54, .inl (row r4)))]) → va_S A s.heap H locs → lv_has ls 13 [(9, .int (nI y)), (7, .long (lN (ix x ^ (ix b)))), (5, .long (lN (pDrA r (ix t) (ix b) (ix x) y))), (0, .ref (am 0)), (1, .int (nI (ix t))), (2, .int (nI (ix b))), (3, .int (nI (ix x))), (4, .int w)] → W p l e ({ frames := 4, cells := 0, slots := 0, locals := 88 } : Room) s m args below meth c H locs 0 0 Q (F0 m 97 ls []) := by
                      intro n
                      induction n with
                      | zero => intro y q9 hi97_0 hi97_1; exact absurd hi97_1 (by omega)
                      | succ n ih_97 =>
                        intro y q9 hi97_0 hi97_1 H locs ls hP hD hS hl
                        refine lv_iload hx hb dX9_draught_97 (lv_at hl 0 rfl) ?_
                        refine lv_iconst (v := 1) hx hb dX9_draught_99 (by decide) ?_
                        refine lv_iload_n hx hb dX9_draught_100 rfl (lv_at hl 5 rfl) ?_
                        refine x_ishl hx hb dX9_draught_101 (v := b1 (ix b)) rfl ?_
                        rw [show (b1 (ix b) : Int32) = nI (2 ^ ix b) from (b1_nI (ix b) (by omega))]
                        refine lv_icmp_ge (tgt := 199) hx hb dX9_draught_102 (by decide) (fun c_12 => ?_) (fun c_12 => ?_)
                        · skip
                          have g_12 := (nI_leI (by omega) (by omega)).mp c_12
                          rw [show y = 2 ^ ix b by omega] at hl
                          refine lv_lload hx hb dX9_draught_199 (lv_at hl 2 rfl) ?_
                          refine lv_lload hx hb dX9_draught_201 (lv_at hl 1 rfl) ?_
                          refine lv_iload hx hb dX9_draught_203 (lv_at hl 7 rfl) ?_
                          refine x_Sl (wN := fun _ => (wM G am ho rn ln pl sd lt ro rf nb ++ [(am 1, .inl (G.2 0, 54, .inl (row r)))] ++ [(am 2, .inl (G.2 0, 54, .inl (row q9)))] ++ [(am 3, .inl (G.2 0, 54, .inl (row r2)))] ++ [(am 4, .inl (G.2 0, 54, .inl (row r4)))])) ⟨C0, hK, hP, hD, hS, hA⟩ ((m9_partOf l G (pDrA r (ix t) (ix b) (ix x) (2 ^ ix b)) (ix x ^ (ix b)) w (Nat.lt_trans (pDrA_63 hj_x (by omega) hj_b (Nat.le_refl _)) (by omega)) (Nat.lt_of_le_of_lt htn (by omega)) htp)) (va_cwS 3 hts (lw_S q1429 q1430 q95 q1431) rfl rfl rfl (by decide +kernel) ⟨Nat.le_of_ble_eq_true rfl, Nat.le_of_ble_eq_true rfl⟩) [] [0, 2, 4, 6, 8, 10, 12, 14, 16] rfl (fun _ => rfl) rfl rfl hl.1 rfl (Nat.le_of_ble_eq_true rfl) dX9_draught_205 ⟨(Nat.le_of_ble_eq_true rfl), (Nat.le_of_ble_eq_true rfl)⟩ (fun r_13 u_13 H locs hw_13 hP hD hS => ?_)
                          have hw_13 : (pDrF (pDrA r (ix t) (ix b) (ix x) (2 ^ ix b)) (ix x ^ (ix b)) w : Int64) = r_13 := hw_13.symm
                          subst hw_13
                          have hE : eS (tB r t) (-1) (eS (decide (¬ b < 0 ∧ ¬ x < 2)) (-4) (eS (decide (b ≤ 7 ∧ x ≤ 20)) (-6) (eS (inR w 0 1) (-2) 0))) = 0 := by rw [eS_t (show tB r t = true from (by first | exact bI_n0 c_2 | exact bI_0.mp c_2)), eS_t (decide_eq_true ⟨c_3, Int32.not_lt.mpr c_5⟩), eS_t (decide_eq_true ⟨Int32.not_lt.mp c_6, c_8⟩), eS_t (show inR w 0 1 = true from (by first | exact bI_n0 c_10 | exact bI_0.mp c_10))]
                          have hP : va_P G.1 vwCl (wM G am ho rn ln pl sd lt ro (sel (eS (tB r t) (-1) (eS (decide (¬ b < 0 ∧ ¬ x < 2)) (-4) (eS (decide (b ≤ 7 ∧ x ≤ 20)) (-6) (eS (inR w 0 1) (-2) 0)))) rf (rfU rf (eS (tB r t) (-1) (eS (decide (¬ b < 0 ∧ ¬ x < 2)) (-4) (eS (decide (b ≤ 7 ∧ x ≤ 20)) (-6) (eS (inR w 0 1) (-2) 0)))))) nb ++ [(am 1, .inl (G.2 0, 54, .inl (row r)))] ++ [(am 2, .inl (G.2 0, 54, .inl (row q9)))] ++ [(am 3, .inl (G.2 0, 54, .inl (row r2)))] ++ [(am 4, .inl (G.2 0, 54, .inl (row r4)))]) H := by rw [hE]; simp only [sel_0 rfl]; exact hP
                          have hD : va_D A (wM G am ho rn ln pl sd lt ro (sel (eS (tB r t) (-1) (eS (decide (¬ b < 0 ∧ ¬ x < 2)) (-4) (eS (decide (b ≤ 7 ∧ x ≤ 20)) (-6) (eS (inR w 0 1) (-2) 0)))) rf (rfU rf (eS (tB r t) (-1) (eS (decide (¬ b < 0 ∧ ¬ x < 2)) (-4) (eS (decide (b ≤ 7 ∧ x ≤ 20)) (-6) (eS (inR w 0 1) (-2) 0)))))) nb ++ [(am 1, .inl (G.2 0, 54, .inl (row r)))] ++ [(am 2, .inl (G.2 0, 54, .inl (row q9)))] ++ [(am 3, .inl (G.2 0, 54, .inl (row r2)))] ++ [(am 4, .inl (G.2 0, 54, .inl (row r4)))]) := by rw [hE]; simp only [sel_0 rfl]; exact hD
                          refine hret _ _ _ _ _ _ (pDrF (pDrA r (ix t) (ix b) (ix x) (2 ^ ix b)) (ix x ^ (ix b)) w) q9 dX9_draught_208 ?_ hP hD hS (Nat.le_of_ble_eq_true rfl) (Nat.le_of_ble_eq_true rfl)
                          rw [hE, sel_0 rfl]
                        · skip
                          have g_12 := mt (nI_leI (by omega) (by omega)).mpr c_12
                          refine lv_lconst (v := 1) hx hb dX9_draught_105 (by decide) ?_
                          refine lv_lstore (lv' := [(10, .long 1), (9, .int (nI y)), (7, .long (lN (ix x ^ (ix b)))), (5, .long (lN (pDrA r (ix t) (ix b) (ix x) y))), (0, .ref (am 0)), (1, .int (nI (ix t))), (2, .int (nI (ix b))), (3, .int (nI (ix x))), (4, .int w)]) hx hb dX9_draught_106 hl (by decide) rfl (fun ls hl => ?_)
                          refine lv_aload_n hx hb dX9_draught_108 rfl (lv_at hl 4 rfl) ?_
                          refine va_get (D := G.1) (ci := 8) (v := .ref (am 1)) (C := RX9) (T := TX9) (N := 13) hx hb hts in_X9 hown hK.1 hP 0 rfl rfl 0 (by decide) (hts _ q1162) (fun _ h9 => h9) rfl dX9_draught_109 ?_
                          refine lv_aload_n hx hb dX9_draught_112 rfl (lv_at hl 4 rfl) ?_
                          refine va_get (D := G.1) (ci := 8) (v := .ref (am 2)) (C := RX9) (T := TX9) (N := 13) hx hb hts in_X9 hown hK.1 hP 0 rfl rfl 1 (by decide) (hts _ q1163) (fun _ h9 => h9) rfl dX9_draught_113 ?_
                          refine x_Sv (wN := fun _ => (wM G am ho rn ln pl sd lt ro rf nb ++ [(am 1, .inl (G.2 0, 54, .inl (row r)))] ++ [(am 2, .inl (G.2 0, 54, .inl (row r)))] ++ [(am 3, .inl (G.2 0, 54, .inl (row r2)))] ++ [(am 4, .inl (G.2 0, 54, .inl (row r4)))])) ⟨C0, hK, hP, hD, hS, hA⟩ ((m9_copies l G (am 1) (am 2) (row r) (row q9))) (va_cwS 2 hts (lw_S q1236 q1237 q95 q1238) rfl rfl rfl (by decide +kernel) ⟨Nat.le_of_ble_eq_true rfl, Nat.le_of_ble_eq_true rfl⟩) [5, 6] [0, 2, 4, 6, 8, 1, 3, 14, 16] rfl (fun _ => rfl) rfl rfl hl.1 rfl (Nat.le_of_ble_eq_true rfl) dX9_draught_116 ⟨(Nat.le_of_ble_eq_true rfl), (Nat.le_of_ble_eq_true rfl)⟩ (fun u_14 H locs hw_14 hP hD hS => ?_)
                          have hP : va_P G.1 vwCl (wM G am ho rn ln pl sd lt ro rf nb ++ [(am 1, .inl (G.2 0, 54, .inl (row r)))] ++ [(am 2, .inl (G.2 0, 54, .inl (row r)))] ++ [(am 3, .inl (G.2 0, 54, .inl (row r2)))] ++ [(am 4, .inl (G.2 0, 54, .inl (row r4)))]) H := hP
                          have hD : va_D A (wM G am ho rn ln pl sd lt ro rf nb ++ [(am 1, .inl (G.2 0, 54, .inl (row r)))] ++ [(am 2, .inl (G.2 0, 54, .inl (row r)))] ++ [(am 3, .inl (G.2 0, 54, .inl (row r2)))] ++ [(am 4, .inl (G.2 0, 54, .inl (row r4)))]) := hD
                          refine lv_iconst (v := 0) hx hb dX9_draught_119 (by decide) ?_
                          refine lv_istore (lv' := [(12, .int 0), (10, .long 1), (9, .int (nI y)), (7, .long (lN (ix x ^ (ix b)))), (5, .long (lN (pDrA r (ix t) (ix b) (ix x) y))), (0, .ref (am 0)), (1, .int (nI (ix t))), (2, .int (nI (ix b))), (3, .int (nI (ix x))), (4, .int w)]) hx hb dX9_draught_120 hl (by decide) rfl (fun ls hl => ?_)
                          have loop_122 : ∀ (n : Nat) (kj : Nat), (kj ≤ ix b) → (ix b < kj + n) → ∀ (H : Heap) (locs : List Loc) (ls : Array Slot), va_P G.1 vwCl (wM G am ho rn ln pl sd lt ro rf nb ++ [(am 1, .inl (G.2 0, 54, .inl (row r)))] ++ [(am 2, .inl (G.2 0, 54, .inl (row (pDrR r y kj))))] ++ [(am 3, .inl (G.2 0, 54, .inl (row r2)))] ++ [(am 4, .inl (G.2 0, 54, .inl (row r4)))]) H → va_D A (wM G am ho rn ln pl sd lt ro rf nb ++ [(am 1, .inl (G.2 0, 54, .inl (row r)))] ++ [(am 2, .inl (G.2 0, 54, .inl (row (pDrR r y kj))))] ++ [(am 3, .inl (G.2 0, 54, .inl (row r2)))] ++ [(am 4, .inl (G.2 0, 54, .inl (row r4)))]) → va_S A s.heap H locs → lv_has ls 13 [(12, .int (nI kj)), (10, .long (lN (pDrO (ix x) y kj))), (9, .int (nI y)), (7, .long (lN (ix x ^ (ix b)))), (5, .long (lN (pDrA r (ix t) (ix b) (ix x) y))), (0, .ref (am 0)), (1, .int (nI (ix t))), (2, .int (nI (ix b))), (3, .int (nI (ix x))), (4, .int w)] → W p l e ({ frames := 4, cells := 0, slots := 0, locals := 88 } : Room) s m args below meth c H locs 0 0 Q (F0 m 122 ls []) := by
                            intro n
                            induction n with
                            | zero => intro kj hi122_0 hi122_1; exact absurd hi122_1 (by omega)
                            | succ n ih_122 =>
                              intro kj hi122_0 hi122_1 H locs ls hP hD hS hl
                              refine lv_iload hx hb dX9_draught_122 (lv_at hl 0 rfl) ?_
                              refine lv_iload_n hx hb dX9_draught_124 rfl (lv_at hl 7 rfl) ?_
                              refine lv_icmp_ge (tgt := 171) hx hb dX9_draught_125 (by decide) (fun c_15 => ?_) (fun c_15 => ?_)
                              · skip
                                have g_15 := (nI_leI (by omega) (by omega)).mp c_15
                                rw [show kj = ix b by omega] at hl hP hD
                                refine lv_lload hx hb dX9_draught_171 (lv_at hl 4 rfl) ?_
                                refine lv_aload_n hx hb dX9_draught_173 rfl (lv_at hl 5 rfl) ?_
                                refine va_get (D := G.1) (ci := 8) (v := .ref (am 2)) (C := RX9) (T := TX9) (N := 13) hx hb hts in_X9 hown hK.1 hP 0 rfl rfl 1 (by decide) (hts _ q1163) (fun _ h9 => h9) rfl dX9_draught_174 ?_
                                refine lv_iload_n hx hb dX9_draught_177 rfl (lv_at hl 6 rfl) ?_
                                refine x_Si (wN := fun _ => (wM G am ho rn ln pl sd lt ro rf nb ++ [(am 1, .inl (G.2 0, 54, .inl (row r)))] ++ [(am 2, .inl (G.2 0, 54, .inl (row (pDrR r y (ix b)))))] ++ [(am 3, .inl (G.2 0, 54, .inl (row r2)))] ++ [(am 4, .inl (G.2 0, 54, .inl (row r4)))])) ⟨C0, hK, hP, hD, hS, hA⟩ ((m9_stands l G (am 2) (pDrR r y (ix b)) (hr.dr) (ix t) (by omega))) (va_cwS 2 hts (lw_S q1251 q1252 q95 q1253) rfl rfl rfl (by decide +kernel) ⟨Nat.le_of_ble_eq_true rfl, Nat.le_of_ble_eq_true rfl⟩) [6] [0, 2, 4, 6, 8, 10, 1, 14, 16] rfl (fun _ => rfl) rfl rfl hl.1 rfl (Nat.le_of_ble_eq_true rfl) dX9_draught_178 ⟨(Nat.le_of_ble_eq_true rfl), (Nat.le_of_ble_eq_true rfl)⟩ (fun r_16 u_16 H locs hw_16 hP hD hS => ?_)
                                have hw_16 : (bI (pSt (pDrR r y (ix b)) (ix t)) : Int32) = r_16 := hw_16.symm
                                subst hw_16
                                refine lv_if_eq (tgt := 189) hx hb dX9_draught_181 (by decide) (fun c_17 => ?_) (fun c_17 => ?_)
                                · skip
                                  refine lv_lconst (v := 0) hx hb dX9_draught_189 (by decide) ?_
                                  refine x_ladd hx hb dX9_draught_190 (v := lN (pDrA r (ix t) (ix b) (ix x) (y + 1))) (lA_n (show pSt (pDrR r y (ix b)) (ix t) = false from (by first | exact bI_n0 c_17 | exact bI_0.mp c_17))) ?_
                                  refine lv_lstore (lv' := [(5, .long (lN (pDrA r (ix t) (ix b) (ix x) (y + 1)))), (12, .int (nI (ix b))), (10, .long (lN (pDrO (ix x) y (ix b)))), (9, .int (nI y)), (7, .long (lN (ix x ^ (ix b)))), (0, .ref (am 0)), (1, .int (nI (ix t))), (2, .int (nI (ix b))), (3, .int (nI (ix x))), (4, .int w)]) hx hb dX9_draught_191 hl (by decide) rfl (fun ls hl => ?_)
                                  refine lv_iinc (v := nI (y + 1)) (lv' := [(9, .int (nI (y + 1))), (5, .long (lN (pDrA r (ix t) (ix b) (ix x) (y + 1)))), (12, .int (nI (ix b))), (10, .long (lN (pDrO (ix x) y (ix b)))), (7, .long (lN (ix x ^ (ix b)))), (0, .ref (am 0)), (1, .int (nI (ix t))), (2, .int (nI (ix b))), (3, .int (nI (ix x))), (4, .int w)]) hx hb dX9_draught_193 hl (k := 3) rfl (x_inc1 _) (by decide) rfl (fun ls hl => ?_)
                                  refine lv_goto (tgt := 97) hx hb dX9_draught_196 (by decide) ?_
                                  exact ih_97 (y + 1) _ (by omega) (by omega) _ _ _ hP hD hS (lv_sub hl [0, 4, 1, 5, 6, 7, 8, 9] rfl)
                                · skip
                                  refine lv_lload hx hb dX9_draught_184 (lv_at hl 1 rfl) ?_
                                  refine lv_goto (tgt := 190) hx hb dX9_draught_186 (by decide) ?_
                                  refine x_ladd hx hb dX9_draught_190 (v := lN (pDrA r (ix t) (ix b) (ix x) (y + 1))) (lA_y (show pSt (pDrR r y (ix b)) (ix t) = true from (by first | exact bI_n0 c_17 | exact bI_0.mp c_17))) ?_
                                  refine lv_lstore (lv' := [(5, .long (lN (pDrA r (ix t) (ix b) (ix x) (y + 1)))), (12, .int (nI (ix b))), (10, .long (lN (pDrO (ix x) y (ix b)))), (9, .int (nI y)), (7, .long (lN (ix x ^ (ix b)))), (0, .ref (am 0)), (1, .int (nI (ix t))), (2, .int (nI (ix b))), (3, .int (nI (ix x))), (4, .int w)]) hx hb dX9_draught_191 hl (by decide) rfl (fun ls hl => ?_)
                                  refine lv_iinc (v := nI (y + 1)) (lv' := [(9, .int (nI (y + 1))), (5, .long (lN (pDrA r (ix t) (ix b) (ix x) (y + 1)))), (12, .int (nI (ix b))), (10, .long (lN (pDrO (ix x) y (ix b)))), (7, .long (lN (ix x ^ (ix b)))), (0, .ref (am 0)), (1, .int (nI (ix t))), (2, .int (nI (ix b))), (3, .int (nI (ix x))), (4, .int w)]) hx hb dX9_draught_193 hl (k := 3) rfl (x_inc1 _) (by decide) rfl (fun ls hl => ?_)
                                  refine lv_goto (tgt := 97) hx hb dX9_draught_196 (by decide) ?_
                                  exact ih_97 (y + 1) _ (by omega) (by omega) _ _ _ hP hD hS (lv_sub hl [0, 4, 1, 5, 6, 7, 8, 9] rfl)
                              · skip
                                have g_15 := mt (nI_leI (by omega) (by omega)).mpr c_15
                                refine lv_lload hx hb dX9_draught_128 (lv_at hl 1 rfl) ?_
                                refine lv_iload hx hb dX9_draught_130 (lv_at hl 2 rfl) ?_
                                refine lv_iload hx hb dX9_draught_132 (lv_at hl 0 rfl) ?_
                                refine x_Si (wN := fun _ => (wM G am ho rn ln pl sd lt ro rf nb ++ [(am 1, .inl (G.2 0, 54, .inl (row r)))] ++ [(am 2, .inl (G.2 0, 54, .inl (row (pDrR r y kj))))] ++ [(am 3, .inl (G.2 0, 54, .inl (row r2)))] ++ [(am 4, .inl (G.2 0, 54, .inl (row r4)))])) ⟨C0, hK, hP, hD, hS, hA⟩ ((m9_has l G (nI y) kj)) (va_cwS 2 hts (lw_S q1266 q1267 q95 q1268) rfl rfl rfl (by decide +kernel) ⟨Nat.le_of_ble_eq_true rfl, Nat.le_of_ble_eq_true rfl⟩) [] [0, 2, 4, 6, 8, 10, 12, 14, 16] rfl (fun _ => rfl) rfl rfl hl.1 rfl (Nat.le_of_ble_eq_true rfl) dX9_draught_134 ⟨(Nat.le_of_ble_eq_true rfl), (Nat.le_of_ble_eq_true rfl)⟩ (fun r_18 u_18 H locs hw_18 hP hD hS => ?_)
                                have hw_18 : (bI (hs (nI y) kj) : Int32) = r_18 := hw_18.symm
                                subst hw_18
                                refine lv_if_eq (tgt := 144) hx hb dX9_draught_137 (by decide) (fun c_19 => ?_) (fun c_19 => ?_)
                                · skip
                                  refine lv_iload_n hx hb dX9_draught_144 rfl (lv_at hl 8 rfl) ?_
                                  refine lv_iconst (v := 1) hx hb dX9_draught_145 (by decide) ?_
                                  refine x_isub hx hb dX9_draught_146 (v := nI (ix x - 1)) (pk_sub (b := 1) (by omega)) ?_
                                  refine lv_i2l (v := lN (ix x - 1)) hx hb dX9_draught_147 (nI_l (by omega)) ?_
                                  refine x_lmul hx hb dX9_draught_148 (v := lN (pDrO (ix x) y (kj + 1))) (lO_n (show hs (nI y) kj = false from (by first | exact bI_n0 c_19 | exact bI_0.mp c_19))) ?_
                                  refine lv_lstore (lv' := [(10, .long (lN (pDrO (ix x) y (kj + 1)))), (12, .int (nI kj)), (9, .int (nI y)), (7, .long (lN (ix x ^ (ix b)))), (5, .long (lN (pDrA r (ix t) (ix b) (ix x) y))), (0, .ref (am 0)), (1, .int (nI (ix t))), (2, .int (nI (ix b))), (3, .int (nI (ix x))), (4, .int w)]) hx hb dX9_draught_149 hl (by decide) rfl (fun ls hl => ?_)
                                  refine lv_aload_n hx hb dX9_draught_151 rfl (lv_at hl 5 rfl) ?_
                                  refine va_get (D := G.1) (ci := 8) (v := .ref (am 2)) (C := RX9) (T := TX9) (N := 13) hx hb hts in_X9 hown hK.1 hP 0 rfl rfl 1 (by decide) (hts _ q1163) (fun _ h9 => h9) rfl dX9_draught_152 ?_
                                  refine lv_iload hx hb dX9_draught_155 (lv_at hl 2 rfl) ?_
                                  refine lv_iload hx hb dX9_draught_157 (lv_at hl 1 rfl) ?_
                                  refine x_ishr hx hb dX9_draught_159 (v := (nI y) >>> (nI kj &&& 31)) rfl ?_
                                  refine lv_iconst (v := 1) hx hb dX9_draught_160 (by decide) ?_
                                  refine x_iand hx hb dX9_draught_161 (v := bI (hs (nI y) kj)) (mn_and (by omega) (by omega)) ?_
                                  refine x_Sv (wN := fun _ => (wM G am ho rn ln pl sd lt ro rf nb ++ [(am 1, .inl (G.2 0, 54, .inl (row r)))] ++ [(am 2, .inl (G.2 0, 54, .inl (row (pMin (pDrR r y kj) (bI (hs (nI y) kj))))))] ++ [(am 3, .inl (G.2 0, 54, .inl (row r2)))] ++ [(am 4, .inl (G.2 0, 54, .inl (row r4)))])) ⟨C0, hK, hP, hD, hS, hA⟩ ((m9_minute l G (am 2) (pDrR r y kj) (hr.dr) (bI (hs (nI y) kj)))) (va_cwS 2 hts (lw_S q1275 q1276 q95 q1277) rfl rfl rfl (by decide +kernel) ⟨Nat.le_of_ble_eq_true rfl, Nat.le_of_ble_eq_true rfl⟩) [6] [0, 2, 4, 6, 8, 10, 1, 14, 16] rfl (fun _ => rfl) rfl rfl hl.1 rfl (Nat.le_of_ble_eq_true rfl) dX9_draught_162 ⟨(Nat.le_of_ble_eq_true rfl), (Nat.le_of_ble_eq_true rfl)⟩ (fun u_20 H locs hw_20 hP hD hS => ?_)
                                  have hP : va_P G.1 vwCl (wM G am ho rn ln pl sd lt ro rf nb ++ [(am 1, .inl (G.2 0, 54, .inl (row r)))] ++ [(am 2, .inl (G.2 0, 54, .inl (row (pMin (pDrR r y kj) (bI (hs (nI y) kj))))))] ++ [(am 3, .inl (G.2 0, 54, .inl (row r2)))] ++ [(am 4, .inl (G.2 0, 54, .inl (row r4)))]) H := hP
                                  have hD : va_D A (wM G am ho rn ln pl sd lt ro rf nb ++ [(am 1, .inl (G.2 0, 54, .inl (row r)))] ++ [(am 2, .inl (G.2 0, 54, .inl (row (pMin (pDrR r y kj) (bI (hs (nI y) kj))))))] ++ [(am 3, .inl (G.2 0, 54, .inl (row r2)))] ++ [(am 4, .inl (G.2 0, 54, .inl (row r4)))]) := hD
                                  refine lv_iinc (v := nI (kj + 1)) (lv' := [(12, .int (nI (kj + 1))), (10, .long (lN (pDrO (ix x) y (kj + 1)))), (9, .int (nI y)), (7, .long (lN (ix x ^ (ix b)))), (5, .long (lN (pDrA r (ix t) (ix b) (ix x) y))), (0, .ref (am 0)), (1, .int (nI (ix t))), (2, .int (nI (ix b))), (3, .int (nI (ix x))), (4, .int w)]) hx hb dX9_draught_165 hl (k := 1) rfl (x_inc1 _) (by decide) rfl (fun ls hl => ?_)
                                  refine lv_goto (tgt := 122) hx hb dX9_draught_168 (by decide) ?_
                                  exact ih_122 (kj + 1) (by omega) (by omega) _ _ _ hP hD hS (lv_sub hl [0, 1, 2, 3, 4, 5, 6, 7, 8, 9] rfl)
                                · skip
                                  refine lv_lconst (v := 1) hx hb dX9_draught_140 (by decide) ?_
                                  refine lv_goto (tgt := 148) hx hb dX9_draught_141 (by decide) ?_
                                  refine x_lmul hx hb dX9_draught_148 (v := lN (pDrO (ix x) y (kj + 1))) (lO_y (show hs (nI y) kj = true from (by first | exact bI_n0 c_19 | exact bI_0.mp c_19))) ?_
                                  refine lv_lstore (lv' := [(10, .long (lN (pDrO (ix x) y (kj + 1)))), (12, .int (nI kj)), (9, .int (nI y)), (7, .long (lN (ix x ^ (ix b)))), (5, .long (lN (pDrA r (ix t) (ix b) (ix x) y))), (0, .ref (am 0)), (1, .int (nI (ix t))), (2, .int (nI (ix b))), (3, .int (nI (ix x))), (4, .int w)]) hx hb dX9_draught_149 hl (by decide) rfl (fun ls hl => ?_)
                                  refine lv_aload_n hx hb dX9_draught_151 rfl (lv_at hl 5 rfl) ?_
                                  refine va_get (D := G.1) (ci := 8) (v := .ref (am 2)) (C := RX9) (T := TX9) (N := 13) hx hb hts in_X9 hown hK.1 hP 0 rfl rfl 1 (by decide) (hts _ q1163) (fun _ h9 => h9) rfl dX9_draught_152 ?_
                                  refine lv_iload hx hb dX9_draught_155 (lv_at hl 2 rfl) ?_
                                  refine lv_iload hx hb dX9_draught_157 (lv_at hl 1 rfl) ?_
                                  refine x_ishr hx hb dX9_draught_159 (v := (nI y) >>> (nI kj &&& 31)) rfl ?_
                                  refine lv_iconst (v := 1) hx hb dX9_draught_160 (by decide) ?_
                                  refine x_iand hx hb dX9_draught_161 (v := bI (hs (nI y) kj)) (mn_and (by omega) (by omega)) ?_
                                  refine x_Sv (wN := fun _ => (wM G am ho rn ln pl sd lt ro rf nb ++ [(am 1, .inl (G.2 0, 54, .inl (row r)))] ++ [(am 2, .inl (G.2 0, 54, .inl (row (pMin (pDrR r y kj) (bI (hs (nI y) kj))))))] ++ [(am 3, .inl (G.2 0, 54, .inl (row r2)))] ++ [(am 4, .inl (G.2 0, 54, .inl (row r4)))])) ⟨C0, hK, hP, hD, hS, hA⟩ ((m9_minute l G (am 2) (pDrR r y kj) (hr.dr) (bI (hs (nI y) kj)))) (va_cwS 2 hts (lw_S q1275 q1276 q95 q1277) rfl rfl rfl (by decide +kernel) ⟨Nat.le_of_ble_eq_true rfl, Nat.le_of_ble_eq_true rfl⟩) [6] [0, 2, 4, 6, 8, 10, 1, 14, 16] rfl (fun _ => rfl) rfl rfl hl.1 rfl (Nat.le_of_ble_eq_true rfl) dX9_draught_162 ⟨(Nat.le_of_ble_eq_true rfl), (Nat.le_of_ble_eq_true rfl)⟩ (fun u_21 H locs hw_21 hP hD hS => ?_)
                                  have hP : va_P G.1 vwCl (wM G am ho rn ln pl sd lt ro rf nb ++ [(am 1, .inl (G.2 0, 54, .inl (row r)))] ++ [(am 2, .inl (G.2 0, 54, .inl (row (pMin (pDrR r y kj) (bI (hs (nI y) kj))))))] ++ [(am 3, .inl (G.2 0, 54, .inl (row r2)))] ++ [(am 4, .inl (G.2 0, 54, .inl (row r4)))]) H := hP
                                  have hD : va_D A (wM G am ho rn ln pl sd lt ro rf nb ++ [(am 1, .inl (G.2 0, 54, .inl (row r)))] ++ [(am 2, .inl (G.2 0, 54, .inl (row (pMin (pDrR r y kj) (bI (hs (nI y) kj))))))] ++ [(am 3, .inl (G.2 0, 54, .inl (row r2)))] ++ [(am 4, .inl (G.2 0, 54, .inl (row r4)))]) := hD
                                  refine lv_iinc (v := nI (kj + 1)) (lv' := [(12, .int (nI (kj + 1))), (10, .long (lN (pDrO (ix x) y (kj + 1)))), (9, .int (nI y)), (7, .long (lN (ix x ^ (ix b)))), (5, .long (lN (pDrA r (ix t) (ix b) (ix x) y))), (0, .ref (am 0)), (1, .int (nI (ix t))), (2, .int (nI (ix b))), (3, .int (nI (ix x))), (4, .int w)]) hx hb dX9_draught_165 hl (k := 1) rfl (x_inc1 _) (by decide) rfl (fun ls hl => ?_)
                                  refine lv_goto (tgt := 122) hx hb dX9_draught_168 (by decide) ?_
                                  exact ih_122 (kj + 1) (by omega) (by omega) _ _ _ hP hD hS (lv_sub hl [0, 1, 2, 3, 4, 5, 6, 7, 8, 9] rfl)
                          exact loop_122 (ix b + 1) 0 (by omega) (by omega) _ _ _ hP hD hS (lv_sub hl [0, 1, 2, 3, 4, 5, 6, 7, 8, 9] rfl)
                    exact loop_97 (2 ^ ix b + 1) 0 _ (Nat.zero_le _) (by omega) _ _ _ hP hD hS (lv_sub hl [0, 1, 2, 3, 4, 5, 6, 7] rfl)
                  · skip
                    have g_11 := mt (nI_leI (by omega) (by omega)).mpr c_11
                    refine lv_lload hx hb dX9_draught_81 (lv_at hl 1 rfl) ?_
                    refine lv_iload_n hx hb dX9_draught_83 rfl (lv_at hl 6 rfl) ?_
                    refine lv_i2l (v := lN (ix x)) hx hb dX9_draught_84 (nI_l (by omega)) ?_
                    refine x_lmul hx hb dX9_draught_85 (v := lN (ix x ^ (k + 1))) (lT_s _ _) ?_
                    refine lv_lstore (lv' := [(7, .long (lN (ix x ^ (k + 1)))), (9, .int (nI k)), (5, .long 0), (0, .ref (am 0)), (1, .int (nI (ix t))), (2, .int (nI (ix b))), (3, .int (nI (ix x))), (4, .int w)]) hx hb dX9_draught_86 hl (by decide) rfl (fun ls hl => ?_)
                    refine lv_iinc (v := nI (k + 1)) (lv' := [(9, .int (nI (k + 1))), (7, .long (lN (ix x ^ (k + 1)))), (5, .long 0), (0, .ref (am 0)), (1, .int (nI (ix t))), (2, .int (nI (ix b))), (3, .int (nI (ix x))), (4, .int w)]) hx hb dX9_draught_88 hl (k := 1) rfl (x_inc1 _) (by decide) rfl (fun ls hl => ?_)
                    refine lv_goto (tgt := 75) hx hb dX9_draught_91 (by decide) ?_
                    exact ih_75 (k + 1) (by omega) (by omega) _ _ _ hP hD hS (lv_sub hl [0, 1, 2, 3, 4, 5, 6, 7] rfl)
              exact loop_75 (ix b + 1) 0 (by omega) (by omega) _ _ _ hP hD hS (lv_sub hl [0, 1, 2, 3, 4, 5, 6, 7] rfl)
            · skip
              refine lv_aload_n hx hb dX9_draught_59 rfl (lv_at hl 0 rfl) ?_
              refine lv_bipush (v := (-2)) hx hb dX9_draught_60 (by decide) ?_
              refine x_Vl (wN := fun _ => (wM G am ho rn ln pl sd lt ro (rfU rf (-2)) nb ++ [(am 1, .inl (G.2 0, 54, .inl (row r)))] ++ [(am 2, .inl (G.2 0, 54, .inl (row rm)))] ++ [(am 3, .inl (G.2 0, 54, .inl (row r2)))] ++ [(am 4, .inl (G.2 0, 54, .inl (row r4)))])) ⟨C0, hK, hP, hD, hS, hA⟩ 0 rfl (ci := 8) rfl rfl ((m9_noWide l G am ho rn ln pl sd lt ro rf nb (-2) noOk_k.2.1)) (cwV 1 hts (lw_V q1424 q1426 qs82 q95 q1427) rfl rfl rfl (by decide +kernel) ⟨Nat.le_of_ble_eq_true rfl, Nat.le_of_ble_eq_true rfl⟩) [0, 1, 2, 3, 4] [1, 3, 5, 7, 9, 10, 12, 14, 16] rfl (fun _ => rfl) rfl rfl hl.1 rfl (Nat.le_of_ble_eq_true rfl) dX9_draught_62 ⟨(Nat.le_of_ble_eq_true rfl), (Nat.le_of_ble_eq_true rfl)⟩ (fun r_22 u_22 H locs hw_22 hP hD hS => ?_)
              have hw_22 : (4000000000000000000 - ((-2) : Int32).toInt64 : Int64) = r_22 := hw_22.symm
              subst hw_22
              have hP : va_P G.1 vwCl (wM G am ho rn ln pl sd lt ro (rfU rf (-2)) nb ++ [(am 1, .inl (G.2 0, 54, .inl (row r)))] ++ [(am 2, .inl (G.2 0, 54, .inl (row rm)))] ++ [(am 3, .inl (G.2 0, 54, .inl (row r2)))] ++ [(am 4, .inl (G.2 0, 54, .inl (row r4)))]) H := hP
              have hD : va_D A (wM G am ho rn ln pl sd lt ro (rfU rf (-2)) nb ++ [(am 1, .inl (G.2 0, 54, .inl (row r)))] ++ [(am 2, .inl (G.2 0, 54, .inl (row rm)))] ++ [(am 3, .inl (G.2 0, 54, .inl (row r2)))] ++ [(am 4, .inl (G.2 0, 54, .inl (row r4)))]) := hD
              have hE : eS (tB r t) (-1) (eS (decide (¬ b < 0 ∧ ¬ x < 2)) (-4) (eS (decide (b ≤ 7 ∧ x ≤ 20)) (-6) (eS (inR w 0 1) (-2) 0))) = (-2) := by rw [eS_t (show tB r t = true from (by first | exact bI_n0 c_2 | exact bI_0.mp c_2)), eS_t (decide_eq_true ⟨c_3, Int32.not_lt.mpr c_5⟩), eS_t (decide_eq_true ⟨Int32.not_lt.mp c_6, c_8⟩), eS_f (show inR w 0 1 = false from (by first | exact bI_n0 c_10 | exact bI_0.mp c_10))]
              have hne : ((-2) : Int32) ≠ 0 := by decide
              have hP : va_P G.1 vwCl (wM G am ho rn ln pl sd lt ro (sel (eS (tB r t) (-1) (eS (decide (¬ b < 0 ∧ ¬ x < 2)) (-4) (eS (decide (b ≤ 7 ∧ x ≤ 20)) (-6) (eS (inR w 0 1) (-2) 0)))) rf (rfU rf (eS (tB r t) (-1) (eS (decide (¬ b < 0 ∧ ¬ x < 2)) (-4) (eS (decide (b ≤ 7 ∧ x ≤ 20)) (-6) (eS (inR w 0 1) (-2) 0)))))) nb ++ [(am 1, .inl (G.2 0, 54, .inl (row r)))] ++ [(am 2, .inl (G.2 0, 54, .inl (row rm)))] ++ [(am 3, .inl (G.2 0, 54, .inl (row r2)))] ++ [(am 4, .inl (G.2 0, 54, .inl (row r4)))]) H := by rw [hE]; simp only [sel_n hne]; exact hP
              have hD : va_D A (wM G am ho rn ln pl sd lt ro (sel (eS (tB r t) (-1) (eS (decide (¬ b < 0 ∧ ¬ x < 2)) (-4) (eS (decide (b ≤ 7 ∧ x ≤ 20)) (-6) (eS (inR w 0 1) (-2) 0)))) rf (rfU rf (eS (tB r t) (-1) (eS (decide (¬ b < 0 ∧ ¬ x < 2)) (-4) (eS (decide (b ≤ 7 ∧ x ≤ 20)) (-6) (eS (inR w 0 1) (-2) 0)))))) nb ++ [(am 1, .inl (G.2 0, 54, .inl (row r)))] ++ [(am 2, .inl (G.2 0, 54, .inl (row rm)))] ++ [(am 3, .inl (G.2 0, 54, .inl (row r2)))] ++ [(am 4, .inl (G.2 0, 54, .inl (row r4)))]) := by rw [hE]; simp only [sel_n hne]; exact hD
              refine hret _ _ _ _ _ _ (4000000000000000000 - ((-2) : Int32).toInt64) rm dX9_draught_65 ?_ hP hD hS (Nat.le_of_ble_eq_true rfl) (Nat.le_of_ble_eq_true rfl)
              rw [hE, sel_n hne]
          · skip
            refine lv_aload_n hx hb dX9_draught_42 rfl (lv_at hl 0 rfl) ?_
            refine lv_bipush (v := (-6)) hx hb dX9_draught_43 (by decide) ?_
            refine x_Vl (wN := fun _ => (wM G am ho rn ln pl sd lt ro (rfU rf (-6)) nb ++ [(am 1, .inl (G.2 0, 54, .inl (row r)))] ++ [(am 2, .inl (G.2 0, 54, .inl (row rm)))] ++ [(am 3, .inl (G.2 0, 54, .inl (row r2)))] ++ [(am 4, .inl (G.2 0, 54, .inl (row r4)))])) ⟨C0, hK, hP, hD, hS, hA⟩ 0 rfl (ci := 8) rfl rfl ((m9_noWide l G am ho rn ln pl sd lt ro rf nb (-6) noOk_k.2.2.2.2)) (cwV 1 hts (lw_V q1424 q1426 qs82 q95 q1427) rfl rfl rfl (by decide +kernel) ⟨Nat.le_of_ble_eq_true rfl, Nat.le_of_ble_eq_true rfl⟩) [0, 1, 2, 3, 4] [1, 3, 5, 7, 9, 10, 12, 14, 16] rfl (fun _ => rfl) rfl rfl hl.1 rfl (Nat.le_of_ble_eq_true rfl) dX9_draught_45 ⟨(Nat.le_of_ble_eq_true rfl), (Nat.le_of_ble_eq_true rfl)⟩ (fun r_23 u_23 H locs hw_23 hP hD hS => ?_)
            have hw_23 : (4000000000000000000 - ((-6) : Int32).toInt64 : Int64) = r_23 := hw_23.symm
            subst hw_23
            have hP : va_P G.1 vwCl (wM G am ho rn ln pl sd lt ro (rfU rf (-6)) nb ++ [(am 1, .inl (G.2 0, 54, .inl (row r)))] ++ [(am 2, .inl (G.2 0, 54, .inl (row rm)))] ++ [(am 3, .inl (G.2 0, 54, .inl (row r2)))] ++ [(am 4, .inl (G.2 0, 54, .inl (row r4)))]) H := hP
            have hD : va_D A (wM G am ho rn ln pl sd lt ro (rfU rf (-6)) nb ++ [(am 1, .inl (G.2 0, 54, .inl (row r)))] ++ [(am 2, .inl (G.2 0, 54, .inl (row rm)))] ++ [(am 3, .inl (G.2 0, 54, .inl (row r2)))] ++ [(am 4, .inl (G.2 0, 54, .inl (row r4)))]) := hD
            have hE : eS (tB r t) (-1) (eS (decide (¬ b < 0 ∧ ¬ x < 2)) (-4) (eS (decide (b ≤ 7 ∧ x ≤ 20)) (-6) (eS (inR w 0 1) (-2) 0))) = (-6) := by rw [eS_t (show tB r t = true from (by first | exact bI_n0 c_2 | exact bI_0.mp c_2)), eS_t (decide_eq_true ⟨c_3, Int32.not_lt.mpr c_5⟩), eS_f (decide_eq_false (fun z => c_8 z.2))]
            have hne : ((-6) : Int32) ≠ 0 := by decide
            have hP : va_P G.1 vwCl (wM G am ho rn ln pl sd lt ro (sel (eS (tB r t) (-1) (eS (decide (¬ b < 0 ∧ ¬ x < 2)) (-4) (eS (decide (b ≤ 7 ∧ x ≤ 20)) (-6) (eS (inR w 0 1) (-2) 0)))) rf (rfU rf (eS (tB r t) (-1) (eS (decide (¬ b < 0 ∧ ¬ x < 2)) (-4) (eS (decide (b ≤ 7 ∧ x ≤ 20)) (-6) (eS (inR w 0 1) (-2) 0)))))) nb ++ [(am 1, .inl (G.2 0, 54, .inl (row r)))] ++ [(am 2, .inl (G.2 0, 54, .inl (row rm)))] ++ [(am 3, .inl (G.2 0, 54, .inl (row r2)))] ++ [(am 4, .inl (G.2 0, 54, .inl (row r4)))]) H := by rw [hE]; simp only [sel_n hne]; exact hP
            have hD : va_D A (wM G am ho rn ln pl sd lt ro (sel (eS (tB r t) (-1) (eS (decide (¬ b < 0 ∧ ¬ x < 2)) (-4) (eS (decide (b ≤ 7 ∧ x ≤ 20)) (-6) (eS (inR w 0 1) (-2) 0)))) rf (rfU rf (eS (tB r t) (-1) (eS (decide (¬ b < 0 ∧ ¬ x < 2)) (-4) (eS (decide (b ≤ 7 ∧ x ≤ 20)) (-6) (eS (inR w 0 1) (-2) 0)))))) nb ++ [(am 1, .inl (G.2 0, 54, .inl (row r)))] ++ [(am 2, .inl (G.2 0, 54, .inl (row rm)))] ++ [(am 3, .inl (G.2 0, 54, .inl (row r2)))] ++ [(am 4, .inl (G.2 0, 54, .inl (row r4)))]) := by rw [hE]; simp only [sel_n hne]; exact hD
            refine hret _ _ _ _ _ _ (4000000000000000000 - ((-6) : Int32).toInt64) rm dX9_draught_48 ?_ hP hD hS (Nat.le_of_ble_eq_true rfl) (Nat.le_of_ble_eq_true rfl)
            rw [hE, sel_n hne]
      · skip
        refine lv_aload_n hx hb dX9_draught_23 rfl (lv_at hl 0 rfl) ?_
        refine lv_bipush (v := (-4)) hx hb dX9_draught_24 (by decide) ?_
        refine x_Vl (wN := fun _ => (wM G am ho rn ln pl sd lt ro (rfU rf (-4)) nb ++ [(am 1, .inl (G.2 0, 54, .inl (row r)))] ++ [(am 2, .inl (G.2 0, 54, .inl (row rm)))] ++ [(am 3, .inl (G.2 0, 54, .inl (row r2)))] ++ [(am 4, .inl (G.2 0, 54, .inl (row r4)))])) ⟨C0, hK, hP, hD, hS, hA⟩ 0 rfl (ci := 8) rfl rfl ((m9_noWide l G am ho rn ln pl sd lt ro rf nb (-4) noOk_k.2.2.2.1)) (cwV 1 hts (lw_V q1424 q1426 qs82 q95 q1427) rfl rfl rfl (by decide +kernel) ⟨Nat.le_of_ble_eq_true rfl, Nat.le_of_ble_eq_true rfl⟩) [0, 1, 2, 3, 4] [1, 3, 5, 7, 9, 10, 12, 14, 16] rfl (fun _ => rfl) rfl rfl hl.1 rfl (Nat.le_of_ble_eq_true rfl) dX9_draught_26 ⟨(Nat.le_of_ble_eq_true rfl), (Nat.le_of_ble_eq_true rfl)⟩ (fun r_24 u_24 H locs hw_24 hP hD hS => ?_)
        have hw_24 : (4000000000000000000 - ((-4) : Int32).toInt64 : Int64) = r_24 := hw_24.symm
        subst hw_24
        have hP : va_P G.1 vwCl (wM G am ho rn ln pl sd lt ro (rfU rf (-4)) nb ++ [(am 1, .inl (G.2 0, 54, .inl (row r)))] ++ [(am 2, .inl (G.2 0, 54, .inl (row rm)))] ++ [(am 3, .inl (G.2 0, 54, .inl (row r2)))] ++ [(am 4, .inl (G.2 0, 54, .inl (row r4)))]) H := hP
        have hD : va_D A (wM G am ho rn ln pl sd lt ro (rfU rf (-4)) nb ++ [(am 1, .inl (G.2 0, 54, .inl (row r)))] ++ [(am 2, .inl (G.2 0, 54, .inl (row rm)))] ++ [(am 3, .inl (G.2 0, 54, .inl (row r2)))] ++ [(am 4, .inl (G.2 0, 54, .inl (row r4)))]) := hD
        have hE : eS (tB r t) (-1) (eS (decide (¬ b < 0 ∧ ¬ x < 2)) (-4) (eS (decide (b ≤ 7 ∧ x ≤ 20)) (-6) (eS (inR w 0 1) (-2) 0))) = (-4) := by rw [eS_t (show tB r t = true from (by first | exact bI_n0 c_2 | exact bI_0.mp c_2)), eS_f (decide_eq_false (fun z => z.2 (Int32.not_le.mp c_5)))]
        have hne : ((-4) : Int32) ≠ 0 := by decide
        have hP : va_P G.1 vwCl (wM G am ho rn ln pl sd lt ro (sel (eS (tB r t) (-1) (eS (decide (¬ b < 0 ∧ ¬ x < 2)) (-4) (eS (decide (b ≤ 7 ∧ x ≤ 20)) (-6) (eS (inR w 0 1) (-2) 0)))) rf (rfU rf (eS (tB r t) (-1) (eS (decide (¬ b < 0 ∧ ¬ x < 2)) (-4) (eS (decide (b ≤ 7 ∧ x ≤ 20)) (-6) (eS (inR w 0 1) (-2) 0)))))) nb ++ [(am 1, .inl (G.2 0, 54, .inl (row r)))] ++ [(am 2, .inl (G.2 0, 54, .inl (row rm)))] ++ [(am 3, .inl (G.2 0, 54, .inl (row r2)))] ++ [(am 4, .inl (G.2 0, 54, .inl (row r4)))]) H := by rw [hE]; simp only [sel_n hne]; exact hP
        have hD : va_D A (wM G am ho rn ln pl sd lt ro (sel (eS (tB r t) (-1) (eS (decide (¬ b < 0 ∧ ¬ x < 2)) (-4) (eS (decide (b ≤ 7 ∧ x ≤ 20)) (-6) (eS (inR w 0 1) (-2) 0)))) rf (rfU rf (eS (tB r t) (-1) (eS (decide (¬ b < 0 ∧ ¬ x < 2)) (-4) (eS (decide (b ≤ 7 ∧ x ≤ 20)) (-6) (eS (inR w 0 1) (-2) 0)))))) nb ++ [(am 1, .inl (G.2 0, 54, .inl (row r)))] ++ [(am 2, .inl (G.2 0, 54, .inl (row rm)))] ++ [(am 3, .inl (G.2 0, 54, .inl (row r2)))] ++ [(am 4, .inl (G.2 0, 54, .inl (row r4)))]) := by rw [hE]; simp only [sel_n hne]; exact hD
        refine hret _ _ _ _ _ _ (4000000000000000000 - ((-4) : Int32).toInt64) rm dX9_draught_29 ?_ hP hD hS (Nat.le_of_ble_eq_true rfl) (Nat.le_of_ble_eq_true rfl)
        rw [hE, sel_n hne]
  · skip
    refine lv_aload_n hx hb dX9_draught_8 rfl (lv_at hl 0 rfl) ?_
    refine lv_iconst (v := (-1)) hx hb dX9_draught_9 (by decide) ?_
    refine x_Vl (wN := fun _ => (wM G am ho rn ln pl sd lt ro (rfU rf (-1)) nb ++ [(am 1, .inl (G.2 0, 54, .inl (row r)))] ++ [(am 2, .inl (G.2 0, 54, .inl (row rm)))] ++ [(am 3, .inl (G.2 0, 54, .inl (row r2)))] ++ [(am 4, .inl (G.2 0, 54, .inl (row r4)))])) ⟨C0, hK, hP, hD, hS, hA⟩ 0 rfl (ci := 8) rfl rfl ((m9_noWide l G am ho rn ln pl sd lt ro rf nb (-1) noOk_k.1)) (cwV 1 hts (lw_V q1424 q1426 qs82 q95 q1427) rfl rfl rfl (by decide +kernel) ⟨Nat.le_of_ble_eq_true rfl, Nat.le_of_ble_eq_true rfl⟩) [0, 1, 2, 3, 4] [1, 3, 5, 7, 9, 10, 12, 14, 16] rfl (fun _ => rfl) rfl rfl hl.1 rfl (Nat.le_of_ble_eq_true rfl) dX9_draught_10 ⟨(Nat.le_of_ble_eq_true rfl), (Nat.le_of_ble_eq_true rfl)⟩ (fun r_25 u_25 H locs hw_25 hP hD hS => ?_)
    have hw_25 : (4000000000000000000 - ((-1) : Int32).toInt64 : Int64) = r_25 := hw_25.symm
    subst hw_25
    have hP : va_P G.1 vwCl (wM G am ho rn ln pl sd lt ro (rfU rf (-1)) nb ++ [(am 1, .inl (G.2 0, 54, .inl (row r)))] ++ [(am 2, .inl (G.2 0, 54, .inl (row rm)))] ++ [(am 3, .inl (G.2 0, 54, .inl (row r2)))] ++ [(am 4, .inl (G.2 0, 54, .inl (row r4)))]) H := hP
    have hD : va_D A (wM G am ho rn ln pl sd lt ro (rfU rf (-1)) nb ++ [(am 1, .inl (G.2 0, 54, .inl (row r)))] ++ [(am 2, .inl (G.2 0, 54, .inl (row rm)))] ++ [(am 3, .inl (G.2 0, 54, .inl (row r2)))] ++ [(am 4, .inl (G.2 0, 54, .inl (row r4)))]) := hD
    have hE : eS (tB r t) (-1) (eS (decide (¬ b < 0 ∧ ¬ x < 2)) (-4) (eS (decide (b ≤ 7 ∧ x ≤ 20)) (-6) (eS (inR w 0 1) (-2) 0))) = (-1) := by rw [eS_f (show tB r t = false from (by first | exact bI_n0 c_2 | exact bI_0.mp c_2))]
    have hne : ((-1) : Int32) ≠ 0 := by decide
    have hP : va_P G.1 vwCl (wM G am ho rn ln pl sd lt ro (sel (eS (tB r t) (-1) (eS (decide (¬ b < 0 ∧ ¬ x < 2)) (-4) (eS (decide (b ≤ 7 ∧ x ≤ 20)) (-6) (eS (inR w 0 1) (-2) 0)))) rf (rfU rf (eS (tB r t) (-1) (eS (decide (¬ b < 0 ∧ ¬ x < 2)) (-4) (eS (decide (b ≤ 7 ∧ x ≤ 20)) (-6) (eS (inR w 0 1) (-2) 0)))))) nb ++ [(am 1, .inl (G.2 0, 54, .inl (row r)))] ++ [(am 2, .inl (G.2 0, 54, .inl (row rm)))] ++ [(am 3, .inl (G.2 0, 54, .inl (row r2)))] ++ [(am 4, .inl (G.2 0, 54, .inl (row r4)))]) H := by rw [hE]; simp only [sel_n hne]; exact hP
    have hD : va_D A (wM G am ho rn ln pl sd lt ro (sel (eS (tB r t) (-1) (eS (decide (¬ b < 0 ∧ ¬ x < 2)) (-4) (eS (decide (b ≤ 7 ∧ x ≤ 20)) (-6) (eS (inR w 0 1) (-2) 0)))) rf (rfU rf (eS (tB r t) (-1) (eS (decide (¬ b < 0 ∧ ¬ x < 2)) (-4) (eS (decide (b ≤ 7 ∧ x ≤ 20)) (-6) (eS (inR w 0 1) (-2) 0)))))) nb ++ [(am 1, .inl (G.2 0, 54, .inl (row r)))] ++ [(am 2, .inl (G.2 0, 54, .inl (row rm)))] ++ [(am 3, .inl (G.2 0, 54, .inl (row r2)))] ++ [(am 4, .inl (G.2 0, 54, .inl (row r4)))]) := by rw [hE]; simp only [sel_n hne]; exact hD
    refine hret _ _ _ _ _ _ (4000000000000000000 - ((-1) : Int32).toInt64) rm dX9_draught_13 ?_ hP hD hS (Nat.le_of_ble_eq_true rfl) (Nat.le_of_ble_eq_true rfl)
    rw [hE, sel_n hne]
set_option maxHeartbeats 4000000 in
set_option maxRecDepth 100000 in
theorem n_whatWas (l : Launch) (G : xG) (am : Nat → Nat) (r rm r2 r4 : Rw) (ho rn ln pl sd : Int32) (lt ro rf nb : Nat → Int32) (hr : Ok r) (hp : r 5 3 = 0) (t w : Int32) : xCi l G yX9_whatWas cX9_whatWas 9 (some .int) ({ frames := 5, cells := 0, slots := 0, locals := 110 } : Room) [.ref (am 0), .int t, .int w] (wM G am ho rn ln pl sd lt ro rf nb ++ [(am 1, .inl (G.2 0, 54, .inl (row r)))] ++ [(am 2, .inl (G.2 0, 54, .inl (row rm)))] ++ [(am 3, .inl (G.2 0, 54, .inl (row r2)))] ++ [(am 4, .inl (G.2 0, 54, .inl (row r4)))]) (S := Rw) (fun v _ => v = sel (eS (tB r t) (-1) (eS (inR w 0 1) (-2) (eS (decide (rn = nI (mny r))) (-3) 0))) (pFits r ro (ix t) w) (eS (tB r t) (-1) (eS (inR w 0 1) (-2) (eS (decide (rn = nI (mny r))) (-3) 0)))) (fun u => (wM G am ho rn ln pl sd lt ro (sel (eS (tB r t) (-1) (eS (inR w 0 1) (-2) (eS (decide (rn = nI (mny r))) (-3) 0))) rf (rfU rf (eS (tB r t) (-1) (eS (inR w 0 1) (-2) (eS (decide (rn = nI (mny r))) (-3) 0))))) nb ++ [(am 1, .inl (G.2 0, 54, .inl (row r)))] ++ [(am 2, .inl (G.2 0, 54, .inl (row u)))] ++ [(am 3, .inl (G.2 0, 54, .inl (row r2)))] ++ [(am 4, .inl (G.2 0, 54, .inl (row r4)))])) := by
  refine x_openi (by decide) (Nat.le_of_ble_eq_true rfl) (fun _ _ _ => rfl) ?_
  intro p e s m args below meth c A Q ls C0 hK hP hD hA hl hret
  obtain ⟨hx, hb, hml, hown, hts⟩ := id C0
  have hS : va_S A s.heap s.heap [] := va_S.rf
  have hP : va_P G.1 vwCl (wM G am ho rn ln pl sd lt ro rf nb ++ [(am 1, .inl (G.2 0, 54, .inl (row r)))] ++ [(am 2, .inl (G.2 0, 54, .inl (row rm)))] ++ [(am 3, .inl (G.2 0, 54, .inl (row r2)))] ++ [(am 4, .inl (G.2 0, 54, .inl (row r4)))]) s.heap := hP
  have hD : va_D A (wM G am ho rn ln pl sd lt ro rf nb ++ [(am 1, .inl (G.2 0, 54, .inl (row r)))] ++ [(am 2, .inl (G.2 0, 54, .inl (row rm)))] ++ [(am 3, .inl (G.2 0, 54, .inl (row r2)))] ++ [(am 4, .inl (G.2 0, 54, .inl (row r4)))]) := hD
  have hl : lv_has ls 9 [(0, .ref (am 0)), (1, .int t), (2, .int w)] := hl
  have hr0 := hr.n
  have hN := hr.le
  refine lv_aload_n hx hb dX9_whatWas_0 rfl (lv_at hl 0 rfl) ?_
  refine lv_iload_n hx hb dX9_whatWas_1 rfl (lv_at hl 1 rfl) ?_
  refine x_Vi (wN := fun _ => (wM G am ho rn ln pl sd lt ro rf nb ++ [(am 1, .inl (G.2 0, 54, .inl (row r)))] ++ [(am 2, .inl (G.2 0, 54, .inl (row rm)))] ++ [(am 3, .inl (G.2 0, 54, .inl (row r2)))] ++ [(am 4, .inl (G.2 0, 54, .inl (row r4)))])) ⟨C0, hK, hP, hD, hS, hA⟩ 0 rfl (ci := 8) rfl rfl ((m9_isThing l G am r rm r2 r4 ho rn ln pl sd lt ro rf nb hr hp t)) (cwV 1 hts (lw_V q1247 q1249 qs73 q95 q1250) rfl rfl rfl (by decide +kernel) ⟨Nat.le_of_ble_eq_true rfl, Nat.le_of_ble_eq_true rfl⟩) [0, 1, 2, 3, 4, 5, 6, 7, 8] [1, 3, 5, 7, 9, 11, 13, 15, 17] rfl (fun _ => rfl) rfl rfl hl.1 rfl (Nat.le_of_ble_eq_true rfl) dX9_whatWas_2 ⟨(Nat.le_of_ble_eq_true rfl), (Nat.le_of_ble_eq_true rfl)⟩ (fun r_1 u_1 H locs hw_1 hP hD hS => ?_)
  have hw_1 : (bI (tB r t) : Int32) = r_1 := hw_1.symm
  subst hw_1
  refine lv_if_ne (tgt := 12) hx hb dX9_whatWas_5 (by decide) (fun c_2 => ?_) (fun c_2 => ?_)
  · skip
    obtain ⟨hj_t, et_t⟩ := tB_ix hN (by first | exact bI_n0 c_2 | exact bI_0.mp c_2)
    rw [et_t] at hl
    refine lv_iload_n hx hb dX9_whatWas_12 rfl (lv_at hl 2 rfl) ?_
    refine lv_iconst (v := 0) hx hb dX9_whatWas_13 (by decide) ?_
    refine lv_iconst (v := 1) hx hb dX9_whatWas_14 (by decide) ?_
    refine x_Si (wN := fun _ => (wM G am ho rn ln pl sd lt ro rf nb ++ [(am 1, .inl (G.2 0, 54, .inl (row r)))] ++ [(am 2, .inl (G.2 0, 54, .inl (row rm)))] ++ [(am 3, .inl (G.2 0, 54, .inl (row r2)))] ++ [(am 4, .inl (G.2 0, 54, .inl (row r4)))])) ⟨C0, hK, hP, hD, hS, hA⟩ ((m9_isIn l G w 0 1)) (va_cwS 3 hts (lw_S q1233 q1234 q95 q1235) rfl rfl rfl (by decide +kernel) ⟨Nat.le_of_ble_eq_true rfl, Nat.le_of_ble_eq_true rfl⟩) [] [0, 2, 4, 6, 8, 10, 12, 14, 16] rfl (fun _ => rfl) rfl rfl hl.1 rfl (Nat.le_of_ble_eq_true rfl) dX9_whatWas_15 ⟨(Nat.le_of_ble_eq_true rfl), (Nat.le_of_ble_eq_true rfl)⟩ (fun r_3 u_3 H locs hw_3 hP hD hS => ?_)
    have hw_3 : r_3 = bI (inR w 0 1) := hw_3.trans rfl
    have hw_3 : (bI (inR w 0 1) : Int32) = r_3 := hw_3.symm
    subst hw_3
    refine lv_if_ne (tgt := 26) hx hb dX9_whatWas_18 (by decide) (fun c_4 => ?_) (fun c_4 => ?_)
    · skip
      refine lv_aload_n hx hb dX9_whatWas_26 rfl (lv_at hl 0 rfl) ?_
      refine va_get (D := G.1) (ci := 8) (v := .int rn) (C := RX9) (T := TX9) (N := 13) hx hb hts in_X9 hown hK.1 hP 0 rfl rfl 9 (by decide) (hts _ q1171) (fun _ h9 => h9) rfl dX9_whatWas_27 ?_
      refine lv_aload_n hx hb dX9_whatWas_30 rfl (lv_at hl 0 rfl) ?_
      refine va_get (D := G.1) (ci := 8) (v := .ref (am 1)) (C := RX9) (T := TX9) (N := 13) hx hb hts in_X9 hown hK.1 hP 0 rfl rfl 0 (by decide) (hts _ q1162) (fun _ h9 => h9) rfl dX9_whatWas_31 ?_
      refine lv_iconst (v := 0) hx hb dX9_whatWas_34 (by decide) ?_
      refine x_ialdn (k := 0) hx hb hK.1 hP 5 0 rfl rfl (by decide) (by decide) (v := nI (mny r)) (hr0) dX9_whatWas_35 ?_
      refine lv_icmp_eq (tgt := 44) hx hb dX9_whatWas_36 (by decide) (fun c_5 => ?_) (fun c_5 => ?_)
      · skip
        have hbit := iR_bit (by first | exact bI_n0 c_4 | exact bI_0.mp c_4)
        refine lv_iconst (v := 0) hx hb dX9_whatWas_44 (by decide) ?_
        refine lv_istore_n (lv' := [(3, .int 0), (0, .ref (am 0)), (1, .int (nI (ix t))), (2, .int w)]) hx hb dX9_whatWas_45 rfl hl (by decide) rfl (fun ls hl => ?_)
        refine lv_iload_n hx hb dX9_whatWas_46 rfl (lv_at hl 0 rfl) ?_
        refine lv_if_eq (tgt := 56) hx hb dX9_whatWas_47 (by decide) (fun c_6 => ?_) (fun c_6 => ?_)
        · skip
          refine lv_iconst (v := 0) hx hb dX9_whatWas_56 (by decide) ?_
          refine lv_istore (lv' := [(4, .int 0), (3, .int 0), (0, .ref (am 0)), (1, .int (nI (ix t))), (2, .int w)]) hx hb dX9_whatWas_57 hl (by decide) rfl (fun ls hl => ?_)
          refine lv_iconst (v := 0) hx hb dX9_whatWas_59 (by decide) ?_
          refine lv_istore (lv' := [(5, .int 0), (4, .int 0), (3, .int 0), (0, .ref (am 0)), (1, .int (nI (ix t))), (2, .int w)]) hx hb dX9_whatWas_60 hl (by decide) rfl (fun ls hl => ?_)
          rcases hbit with rfl | rfl
          · skip
            have loop_62 : ∀ (n : Nat) (k : Nat) (q9 : Rw), (k ≤ 6) → (6 < k + n) → ∀ (H : Heap) (locs : List Loc) (ls : Array Slot), va_P G.1 vwCl (wM G am ho rn ln pl sd lt ro rf nb ++ [(am 1, .inl (G.2 0, 54, .inl (row r)))] ++ [(am 2, .inl (G.2 0, 54, .inl (row q9)))] ++ [(am 3, .inl (G.2 0, 54, .inl (row r2)))] ++ [(am 4, .inl (G.2 0, 54, .inl (row r4)))]) H → va_D A (wM G am ho rn ln pl sd lt ro rf nb ++ [(am 1, .inl (G.2 0, 54, .inl (row r)))] ++ [(am 2, .inl (G.2 0, 54, .inl (row q9)))] ++ [(am 3, .inl (G.2 0, 54, .inl (row r2)))] ++ [(am 4, .inl (G.2 0, 54, .inl (row r4)))]) → va_S A s.heap H locs → lv_has ls 9 [(5, .int (nI k)), (4, .int (bs (fun j => isRw ro (pFit r (ix t) 0 j)) k)), (3, .int 0), (0, .ref (am 0)), (1, .int (nI (ix t))), (2, .int 0)] → W p l e ({ frames := 5, cells := 0, slots := 0, locals := 110 } : Room) s m args below meth c H locs 0 0 Q (F0 m 62 ls []) := by
              intro n
              induction n with
              | zero => intro k q9 hi62_0 hi62_1; exact absurd hi62_1 (by omega)
              | succ n ih_62 =>
                intro k q9 hi62_0 hi62_1 H locs ls hP hD hS hl
                refine lv_iload hx hb dX9_whatWas_62 (lv_at hl 0 rfl) ?_
                refine lv_iload_n hx hb dX9_whatWas_64 rfl (lv_at hl 5 rfl) ?_
                refine lv_if_ne (tgt := 73) hx hb dX9_whatWas_65 (by decide) (fun c_7 => ?_) (fun c_7 => ?_)
                · skip
                  exact absurd c_7 (by decide)
                · skip
                  refine lv_bipush (v := 6) hx hb dX9_whatWas_68 (by decide) ?_
                  refine lv_goto (tgt := 75) hx hb dX9_whatWas_70 (by decide) ?_
                  refine lv_icmp_ge (tgt := 198) hx hb dX9_whatWas_75 (by decide) (fun c_8 => ?_) (fun c_8 => ?_)
                  · skip
                    have g_8 := (nI_leI (by omega) (by omega)).mp (show nI k ≥ nI 6 from c_8)
                    refine lv_iload hx hb dX9_whatWas_198 (lv_at hl 1 rfl) ?_
                    have hE : eS (tB r t) (-1) (eS (inR w 0 1) (-2) (eS (decide (rn = nI (mny r))) (-3) 0)) = 0 := by rw [eS_t (show tB r t = true from (by first | exact bI_n0 c_2 | exact bI_0.mp c_2)), eS_t (show inR w 0 1 = true from (by first | exact bI_n0 c_4 | exact bI_0.mp c_4)), eS_t (decide_eq_true c_5)]
                    have hP : va_P G.1 vwCl (wM G am ho rn ln pl sd lt ro (sel (eS (tB r t) (-1) (eS (inR w 0 1) (-2) (eS (decide (rn = nI (mny r))) (-3) 0))) rf (rfU rf (eS (tB r t) (-1) (eS (inR w 0 1) (-2) (eS (decide (rn = nI (mny r))) (-3) 0))))) nb ++ [(am 1, .inl (G.2 0, 54, .inl (row r)))] ++ [(am 2, .inl (G.2 0, 54, .inl (row q9)))] ++ [(am 3, .inl (G.2 0, 54, .inl (row r2)))] ++ [(am 4, .inl (G.2 0, 54, .inl (row r4)))]) H := by rw [hE]; simp only [sel_0 rfl]; exact hP
                    have hD : va_D A (wM G am ho rn ln pl sd lt ro (sel (eS (tB r t) (-1) (eS (inR w 0 1) (-2) (eS (decide (rn = nI (mny r))) (-3) 0))) rf (rfU rf (eS (tB r t) (-1) (eS (inR w 0 1) (-2) (eS (decide (rn = nI (mny r))) (-3) 0))))) nb ++ [(am 1, .inl (G.2 0, 54, .inl (row r)))] ++ [(am 2, .inl (G.2 0, 54, .inl (row q9)))] ++ [(am 3, .inl (G.2 0, 54, .inl (row r2)))] ++ [(am 4, .inl (G.2 0, 54, .inl (row r4)))]) := by rw [hE]; simp only [sel_0 rfl]; exact hD
                    refine hret _ _ _ _ _ _ (bs (fun j => isRw ro (pFit r (ix t) 0 j)) k) q9 dX9_whatWas_200 ?_ hP hD hS (Nat.le_of_ble_eq_true rfl) (Nat.le_of_ble_eq_true rfl)
                    rw [hE, sel_0 rfl]
                    rw [show k = 6 by omega]
                    exact pFits_0 r ro (ix t)
                  · skip
                    have g_8 := mt (nI_leI (by omega) (by omega)).mpr (show ¬ (nI k ≥ nI 6) from c_8)
                    refine lv_iconst (v := 1) hx hb dX9_whatWas_78 (by decide) ?_
                    refine lv_istore (lv' := [(6, .int 1), (5, .int (nI k)), (4, .int (bs (fun j => isRw ro (pFit r (ix t) 0 j)) k)), (3, .int 0), (0, .ref (am 0)), (1, .int (nI (ix t))), (2, .int 0)]) hx hb dX9_whatWas_79 hl (by decide) rfl (fun ls hl => ?_)
                    refine lv_iconst (v := 0) hx hb dX9_whatWas_81 (by decide) ?_
                    refine lv_istore (lv' := [(7, .int 0), (6, .int 1), (5, .int (nI k)), (4, .int (bs (fun j => isRw ro (pFit r (ix t) 0 j)) k)), (3, .int 0), (0, .ref (am 0)), (1, .int (nI (ix t))), (2, .int 0)]) hx hb dX9_whatWas_82 hl (by decide) rfl (fun ls hl => ?_)
                    have loop_84 : ∀ (n : Nat) (a : Nat) (q8 : Rw), (a ≤ mny r) → (mny r < a + n) → ∀ (H : Heap) (locs : List Loc) (ls : Array Slot), va_P G.1 vwCl (wM G am ho rn ln pl sd lt ro rf nb ++ [(am 1, .inl (G.2 0, 54, .inl (row r)))] ++ [(am 2, .inl (G.2 0, 54, .inl (row q8)))] ++ [(am 3, .inl (G.2 0, 54, .inl (row r2)))] ++ [(am 4, .inl (G.2 0, 54, .inl (row r4)))]) H → va_D A (wM G am ho rn ln pl sd lt ro rf nb ++ [(am 1, .inl (G.2 0, 54, .inl (row r)))] ++ [(am 2, .inl (G.2 0, 54, .inl (row q8)))] ++ [(am 3, .inl (G.2 0, 54, .inl (row r2)))] ++ [(am 4, .inl (G.2 0, 54, .inl (row r4)))]) → va_S A s.heap H locs → lv_has ls 9 [(7, .int (nI a)), (6, .int (bI (pAll (wwP r ro (ix t) 0 k) a))), (5, .int (nI k)), (4, .int (bs (fun j => isRw ro (pFit r (ix t) 0 j)) k)), (3, .int 0), (0, .ref (am 0)), (1, .int (nI (ix t))), (2, .int 0)] → W p l e ({ frames := 5, cells := 0, slots := 0, locals := 110 } : Room) s m args below meth c H locs 0 0 Q (F0 m 84 ls []) := by
                      intro n
                      induction n with
                      | zero => intro a q8 hi84_0 hi84_1; exact absurd hi84_1 (by omega)
                      | succ n ih_84 =>
                        intro a q8 hi84_0 hi84_1 H locs ls hP hD hS hl
                        refine lv_iload hx hb dX9_whatWas_84 (lv_at hl 0 rfl) ?_
                        refine lv_aload_n hx hb dX9_whatWas_86 rfl (lv_at hl 5 rfl) ?_
                        refine va_get (D := G.1) (ci := 8) (v := .ref (am 1)) (C := RX9) (T := TX9) (N := 13) hx hb hts in_X9 hown hK.1 hP 0 rfl rfl 0 (by decide) (hts _ q1162) (fun _ h9 => h9) rfl dX9_whatWas_87 ?_
                        refine lv_iconst (v := 0) hx hb dX9_whatWas_90 (by decide) ?_
                        refine x_ialdn (k := 0) hx hb hK.1 hP 5 0 rfl rfl (by decide) (by decide) (v := nI (mny r)) (hr0) dX9_whatWas_91 ?_
                        refine lv_icmp_ge (tgt := 174) hx hb dX9_whatWas_92 (by decide) (fun c_9 => ?_) (fun c_9 => ?_)
                        · skip
                          have g_9 := (nI_leI (by omega) (by omega)).mp c_9
                          have eAll : pAll (wwP r ro (ix t) 0 k) a = isRw ro (pFit r (ix t) 0 k) := by rw [← isRw_e, show mny r = a by omega]
                          rw [eAll] at hl
                          refine lv_iload hx hb dX9_whatWas_174 (lv_at hl 3 rfl) ?_
                          refine lv_iload hx hb dX9_whatWas_176 (lv_at hl 1 rfl) ?_
                          refine lv_if_eq (tgt := 188) hx hb dX9_whatWas_178 (by decide) (fun c_10 => ?_) (fun c_10 => ?_)
                          · skip
                            refine lv_iconst (v := 0) hx hb dX9_whatWas_188 (by decide) ?_
                            refine x_ior hx hb dX9_whatWas_189 (v := bs (fun j => isRw ro (pFit r (ix t) 0 j)) (k + 1)) (bs_f (show isRw ro (pFit r (ix t) 0 k) = false from (by first | exact bI_n0 c_10 | exact bI_0.mp c_10))) ?_
                            refine lv_istore (lv' := [(4, .int (bs (fun j => isRw ro (pFit r (ix t) 0 j)) (k + 1))), (7, .int (nI a)), (6, .int (bI (isRw ro (pFit r (ix t) 0 k)))), (5, .int (nI k)), (3, .int 0), (0, .ref (am 0)), (1, .int (nI (ix t))), (2, .int 0)]) hx hb dX9_whatWas_190 hl (by decide) rfl (fun ls hl => ?_)
                            refine lv_iinc (v := nI (k + 1)) (lv' := [(5, .int (nI (k + 1))), (4, .int (bs (fun j => isRw ro (pFit r (ix t) 0 j)) (k + 1))), (7, .int (nI a)), (6, .int (bI (isRw ro (pFit r (ix t) 0 k)))), (3, .int 0), (0, .ref (am 0)), (1, .int (nI (ix t))), (2, .int 0)]) hx hb dX9_whatWas_192 hl (k := 3) rfl (x_inc1 _) (by decide) rfl (fun ls hl => ?_)
                            refine lv_goto (tgt := 62) hx hb dX9_whatWas_195 (by decide) ?_
                            exact ih_62 (k + 1) _ (by omega) (by omega) _ _ _ hP hD hS (lv_sub hl [0, 1, 4, 5, 6, 7] rfl)
                          · skip
                            refine lv_iconst (v := 1) hx hb dX9_whatWas_181 (by decide) ?_
                            refine lv_iload hx hb dX9_whatWas_182 (lv_at hl 2 rfl) ?_
                            refine x_ishl hx hb dX9_whatWas_184 (v := b1 k) rfl ?_
                            refine lv_goto (tgt := 189) hx hb dX9_whatWas_185 (by decide) ?_
                            refine x_ior hx hb dX9_whatWas_189 (v := bs (fun j => isRw ro (pFit r (ix t) 0 j)) (k + 1)) (bs_t (show isRw ro (pFit r (ix t) 0 k) = true from (by first | exact bI_n0 c_10 | exact bI_0.mp c_10))) ?_
                            refine lv_istore (lv' := [(4, .int (bs (fun j => isRw ro (pFit r (ix t) 0 j)) (k + 1))), (7, .int (nI a)), (6, .int (bI (isRw ro (pFit r (ix t) 0 k)))), (5, .int (nI k)), (3, .int 0), (0, .ref (am 0)), (1, .int (nI (ix t))), (2, .int 0)]) hx hb dX9_whatWas_190 hl (by decide) rfl (fun ls hl => ?_)
                            refine lv_iinc (v := nI (k + 1)) (lv' := [(5, .int (nI (k + 1))), (4, .int (bs (fun j => isRw ro (pFit r (ix t) 0 j)) (k + 1))), (7, .int (nI a)), (6, .int (bI (isRw ro (pFit r (ix t) 0 k)))), (3, .int 0), (0, .ref (am 0)), (1, .int (nI (ix t))), (2, .int 0)]) hx hb dX9_whatWas_192 hl (k := 3) rfl (x_inc1 _) (by decide) rfl (fun ls hl => ?_)
                            refine lv_goto (tgt := 62) hx hb dX9_whatWas_195 (by decide) ?_
                            exact ih_62 (k + 1) _ (by omega) (by omega) _ _ _ hP hD hS (lv_sub hl [0, 1, 4, 5, 6, 7] rfl)
                        · skip
                          have g_9 := mt (nI_leI (by omega) (by omega)).mpr c_9
                          refine lv_iload hx hb dX9_whatWas_95 (lv_at hl 1 rfl) ?_
                          refine lv_if_eq (tgt := 174) hx hb dX9_whatWas_97 (by decide) (fun c_11 => ?_) (fun c_11 => ?_)
                          · skip
                            have eAll : pAll (wwP r ro (ix t) 0 k) a = isRw ro (pFit r (ix t) 0 k) := by have h8 : pAll (wwP r ro (ix t) 0 k) a = false := (by first | exact bI_n0 c_11 | exact bI_0.mp c_11); rw [← isRw_e, h8, pAll_le (show a ≤ mny r by omega) h8]
                            rw [eAll] at hl
                            refine lv_iload hx hb dX9_whatWas_174 (lv_at hl 3 rfl) ?_
                            refine lv_iload hx hb dX9_whatWas_176 (lv_at hl 1 rfl) ?_
                            refine lv_if_eq (tgt := 188) hx hb dX9_whatWas_178 (by decide) (fun c_12 => ?_) (fun c_12 => ?_)
                            · skip
                              refine lv_iconst (v := 0) hx hb dX9_whatWas_188 (by decide) ?_
                              refine x_ior hx hb dX9_whatWas_189 (v := bs (fun j => isRw ro (pFit r (ix t) 0 j)) (k + 1)) (bs_f (show isRw ro (pFit r (ix t) 0 k) = false from (by first | exact bI_n0 c_12 | exact bI_0.mp c_12))) ?_
                              refine lv_istore (lv' := [(4, .int (bs (fun j => isRw ro (pFit r (ix t) 0 j)) (k + 1))), (7, .int (nI a)), (6, .int (bI (isRw ro (pFit r (ix t) 0 k)))), (5, .int (nI k)), (3, .int 0), (0, .ref (am 0)), (1, .int (nI (ix t))), (2, .int 0)]) hx hb dX9_whatWas_190 hl (by decide) rfl (fun ls hl => ?_)
                              refine lv_iinc (v := nI (k + 1)) (lv' := [(5, .int (nI (k + 1))), (4, .int (bs (fun j => isRw ro (pFit r (ix t) 0 j)) (k + 1))), (7, .int (nI a)), (6, .int (bI (isRw ro (pFit r (ix t) 0 k)))), (3, .int 0), (0, .ref (am 0)), (1, .int (nI (ix t))), (2, .int 0)]) hx hb dX9_whatWas_192 hl (k := 3) rfl (x_inc1 _) (by decide) rfl (fun ls hl => ?_)
                              refine lv_goto (tgt := 62) hx hb dX9_whatWas_195 (by decide) ?_
                              exact ih_62 (k + 1) _ (by omega) (by omega) _ _ _ hP hD hS (lv_sub hl [0, 1, 4, 5, 6, 7] rfl)
                            · skip
                              refine lv_iconst (v := 1) hx hb dX9_whatWas_181 (by decide) ?_
                              refine lv_iload hx hb dX9_whatWas_182 (lv_at hl 2 rfl) ?_
                              refine x_ishl hx hb dX9_whatWas_184 (v := b1 k) rfl ?_
                              refine lv_goto (tgt := 189) hx hb dX9_whatWas_185 (by decide) ?_
                              refine x_ior hx hb dX9_whatWas_189 (v := bs (fun j => isRw ro (pFit r (ix t) 0 j)) (k + 1)) (bs_t (show isRw ro (pFit r (ix t) 0 k) = true from (by first | exact bI_n0 c_12 | exact bI_0.mp c_12))) ?_
                              refine lv_istore (lv' := [(4, .int (bs (fun j => isRw ro (pFit r (ix t) 0 j)) (k + 1))), (7, .int (nI a)), (6, .int (bI (isRw ro (pFit r (ix t) 0 k)))), (5, .int (nI k)), (3, .int 0), (0, .ref (am 0)), (1, .int (nI (ix t))), (2, .int 0)]) hx hb dX9_whatWas_190 hl (by decide) rfl (fun ls hl => ?_)
                              refine lv_iinc (v := nI (k + 1)) (lv' := [(5, .int (nI (k + 1))), (4, .int (bs (fun j => isRw ro (pFit r (ix t) 0 j)) (k + 1))), (7, .int (nI a)), (6, .int (bI (isRw ro (pFit r (ix t) 0 k)))), (3, .int 0), (0, .ref (am 0)), (1, .int (nI (ix t))), (2, .int 0)]) hx hb dX9_whatWas_192 hl (k := 3) rfl (x_inc1 _) (by decide) rfl (fun ls hl => ?_)
                              refine lv_goto (tgt := 62) hx hb dX9_whatWas_195 (by decide) ?_
                              exact ih_62 (k + 1) _ (by omega) (by omega) _ _ _ hP hD hS (lv_sub hl [0, 1, 4, 5, 6, 7] rfl)
                          · skip
                            refine lv_aload_n hx hb dX9_whatWas_100 rfl (lv_at hl 5 rfl) ?_
                            refine va_get (D := G.1) (ci := 8) (v := .ref (am 1)) (C := RX9) (T := TX9) (N := 13) hx hb hts in_X9 hown hK.1 hP 0 rfl rfl 0 (by decide) (hts _ q1162) (fun _ h9 => h9) rfl dX9_whatWas_101 ?_
                            refine lv_aload_n hx hb dX9_whatWas_104 rfl (lv_at hl 5 rfl) ?_
                            refine va_get (D := G.1) (ci := 8) (v := .ref (am 2)) (C := RX9) (T := TX9) (N := 13) hx hb hts in_X9 hown hK.1 hP 0 rfl rfl 1 (by decide) (hts _ q1163) (fun _ h9 => h9) rfl dX9_whatWas_105 ?_
                            refine x_Sv (wN := fun _ => (wM G am ho rn ln pl sd lt ro rf nb ++ [(am 1, .inl (G.2 0, 54, .inl (row r)))] ++ [(am 2, .inl (G.2 0, 54, .inl (row r)))] ++ [(am 3, .inl (G.2 0, 54, .inl (row r2)))] ++ [(am 4, .inl (G.2 0, 54, .inl (row r4)))])) ⟨C0, hK, hP, hD, hS, hA⟩ ((m9_copies l G (am 1) (am 2) (row r) (row q8))) (va_cwS 2 hts (lw_S q1236 q1237 q95 q1238) rfl rfl rfl (by decide +kernel) ⟨Nat.le_of_ble_eq_true rfl, Nat.le_of_ble_eq_true rfl⟩) [5, 6] [0, 2, 4, 6, 8, 1, 3, 14, 16] rfl (fun _ => rfl) rfl rfl hl.1 rfl (Nat.le_of_ble_eq_true rfl) dX9_whatWas_108 ⟨(Nat.le_of_ble_eq_true rfl), (Nat.le_of_ble_eq_true rfl)⟩ (fun u_13 H locs hw_13 hP hD hS => ?_)
                            have hP : va_P G.1 vwCl (wM G am ho rn ln pl sd lt ro rf nb ++ [(am 1, .inl (G.2 0, 54, .inl (row r)))] ++ [(am 2, .inl (G.2 0, 54, .inl (row r)))] ++ [(am 3, .inl (G.2 0, 54, .inl (row r2)))] ++ [(am 4, .inl (G.2 0, 54, .inl (row r4)))]) H := hP
                            have hD : va_D A (wM G am ho rn ln pl sd lt ro rf nb ++ [(am 1, .inl (G.2 0, 54, .inl (row r)))] ++ [(am 2, .inl (G.2 0, 54, .inl (row r)))] ++ [(am 3, .inl (G.2 0, 54, .inl (row r2)))] ++ [(am 4, .inl (G.2 0, 54, .inl (row r4)))]) := hD
                            refine lv_aload_n hx hb dX9_whatWas_111 rfl (lv_at hl 5 rfl) ?_
                            refine va_get (D := G.1) (ci := 8) (v := .ref (am 2)) (C := RX9) (T := TX9) (N := 13) hx hb hts in_X9 hown hK.1 hP 0 rfl rfl 1 (by decide) (hts _ q1163) (fun _ h9 => h9) rfl dX9_whatWas_112 ?_
                            refine lv_iload_n hx hb dX9_whatWas_115 rfl (lv_at hl 6 rfl) ?_
                            refine lv_iload_n hx hb dX9_whatWas_116 rfl (lv_at hl 7 rfl) ?_
                            refine lv_if_ne (tgt := 124) hx hb dX9_whatWas_117 (by decide) (fun c_14 => ?_) (fun c_14 => ?_)
                            · skip
                              exact absurd c_14 (by decide)
                            · skip
                              refine lv_iconst (v := 0) hx hb dX9_whatWas_120 (by decide) ?_
                              refine lv_goto (tgt := 125) hx hb dX9_whatWas_121 (by decide) ?_
                              refine x_Si (wN := fun _ => (wM G am ho rn ln pl sd lt ro rf nb ++ [(am 1, .inl (G.2 0, 54, .inl (row r)))] ++ [(am 2, .inl (G.2 0, 54, .inl (row r)))] ++ [(am 3, .inl (G.2 0, 54, .inl (row r2)))] ++ [(am 4, .inl (G.2 0, 54, .inl (row r4)))])) ⟨C0, hK, hP, hD, hS, hA⟩ ((m9_of l G (ix t) 0)) (va_cwS 2 hts (lw_S q1254 q1255 q95 q1256) rfl rfl rfl (by decide +kernel) ⟨Nat.le_of_ble_eq_true rfl, Nat.le_of_ble_eq_true rfl⟩) [] [0, 2, 4, 6, 8, 10, 12, 14, 16] rfl (fun _ => rfl) rfl rfl hl.1 rfl (Nat.le_of_ble_eq_true rfl) dX9_whatWas_125 ⟨(Nat.le_of_ble_eq_true rfl), (Nat.le_of_ble_eq_true rfl)⟩ (fun r_15 u_15 H locs hw_15 hP hD hS => ?_)
                              have hw_15 : (nI (4 + 5 * (ix t) + 0) : Int32) = r_15 := hw_15.symm
                              subst hw_15
                              refine lv_iload hx hb dX9_whatWas_128 (lv_at hl 2 rfl) ?_
                              refine x_iastn (k := (4 + 5 * (ix t) + 0)) hx hb hK.1 hP hD hS 6 0 rfl rfl (by omega) (by decide) (g := row (sf r 0 (upd (r 0) (ix t) (nI k)))) (row_up _ (by decide) _) dX9_whatWas_130 (fun H locs hP hD hS => ?_)
                              have hP : va_P G.1 vwCl (wM G am ho rn ln pl sd lt ro rf nb ++ [(am 1, .inl (G.2 0, 54, .inl (row r)))] ++ [(am 2, .inl (G.2 0, 54, .inl (row (sf r 0 (upd (r 0) (ix t) (nI k))))))] ++ [(am 3, .inl (G.2 0, 54, .inl (row r2)))] ++ [(am 4, .inl (G.2 0, 54, .inl (row r4)))]) H := hP
                              have hD : va_D A (wM G am ho rn ln pl sd lt ro rf nb ++ [(am 1, .inl (G.2 0, 54, .inl (row r)))] ++ [(am 2, .inl (G.2 0, 54, .inl (row (sf r 0 (upd (r 0) (ix t) (nI k))))))] ++ [(am 3, .inl (G.2 0, 54, .inl (row r2)))] ++ [(am 4, .inl (G.2 0, 54, .inl (row r4)))]) := hD
                              have hP : va_P G.1 vwCl (wM G am ho rn ln pl sd lt ro rf nb ++ [(am 1, .inl (G.2 0, 54, .inl (row r)))] ++ [(am 2, .inl (G.2 0, 54, .inl (row (pFit r (ix t) 0 k))))] ++ [(am 3, .inl (G.2 0, 54, .inl (row r2)))] ++ [(am 4, .inl (G.2 0, 54, .inl (row r4)))]) H := hP
                              have hD : va_D A (wM G am ho rn ln pl sd lt ro rf nb ++ [(am 1, .inl (G.2 0, 54, .inl (row r)))] ++ [(am 2, .inl (G.2 0, 54, .inl (row (pFit r (ix t) 0 k))))] ++ [(am 3, .inl (G.2 0, 54, .inl (row r2)))] ++ [(am 4, .inl (G.2 0, 54, .inl (row r4)))]) := hD
                              refine lv_aload_n hx hb dX9_whatWas_131 rfl (lv_at hl 5 rfl) ?_
                              refine lv_iload hx hb dX9_whatWas_132 (lv_at hl 0 rfl) ?_
                              refine x_Vi (wN := fun u_16 => (wM G am ho rn ln pl sd lt ro rf nb ++ [(am 1, .inl (G.2 0, 54, .inl (row r)))] ++ [(am 2, .inl (G.2 0, 54, .inl (row u_16)))] ++ [(am 3, .inl (G.2 0, 54, .inl (row r2)))] ++ [(am 4, .inl (G.2 0, 54, .inl (row r4)))])) ⟨C0, hK, hP, hD, hS, hA⟩ 0 rfl (ci := 8) rfl rfl ((m9_fallsIn l G am r (pFit r (ix t) 0 k) r2 r4 ho rn ln pl sd lt ro rf nb hr hp (hr.fit0 (by omega)) a (by omega))) (cwV 1 hts (lw_V q1345 q1347 qs78 q95 q1348) rfl rfl rfl (by decide +kernel) ⟨Nat.le_of_ble_eq_true rfl, Nat.le_of_ble_eq_true rfl⟩) [0, 1, 2, 3, 4, 5, 6, 7, 8] [1, 3, 5, 7, 9, 11, 13, 15, 17] rfl (fun _ => rfl) rfl rfl hl.1 rfl (Nat.le_of_ble_eq_true rfl) dX9_whatWas_134 ⟨(Nat.le_of_ble_eq_true rfl), (Nat.le_of_ble_eq_true rfl)⟩ (fun r_16 u_16 H locs hw_16 hP hD hS => ?_)
                              have hw_16 : (pFls (pFit r (ix t) 0 k) a : Int32) = r_16 := hw_16.symm
                              subst hw_16
                              have hP : va_P G.1 vwCl (wM G am ho rn ln pl sd lt ro rf nb ++ [(am 1, .inl (G.2 0, 54, .inl (row r)))] ++ [(am 2, .inl (G.2 0, 54, .inl (row u_16)))] ++ [(am 3, .inl (G.2 0, 54, .inl (row r2)))] ++ [(am 4, .inl (G.2 0, 54, .inl (row r4)))]) H := hP
                              have hD : va_D A (wM G am ho rn ln pl sd lt ro rf nb ++ [(am 1, .inl (G.2 0, 54, .inl (row r)))] ++ [(am 2, .inl (G.2 0, 54, .inl (row u_16)))] ++ [(am 3, .inl (G.2 0, 54, .inl (row r2)))] ++ [(am 4, .inl (G.2 0, 54, .inl (row r4)))]) := hD
                              refine lv_istore (lv' := [(8, .int (pFls (pFit r (ix t) 0 k) a)), (7, .int (nI a)), (6, .int (bI (pAll (wwP r ro (ix t) 0 k) a))), (5, .int (nI k)), (4, .int (bs (fun j => isRw ro (pFit r (ix t) 0 j)) k)), (3, .int 0), (0, .ref (am 0)), (1, .int (nI (ix t))), (2, .int 0)]) hx hb dX9_whatWas_137 hl (by decide) rfl (fun ls hl => ?_)
                              refine lv_iload hx hb dX9_whatWas_139 (lv_at hl 0 rfl) ?_
                              refine lv_if_ge (tgt := 149) hx hb dX9_whatWas_141 (by decide) (fun c_17 => ?_) (fun c_17 => ?_)
                              · skip
                                refine lv_iload hx hb dX9_whatWas_149 (lv_at hl 0 rfl) ?_
                                refine lv_aload_n hx hb dX9_whatWas_151 rfl (lv_at hl 6 rfl) ?_
                                refine va_get (D := G.1) (ci := 8) (v := .ref (am 6)) (C := RX9) (T := TX9) (N := 13) hx hb hts in_X9 hown hK.1 hP 0 rfl rfl 6 (by decide) (hts _ q1168) (fun _ h9 => h9) rfl dX9_whatWas_152 ?_
                                refine lv_iload hx hb dX9_whatWas_155 (lv_at hl 1 rfl) ?_
                                refine x_ialdn (k := a) hx hb hK.1 hP 2 0 rfl rfl (by omega) (by decide) (v := ro a) rfl dX9_whatWas_157 ?_
                                refine lv_icmp_ne (tgt := 165) hx hb dX9_whatWas_158 (by decide) (fun c_18 => ?_) (fun c_18 => ?_)
                                · skip
                                  refine lv_iconst (v := 0) hx hb dX9_whatWas_165 (by decide) ?_
                                  rw [show (0 : Int32) = bI (pAll (wwP r ro (ix t) 0 k) (a + 1)) from (pAll_z (decide_eq_false (by rw [if_neg (Int32.not_lt.mpr c_17)]; exact c_18)))]
                                  refine lv_istore (lv' := [(6, .int (bI (pAll (wwP r ro (ix t) 0 k) (a + 1)))), (8, .int (pFls (pFit r (ix t) 0 k) a)), (7, .int (nI a)), (5, .int (nI k)), (4, .int (bs (fun j => isRw ro (pFit r (ix t) 0 j)) k)), (3, .int 0), (0, .ref (am 0)), (1, .int (nI (ix t))), (2, .int 0)]) hx hb dX9_whatWas_166 hl (by decide) rfl (fun ls hl => ?_)
                                  refine lv_iinc (v := nI (a + 1)) (lv' := [(7, .int (nI (a + 1))), (6, .int (bI (pAll (wwP r ro (ix t) 0 k) (a + 1)))), (8, .int (pFls (pFit r (ix t) 0 k) a)), (5, .int (nI k)), (4, .int (bs (fun j => isRw ro (pFit r (ix t) 0 j)) k)), (3, .int 0), (0, .ref (am 0)), (1, .int (nI (ix t))), (2, .int 0)]) hx hb dX9_whatWas_168 hl (k := 2) rfl (x_inc1 _) (by decide) rfl (fun ls hl => ?_)
                                  refine lv_goto (tgt := 84) hx hb dX9_whatWas_171 (by decide) ?_
                                  exact ih_84 (a + 1) _ (by omega) (by omega) _ _ _ hP hD hS (lv_sub hl [0, 1, 3, 4, 5, 6, 7, 8] rfl)
                                · skip
                                  refine lv_iconst (v := 1) hx hb dX9_whatWas_161 (by decide) ?_
                                  refine lv_goto (tgt := 166) hx hb dX9_whatWas_162 (by decide) ?_
                                  rw [show (1 : Int32) = bI (pAll (wwP r ro (ix t) 0 k) (a + 1)) from (pAll_sT (show pAll (wwP r ro (ix t) 0 k) a = true from (by first | exact bI_n0 c_11 | exact bI_0.mp c_11)) (decide_eq_true (by rw [if_neg (Int32.not_lt.mpr c_17)]; exact c_18)))]
                                  refine lv_istore (lv' := [(6, .int (bI (pAll (wwP r ro (ix t) 0 k) (a + 1)))), (8, .int (pFls (pFit r (ix t) 0 k) a)), (7, .int (nI a)), (5, .int (nI k)), (4, .int (bs (fun j => isRw ro (pFit r (ix t) 0 j)) k)), (3, .int 0), (0, .ref (am 0)), (1, .int (nI (ix t))), (2, .int 0)]) hx hb dX9_whatWas_166 hl (by decide) rfl (fun ls hl => ?_)
                                  refine lv_iinc (v := nI (a + 1)) (lv' := [(7, .int (nI (a + 1))), (6, .int (bI (pAll (wwP r ro (ix t) 0 k) (a + 1)))), (8, .int (pFls (pFit r (ix t) 0 k) a)), (5, .int (nI k)), (4, .int (bs (fun j => isRw ro (pFit r (ix t) 0 j)) k)), (3, .int 0), (0, .ref (am 0)), (1, .int (nI (ix t))), (2, .int 0)]) hx hb dX9_whatWas_168 hl (k := 2) rfl (x_inc1 _) (by decide) rfl (fun ls hl => ?_)
                                  refine lv_goto (tgt := 84) hx hb dX9_whatWas_171 (by decide) ?_
                                  exact ih_84 (a + 1) _ (by omega) (by omega) _ _ _ hP hD hS (lv_sub hl [0, 1, 3, 4, 5, 6, 7, 8] rfl)
                              · skip
                                refine lv_bipush (v := 99) hx hb dX9_whatWas_144 (by decide) ?_
                                refine lv_goto (tgt := 151) hx hb dX9_whatWas_146 (by decide) ?_
                                refine lv_aload_n hx hb dX9_whatWas_151 rfl (lv_at hl 6 rfl) ?_
                                refine va_get (D := G.1) (ci := 8) (v := .ref (am 6)) (C := RX9) (T := TX9) (N := 13) hx hb hts in_X9 hown hK.1 hP 0 rfl rfl 6 (by decide) (hts _ q1168) (fun _ h9 => h9) rfl dX9_whatWas_152 ?_
                                refine lv_iload hx hb dX9_whatWas_155 (lv_at hl 1 rfl) ?_
                                refine x_ialdn (k := a) hx hb hK.1 hP 2 0 rfl rfl (by omega) (by decide) (v := ro a) rfl dX9_whatWas_157 ?_
                                refine lv_icmp_ne (tgt := 165) hx hb dX9_whatWas_158 (by decide) (fun c_19 => ?_) (fun c_19 => ?_)
                                · skip
                                  refine lv_iconst (v := 0) hx hb dX9_whatWas_165 (by decide) ?_
                                  rw [show (0 : Int32) = bI (pAll (wwP r ro (ix t) 0 k) (a + 1)) from (pAll_z (decide_eq_false (by rw [if_pos (Int32.not_le.mp c_17)]; exact c_19)))]
                                  refine lv_istore (lv' := [(6, .int (bI (pAll (wwP r ro (ix t) 0 k) (a + 1)))), (8, .int (pFls (pFit r (ix t) 0 k) a)), (7, .int (nI a)), (5, .int (nI k)), (4, .int (bs (fun j => isRw ro (pFit r (ix t) 0 j)) k)), (3, .int 0), (0, .ref (am 0)), (1, .int (nI (ix t))), (2, .int 0)]) hx hb dX9_whatWas_166 hl (by decide) rfl (fun ls hl => ?_)
                                  refine lv_iinc (v := nI (a + 1)) (lv' := [(7, .int (nI (a + 1))), (6, .int (bI (pAll (wwP r ro (ix t) 0 k) (a + 1)))), (8, .int (pFls (pFit r (ix t) 0 k) a)), (5, .int (nI k)), (4, .int (bs (fun j => isRw ro (pFit r (ix t) 0 j)) k)), (3, .int 0), (0, .ref (am 0)), (1, .int (nI (ix t))), (2, .int 0)]) hx hb dX9_whatWas_168 hl (k := 2) rfl (x_inc1 _) (by decide) rfl (fun ls hl => ?_)
                                  refine lv_goto (tgt := 84) hx hb dX9_whatWas_171 (by decide) ?_
                                  exact ih_84 (a + 1) _ (by omega) (by omega) _ _ _ hP hD hS (lv_sub hl [0, 1, 3, 4, 5, 6, 7, 8] rfl)
                                · skip
                                  refine lv_iconst (v := 1) hx hb dX9_whatWas_161 (by decide) ?_
                                  refine lv_goto (tgt := 166) hx hb dX9_whatWas_162 (by decide) ?_
                                  rw [show (1 : Int32) = bI (pAll (wwP r ro (ix t) 0 k) (a + 1)) from (pAll_sT (show pAll (wwP r ro (ix t) 0 k) a = true from (by first | exact bI_n0 c_11 | exact bI_0.mp c_11)) (decide_eq_true (by rw [if_pos (Int32.not_le.mp c_17)]; exact c_19)))]
                                  refine lv_istore (lv' := [(6, .int (bI (pAll (wwP r ro (ix t) 0 k) (a + 1)))), (8, .int (pFls (pFit r (ix t) 0 k) a)), (7, .int (nI a)), (5, .int (nI k)), (4, .int (bs (fun j => isRw ro (pFit r (ix t) 0 j)) k)), (3, .int 0), (0, .ref (am 0)), (1, .int (nI (ix t))), (2, .int 0)]) hx hb dX9_whatWas_166 hl (by decide) rfl (fun ls hl => ?_)
                                  refine lv_iinc (v := nI (a + 1)) (lv' := [(7, .int (nI (a + 1))), (6, .int (bI (pAll (wwP r ro (ix t) 0 k) (a + 1)))), (8, .int (pFls (pFit r (ix t) 0 k) a)), (5, .int (nI k)), (4, .int (bs (fun j => isRw ro (pFit r (ix t) 0 j)) k)), (3, .int 0), (0, .ref (am 0)), (1, .int (nI (ix t))), (2, .int 0)]) hx hb dX9_whatWas_168 hl (k := 2) rfl (x_inc1 _) (by decide) rfl (fun ls hl => ?_)
                                  refine lv_goto (tgt := 84) hx hb dX9_whatWas_171 (by decide) ?_
                                  exact ih_84 (a + 1) _ (by omega) (by omega) _ _ _ hP hD hS (lv_sub hl [0, 1, 3, 4, 5, 6, 7, 8] rfl)
                    exact loop_84 (mny r + 1) 0 _ (by omega) (by omega) _ _ _ hP hD hS (lv_sub hl [0, 1, 2, 3, 4, 5, 6, 7] rfl)
            exact loop_62 7 0 _ (by omega) (by omega) _ _ _ hP hD hS (lv_sub hl [0, 1, 2, 3, 4, 5] rfl)
          · skip
            have loop_62 : ∀ (n : Nat) (k : Nat) (q9 : Rw), (k ≤ 10) → (10 < k + n) → ∀ (H : Heap) (locs : List Loc) (ls : Array Slot), va_P G.1 vwCl (wM G am ho rn ln pl sd lt ro rf nb ++ [(am 1, .inl (G.2 0, 54, .inl (row r)))] ++ [(am 2, .inl (G.2 0, 54, .inl (row q9)))] ++ [(am 3, .inl (G.2 0, 54, .inl (row r2)))] ++ [(am 4, .inl (G.2 0, 54, .inl (row r4)))]) H → va_D A (wM G am ho rn ln pl sd lt ro rf nb ++ [(am 1, .inl (G.2 0, 54, .inl (row r)))] ++ [(am 2, .inl (G.2 0, 54, .inl (row q9)))] ++ [(am 3, .inl (G.2 0, 54, .inl (row r2)))] ++ [(am 4, .inl (G.2 0, 54, .inl (row r4)))]) → va_S A s.heap H locs → lv_has ls 9 [(5, .int (nI k)), (4, .int (bs (fun j => isRw ro (pFit r (ix t) 1 j)) k)), (3, .int 0), (0, .ref (am 0)), (1, .int (nI (ix t))), (2, .int 1)] → W p l e ({ frames := 5, cells := 0, slots := 0, locals := 110 } : Room) s m args below meth c H locs 0 0 Q (F0 m 62 ls []) := by
              intro n
              induction n with
              | zero => intro k q9 hi62_0 hi62_1; exact absurd hi62_1 (by omega)
              | succ n ih_62 =>
                intro k q9 hi62_0 hi62_1 H locs ls hP hD hS hl
                refine lv_iload hx hb dX9_whatWas_62 (lv_at hl 0 rfl) ?_
                refine lv_iload_n hx hb dX9_whatWas_64 rfl (lv_at hl 5 rfl) ?_
                refine lv_if_ne (tgt := 73) hx hb dX9_whatWas_65 (by decide) (fun c_20 => ?_) (fun c_20 => ?_)
                · skip
                  refine lv_bipush (v := 10) hx hb dX9_whatWas_73 (by decide) ?_
                  refine lv_icmp_ge (tgt := 198) hx hb dX9_whatWas_75 (by decide) (fun c_21 => ?_) (fun c_21 => ?_)
                  · skip
                    have g_21 := (nI_leI (by omega) (by omega)).mp (show nI k ≥ nI 10 from c_21)
                    refine lv_iload hx hb dX9_whatWas_198 (lv_at hl 1 rfl) ?_
                    have hE : eS (tB r t) (-1) (eS (inR w 0 1) (-2) (eS (decide (rn = nI (mny r))) (-3) 0)) = 0 := by rw [eS_t (show tB r t = true from (by first | exact bI_n0 c_2 | exact bI_0.mp c_2)), eS_t (show inR w 0 1 = true from (by first | exact bI_n0 c_4 | exact bI_0.mp c_4)), eS_t (decide_eq_true c_5)]
                    have hP : va_P G.1 vwCl (wM G am ho rn ln pl sd lt ro (sel (eS (tB r t) (-1) (eS (inR w 0 1) (-2) (eS (decide (rn = nI (mny r))) (-3) 0))) rf (rfU rf (eS (tB r t) (-1) (eS (inR w 0 1) (-2) (eS (decide (rn = nI (mny r))) (-3) 0))))) nb ++ [(am 1, .inl (G.2 0, 54, .inl (row r)))] ++ [(am 2, .inl (G.2 0, 54, .inl (row q9)))] ++ [(am 3, .inl (G.2 0, 54, .inl (row r2)))] ++ [(am 4, .inl (G.2 0, 54, .inl (row r4)))]) H := by rw [hE]; simp only [sel_0 rfl]; exact hP
                    have hD : va_D A (wM G am ho rn ln pl sd lt ro (sel (eS (tB r t) (-1) (eS (inR w 0 1) (-2) (eS (decide (rn = nI (mny r))) (-3) 0))) rf (rfU rf (eS (tB r t) (-1) (eS (inR w 0 1) (-2) (eS (decide (rn = nI (mny r))) (-3) 0))))) nb ++ [(am 1, .inl (G.2 0, 54, .inl (row r)))] ++ [(am 2, .inl (G.2 0, 54, .inl (row q9)))] ++ [(am 3, .inl (G.2 0, 54, .inl (row r2)))] ++ [(am 4, .inl (G.2 0, 54, .inl (row r4)))]) := by rw [hE]; simp only [sel_0 rfl]; exact hD
                    refine hret _ _ _ _ _ _ (bs (fun j => isRw ro (pFit r (ix t) 1 j)) k) q9 dX9_whatWas_200 ?_ hP hD hS (Nat.le_of_ble_eq_true rfl) (Nat.le_of_ble_eq_true rfl)
                    rw [hE, sel_0 rfl]
                    rw [show k = 10 by omega]
                    exact pFits_1 r ro (ix t)
                  · skip
                    have g_21 := mt (nI_leI (by omega) (by omega)).mpr (show ¬ (nI k ≥ nI 10) from c_21)
                    refine lv_iconst (v := 1) hx hb dX9_whatWas_78 (by decide) ?_
                    refine lv_istore (lv' := [(6, .int 1), (5, .int (nI k)), (4, .int (bs (fun j => isRw ro (pFit r (ix t) 1 j)) k)), (3, .int 0), (0, .ref (am 0)), (1, .int (nI (ix t))), (2, .int 1)]) hx hb dX9_whatWas_79 hl (by decide) rfl (fun ls hl => ?_)
                    refine lv_iconst (v := 0) hx hb dX9_whatWas_81 (by decide) ?_
                    refine lv_istore (lv' := [(7, .int 0), (6, .int 1), (5, .int (nI k)), (4, .int (bs (fun j => isRw ro (pFit r (ix t) 1 j)) k)), (3, .int 0), (0, .ref (am 0)), (1, .int (nI (ix t))), (2, .int 1)]) hx hb dX9_whatWas_82 hl (by decide) rfl (fun ls hl => ?_)
                    have loop_84 : ∀ (n : Nat) (a : Nat) (q8 : Rw), (a ≤ mny r) → (mny r < a + n) → ∀ (H : Heap) (locs : List Loc) (ls : Array Slot), va_P G.1 vwCl (wM G am ho rn ln pl sd lt ro rf nb ++ [(am 1, .inl (G.2 0, 54, .inl (row r)))] ++ [(am 2, .inl (G.2 0, 54, .inl (row q8)))] ++ [(am 3, .inl (G.2 0, 54, .inl (row r2)))] ++ [(am 4, .inl (G.2 0, 54, .inl (row r4)))]) H → va_D A (wM G am ho rn ln pl sd lt ro rf nb ++ [(am 1, .inl (G.2 0, 54, .inl (row r)))] ++ [(am 2, .inl (G.2 0, 54, .inl (row q8)))] ++ [(am 3, .inl (G.2 0, 54, .inl (row r2)))] ++ [(am 4, .inl (G.2 0, 54, .inl (row r4)))]) → va_S A s.heap H locs → lv_has ls 9 [(7, .int (nI a)), (6, .int (bI (pAll (wwP r ro (ix t) 1 k) a))), (5, .int (nI k)), (4, .int (bs (fun j => isRw ro (pFit r (ix t) 1 j)) k)), (3, .int 0), (0, .ref (am 0)), (1, .int (nI (ix t))), (2, .int 1)] → W p l e ({ frames := 5, cells := 0, slots := 0, locals := 110 } : Room) s m args below meth c H locs 0 0 Q (F0 m 84 ls []) := by
                      intro n
                      induction n with
                      | zero => intro a q8 hi84_0 hi84_1; exact absurd hi84_1 (by omega)
                      | succ n ih_84 =>
                        intro a q8 hi84_0 hi84_1 H locs ls hP hD hS hl
                        refine lv_iload hx hb dX9_whatWas_84 (lv_at hl 0 rfl) ?_
                        refine lv_aload_n hx hb dX9_whatWas_86 rfl (lv_at hl 5 rfl) ?_
                        refine va_get (D := G.1) (ci := 8) (v := .ref (am 1)) (C := RX9) (T := TX9) (N := 13) hx hb hts in_X9 hown hK.1 hP 0 rfl rfl 0 (by decide) (hts _ q1162) (fun _ h9 => h9) rfl dX9_whatWas_87 ?_
                        refine lv_iconst (v := 0) hx hb dX9_whatWas_90 (by decide) ?_
                        refine x_ialdn (k := 0) hx hb hK.1 hP 5 0 rfl rfl (by decide) (by decide) (v := nI (mny r)) (hr0) dX9_whatWas_91 ?_
                        refine lv_icmp_ge (tgt := 174) hx hb dX9_whatWas_92 (by decide) (fun c_22 => ?_) (fun c_22 => ?_)
                        · skip
                          have g_22 := (nI_leI (by omega) (by omega)).mp c_22
                          have eAll : pAll (wwP r ro (ix t) 1 k) a = isRw ro (pFit r (ix t) 1 k) := by rw [← isRw_e, show mny r = a by omega]
                          rw [eAll] at hl
                          refine lv_iload hx hb dX9_whatWas_174 (lv_at hl 3 rfl) ?_
                          refine lv_iload hx hb dX9_whatWas_176 (lv_at hl 1 rfl) ?_
                          refine lv_if_eq (tgt := 188) hx hb dX9_whatWas_178 (by decide) (fun c_23 => ?_) (fun c_23 => ?_)
                          · skip
                            refine lv_iconst (v := 0) hx hb dX9_whatWas_188 (by decide) ?_
                            refine x_ior hx hb dX9_whatWas_189 (v := bs (fun j => isRw ro (pFit r (ix t) 1 j)) (k + 1)) (bs_f (show isRw ro (pFit r (ix t) 1 k) = false from (by first | exact bI_n0 c_23 | exact bI_0.mp c_23))) ?_
                            refine lv_istore (lv' := [(4, .int (bs (fun j => isRw ro (pFit r (ix t) 1 j)) (k + 1))), (7, .int (nI a)), (6, .int (bI (isRw ro (pFit r (ix t) 1 k)))), (5, .int (nI k)), (3, .int 0), (0, .ref (am 0)), (1, .int (nI (ix t))), (2, .int 1)]) hx hb dX9_whatWas_190 hl (by decide) rfl (fun ls hl => ?_)
                            refine lv_iinc (v := nI (k + 1)) (lv' := [(5, .int (nI (k + 1))), (4, .int (bs (fun j => isRw ro (pFit r (ix t) 1 j)) (k + 1))), (7, .int (nI a)), (6, .int (bI (isRw ro (pFit r (ix t) 1 k)))), (3, .int 0), (0, .ref (am 0)), (1, .int (nI (ix t))), (2, .int 1)]) hx hb dX9_whatWas_192 hl (k := 3) rfl (x_inc1 _) (by decide) rfl (fun ls hl => ?_)
                            refine lv_goto (tgt := 62) hx hb dX9_whatWas_195 (by decide) ?_
                            exact ih_62 (k + 1) _ (by omega) (by omega) _ _ _ hP hD hS (lv_sub hl [0, 1, 4, 5, 6, 7] rfl)
                          · skip
                            refine lv_iconst (v := 1) hx hb dX9_whatWas_181 (by decide) ?_
                            refine lv_iload hx hb dX9_whatWas_182 (lv_at hl 2 rfl) ?_
                            refine x_ishl hx hb dX9_whatWas_184 (v := b1 k) rfl ?_
                            refine lv_goto (tgt := 189) hx hb dX9_whatWas_185 (by decide) ?_
                            refine x_ior hx hb dX9_whatWas_189 (v := bs (fun j => isRw ro (pFit r (ix t) 1 j)) (k + 1)) (bs_t (show isRw ro (pFit r (ix t) 1 k) = true from (by first | exact bI_n0 c_23 | exact bI_0.mp c_23))) ?_
                            refine lv_istore (lv' := [(4, .int (bs (fun j => isRw ro (pFit r (ix t) 1 j)) (k + 1))), (7, .int (nI a)), (6, .int (bI (isRw ro (pFit r (ix t) 1 k)))), (5, .int (nI k)), (3, .int 0), (0, .ref (am 0)), (1, .int (nI (ix t))), (2, .int 1)]) hx hb dX9_whatWas_190 hl (by decide) rfl (fun ls hl => ?_)
                            refine lv_iinc (v := nI (k + 1)) (lv' := [(5, .int (nI (k + 1))), (4, .int (bs (fun j => isRw ro (pFit r (ix t) 1 j)) (k + 1))), (7, .int (nI a)), (6, .int (bI (isRw ro (pFit r (ix t) 1 k)))), (3, .int 0), (0, .ref (am 0)), (1, .int (nI (ix t))), (2, .int 1)]) hx hb dX9_whatWas_192 hl (k := 3) rfl (x_inc1 _) (by decide) rfl (fun ls hl => ?_)
                            refine lv_goto (tgt := 62) hx hb dX9_whatWas_195 (by decide) ?_
                            exact ih_62 (k + 1) _ (by omega) (by omega) _ _ _ hP hD hS (lv_sub hl [0, 1, 4, 5, 6, 7] rfl)
                        · skip
                          have g_22 := mt (nI_leI (by omega) (by omega)).mpr c_22
                          refine lv_iload hx hb dX9_whatWas_95 (lv_at hl 1 rfl) ?_
                          refine lv_if_eq (tgt := 174) hx hb dX9_whatWas_97 (by decide) (fun c_24 => ?_) (fun c_24 => ?_)
                          · skip
                            have eAll : pAll (wwP r ro (ix t) 1 k) a = isRw ro (pFit r (ix t) 1 k) := by have h8 : pAll (wwP r ro (ix t) 1 k) a = false := (by first | exact bI_n0 c_24 | exact bI_0.mp c_24); rw [← isRw_e, h8, pAll_le (show a ≤ mny r by omega) h8]
                            rw [eAll] at hl
                            refine lv_iload hx hb dX9_whatWas_174 (lv_at hl 3 rfl) ?_
                            refine lv_iload hx hb dX9_whatWas_176 (lv_at hl 1 rfl) ?_
                            refine lv_if_eq (tgt := 188) hx hb dX9_whatWas_178 (by decide) (fun c_25 => ?_) (fun c_25 => ?_)
                            · skip
                              refine lv_iconst (v := 0) hx hb dX9_whatWas_188 (by decide) ?_
                              refine x_ior hx hb dX9_whatWas_189 (v := bs (fun j => isRw ro (pFit r (ix t) 1 j)) (k + 1)) (bs_f (show isRw ro (pFit r (ix t) 1 k) = false from (by first | exact bI_n0 c_25 | exact bI_0.mp c_25))) ?_
                              refine lv_istore (lv' := [(4, .int (bs (fun j => isRw ro (pFit r (ix t) 1 j)) (k + 1))), (7, .int (nI a)), (6, .int (bI (isRw ro (pFit r (ix t) 1 k)))), (5, .int (nI k)), (3, .int 0), (0, .ref (am 0)), (1, .int (nI (ix t))), (2, .int 1)]) hx hb dX9_whatWas_190 hl (by decide) rfl (fun ls hl => ?_)
                              refine lv_iinc (v := nI (k + 1)) (lv' := [(5, .int (nI (k + 1))), (4, .int (bs (fun j => isRw ro (pFit r (ix t) 1 j)) (k + 1))), (7, .int (nI a)), (6, .int (bI (isRw ro (pFit r (ix t) 1 k)))), (3, .int 0), (0, .ref (am 0)), (1, .int (nI (ix t))), (2, .int 1)]) hx hb dX9_whatWas_192 hl (k := 3) rfl (x_inc1 _) (by decide) rfl (fun ls hl => ?_)
                              refine lv_goto (tgt := 62) hx hb dX9_whatWas_195 (by decide) ?_
                              exact ih_62 (k + 1) _ (by omega) (by omega) _ _ _ hP hD hS (lv_sub hl [0, 1, 4, 5, 6, 7] rfl)
                            · skip
                              refine lv_iconst (v := 1) hx hb dX9_whatWas_181 (by decide) ?_
                              refine lv_iload hx hb dX9_whatWas_182 (lv_at hl 2 rfl) ?_
                              refine x_ishl hx hb dX9_whatWas_184 (v := b1 k) rfl ?_
                              refine lv_goto (tgt := 189) hx hb dX9_whatWas_185 (by decide) ?_
                              refine x_ior hx hb dX9_whatWas_189 (v := bs (fun j => isRw ro (pFit r (ix t) 1 j)) (k + 1)) (bs_t (show isRw ro (pFit r (ix t) 1 k) = true from (by first | exact bI_n0 c_25 | exact bI_0.mp c_25))) ?_
                              refine lv_istore (lv' := [(4, .int (bs (fun j => isRw ro (pFit r (ix t) 1 j)) (k + 1))), (7, .int (nI a)), (6, .int (bI (isRw ro (pFit r (ix t) 1 k)))), (5, .int (nI k)), (3, .int 0), (0, .ref (am 0)), (1, .int (nI (ix t))), (2, .int 1)]) hx hb dX9_whatWas_190 hl (by decide) rfl (fun ls hl => ?_)
                              refine lv_iinc (v := nI (k + 1)) (lv' := [(5, .int (nI (k + 1))), (4, .int (bs (fun j => isRw ro (pFit r (ix t) 1 j)) (k + 1))), (7, .int (nI a)), (6, .int (bI (isRw ro (pFit r (ix t) 1 k)))), (3, .int 0), (0, .ref (am 0)), (1, .int (nI (ix t))), (2, .int 1)]) hx hb dX9_whatWas_192 hl (k := 3) rfl (x_inc1 _) (by decide) rfl (fun ls hl => ?_)
                              refine lv_goto (tgt := 62) hx hb dX9_whatWas_195 (by decide) ?_
                              exact ih_62 (k + 1) _ (by omega) (by omega) _ _ _ hP hD hS (lv_sub hl [0, 1, 4, 5, 6, 7] rfl)
                          · skip
                            refine lv_aload_n hx hb dX9_whatWas_100 rfl (lv_at hl 5 rfl) ?_
                            refine va_get (D := G.1) (ci := 8) (v := .ref (am 1)) (C := RX9) (T := TX9) (N := 13) hx hb hts in_X9 hown hK.1 hP 0 rfl rfl 0 (by decide) (hts _ q1162) (fun _ h9 => h9) rfl dX9_whatWas_101 ?_
                            refine lv_aload_n hx hb dX9_whatWas_104 rfl (lv_at hl 5 rfl) ?_
                            refine va_get (D := G.1) (ci := 8) (v := .ref (am 2)) (C := RX9) (T := TX9) (N := 13) hx hb hts in_X9 hown hK.1 hP 0 rfl rfl 1 (by decide) (hts _ q1163) (fun _ h9 => h9) rfl dX9_whatWas_105 ?_
                            refine x_Sv (wN := fun _ => (wM G am ho rn ln pl sd lt ro rf nb ++ [(am 1, .inl (G.2 0, 54, .inl (row r)))] ++ [(am 2, .inl (G.2 0, 54, .inl (row r)))] ++ [(am 3, .inl (G.2 0, 54, .inl (row r2)))] ++ [(am 4, .inl (G.2 0, 54, .inl (row r4)))])) ⟨C0, hK, hP, hD, hS, hA⟩ ((m9_copies l G (am 1) (am 2) (row r) (row q8))) (va_cwS 2 hts (lw_S q1236 q1237 q95 q1238) rfl rfl rfl (by decide +kernel) ⟨Nat.le_of_ble_eq_true rfl, Nat.le_of_ble_eq_true rfl⟩) [5, 6] [0, 2, 4, 6, 8, 1, 3, 14, 16] rfl (fun _ => rfl) rfl rfl hl.1 rfl (Nat.le_of_ble_eq_true rfl) dX9_whatWas_108 ⟨(Nat.le_of_ble_eq_true rfl), (Nat.le_of_ble_eq_true rfl)⟩ (fun u_26 H locs hw_26 hP hD hS => ?_)
                            have hP : va_P G.1 vwCl (wM G am ho rn ln pl sd lt ro rf nb ++ [(am 1, .inl (G.2 0, 54, .inl (row r)))] ++ [(am 2, .inl (G.2 0, 54, .inl (row r)))] ++ [(am 3, .inl (G.2 0, 54, .inl (row r2)))] ++ [(am 4, .inl (G.2 0, 54, .inl (row r4)))]) H := hP
                            have hD : va_D A (wM G am ho rn ln pl sd lt ro rf nb ++ [(am 1, .inl (G.2 0, 54, .inl (row r)))] ++ [(am 2, .inl (G.2 0, 54, .inl (row r)))] ++ [(am 3, .inl (G.2 0, 54, .inl (row r2)))] ++ [(am 4, .inl (G.2 0, 54, .inl (row r4)))]) := hD
                            refine lv_aload_n hx hb dX9_whatWas_111 rfl (lv_at hl 5 rfl) ?_
                            refine va_get (D := G.1) (ci := 8) (v := .ref (am 2)) (C := RX9) (T := TX9) (N := 13) hx hb hts in_X9 hown hK.1 hP 0 rfl rfl 1 (by decide) (hts _ q1163) (fun _ h9 => h9) rfl dX9_whatWas_112 ?_
                            refine lv_iload_n hx hb dX9_whatWas_115 rfl (lv_at hl 6 rfl) ?_
                            refine lv_iload_n hx hb dX9_whatWas_116 rfl (lv_at hl 7 rfl) ?_
                            refine lv_if_ne (tgt := 124) hx hb dX9_whatWas_117 (by decide) (fun c_27 => ?_) (fun c_27 => ?_)
                            · skip
                              refine lv_iconst (v := 1) hx hb dX9_whatWas_124 (by decide) ?_
                              refine x_Si (wN := fun _ => (wM G am ho rn ln pl sd lt ro rf nb ++ [(am 1, .inl (G.2 0, 54, .inl (row r)))] ++ [(am 2, .inl (G.2 0, 54, .inl (row r)))] ++ [(am 3, .inl (G.2 0, 54, .inl (row r2)))] ++ [(am 4, .inl (G.2 0, 54, .inl (row r4)))])) ⟨C0, hK, hP, hD, hS, hA⟩ ((m9_of l G (ix t) 1)) (va_cwS 2 hts (lw_S q1254 q1255 q95 q1256) rfl rfl rfl (by decide +kernel) ⟨Nat.le_of_ble_eq_true rfl, Nat.le_of_ble_eq_true rfl⟩) [] [0, 2, 4, 6, 8, 10, 12, 14, 16] rfl (fun _ => rfl) rfl rfl hl.1 rfl (Nat.le_of_ble_eq_true rfl) dX9_whatWas_125 ⟨(Nat.le_of_ble_eq_true rfl), (Nat.le_of_ble_eq_true rfl)⟩ (fun r_28 u_28 H locs hw_28 hP hD hS => ?_)
                              have hw_28 : (nI (4 + 5 * (ix t) + 1) : Int32) = r_28 := hw_28.symm
                              subst hw_28
                              refine lv_iload hx hb dX9_whatWas_128 (lv_at hl 2 rfl) ?_
                              refine x_iastn (k := (4 + 5 * (ix t) + 1)) hx hb hK.1 hP hD hS 6 0 rfl rfl (by omega) (by decide) (g := row (sf r 1 (upd (r 1) (ix t) (nI k)))) (row_up _ (by decide) _) dX9_whatWas_130 (fun H locs hP hD hS => ?_)
                              have hP : va_P G.1 vwCl (wM G am ho rn ln pl sd lt ro rf nb ++ [(am 1, .inl (G.2 0, 54, .inl (row r)))] ++ [(am 2, .inl (G.2 0, 54, .inl (row (sf r 1 (upd (r 1) (ix t) (nI k))))))] ++ [(am 3, .inl (G.2 0, 54, .inl (row r2)))] ++ [(am 4, .inl (G.2 0, 54, .inl (row r4)))]) H := hP
                              have hD : va_D A (wM G am ho rn ln pl sd lt ro rf nb ++ [(am 1, .inl (G.2 0, 54, .inl (row r)))] ++ [(am 2, .inl (G.2 0, 54, .inl (row (sf r 1 (upd (r 1) (ix t) (nI k))))))] ++ [(am 3, .inl (G.2 0, 54, .inl (row r2)))] ++ [(am 4, .inl (G.2 0, 54, .inl (row r4)))]) := hD
                              have hP : va_P G.1 vwCl (wM G am ho rn ln pl sd lt ro rf nb ++ [(am 1, .inl (G.2 0, 54, .inl (row r)))] ++ [(am 2, .inl (G.2 0, 54, .inl (row (pFit r (ix t) 1 k))))] ++ [(am 3, .inl (G.2 0, 54, .inl (row r2)))] ++ [(am 4, .inl (G.2 0, 54, .inl (row r4)))]) H := by rw [pFit_1]; exact hP
                              have hD : va_D A (wM G am ho rn ln pl sd lt ro rf nb ++ [(am 1, .inl (G.2 0, 54, .inl (row r)))] ++ [(am 2, .inl (G.2 0, 54, .inl (row (pFit r (ix t) 1 k))))] ++ [(am 3, .inl (G.2 0, 54, .inl (row r2)))] ++ [(am 4, .inl (G.2 0, 54, .inl (row r4)))]) := by rw [pFit_1]; exact hD
                              refine lv_aload_n hx hb dX9_whatWas_131 rfl (lv_at hl 5 rfl) ?_
                              refine lv_iload hx hb dX9_whatWas_132 (lv_at hl 0 rfl) ?_
                              refine x_Vi (wN := fun u_29 => (wM G am ho rn ln pl sd lt ro rf nb ++ [(am 1, .inl (G.2 0, 54, .inl (row r)))] ++ [(am 2, .inl (G.2 0, 54, .inl (row u_29)))] ++ [(am 3, .inl (G.2 0, 54, .inl (row r2)))] ++ [(am 4, .inl (G.2 0, 54, .inl (row r4)))])) ⟨C0, hK, hP, hD, hS, hA⟩ 0 rfl (ci := 8) rfl rfl ((m9_fallsIn l G am r (pFit r (ix t) 1 k) r2 r4 ho rn ln pl sd lt ro rf nb hr hp (hr.fit1 (by omega)) a (by omega))) (cwV 1 hts (lw_V q1345 q1347 qs78 q95 q1348) rfl rfl rfl (by decide +kernel) ⟨Nat.le_of_ble_eq_true rfl, Nat.le_of_ble_eq_true rfl⟩) [0, 1, 2, 3, 4, 5, 6, 7, 8] [1, 3, 5, 7, 9, 11, 13, 15, 17] rfl (fun _ => rfl) rfl rfl hl.1 rfl (Nat.le_of_ble_eq_true rfl) dX9_whatWas_134 ⟨(Nat.le_of_ble_eq_true rfl), (Nat.le_of_ble_eq_true rfl)⟩ (fun r_29 u_29 H locs hw_29 hP hD hS => ?_)
                              have hw_29 : (pFls (pFit r (ix t) 1 k) a : Int32) = r_29 := hw_29.symm
                              subst hw_29
                              have hP : va_P G.1 vwCl (wM G am ho rn ln pl sd lt ro rf nb ++ [(am 1, .inl (G.2 0, 54, .inl (row r)))] ++ [(am 2, .inl (G.2 0, 54, .inl (row u_29)))] ++ [(am 3, .inl (G.2 0, 54, .inl (row r2)))] ++ [(am 4, .inl (G.2 0, 54, .inl (row r4)))]) H := hP
                              have hD : va_D A (wM G am ho rn ln pl sd lt ro rf nb ++ [(am 1, .inl (G.2 0, 54, .inl (row r)))] ++ [(am 2, .inl (G.2 0, 54, .inl (row u_29)))] ++ [(am 3, .inl (G.2 0, 54, .inl (row r2)))] ++ [(am 4, .inl (G.2 0, 54, .inl (row r4)))]) := hD
                              refine lv_istore (lv' := [(8, .int (pFls (pFit r (ix t) 1 k) a)), (7, .int (nI a)), (6, .int (bI (pAll (wwP r ro (ix t) 1 k) a))), (5, .int (nI k)), (4, .int (bs (fun j => isRw ro (pFit r (ix t) 1 j)) k)), (3, .int 0), (0, .ref (am 0)), (1, .int (nI (ix t))), (2, .int 1)]) hx hb dX9_whatWas_137 hl (by decide) rfl (fun ls hl => ?_)
                              refine lv_iload hx hb dX9_whatWas_139 (lv_at hl 0 rfl) ?_
                              refine lv_if_ge (tgt := 149) hx hb dX9_whatWas_141 (by decide) (fun c_30 => ?_) (fun c_30 => ?_)
                              · skip
                                refine lv_iload hx hb dX9_whatWas_149 (lv_at hl 0 rfl) ?_
                                refine lv_aload_n hx hb dX9_whatWas_151 rfl (lv_at hl 6 rfl) ?_
                                refine va_get (D := G.1) (ci := 8) (v := .ref (am 6)) (C := RX9) (T := TX9) (N := 13) hx hb hts in_X9 hown hK.1 hP 0 rfl rfl 6 (by decide) (hts _ q1168) (fun _ h9 => h9) rfl dX9_whatWas_152 ?_
                                refine lv_iload hx hb dX9_whatWas_155 (lv_at hl 1 rfl) ?_
                                refine x_ialdn (k := a) hx hb hK.1 hP 2 0 rfl rfl (by omega) (by decide) (v := ro a) rfl dX9_whatWas_157 ?_
                                refine lv_icmp_ne (tgt := 165) hx hb dX9_whatWas_158 (by decide) (fun c_31 => ?_) (fun c_31 => ?_)
                                · skip
                                  refine lv_iconst (v := 0) hx hb dX9_whatWas_165 (by decide) ?_
                                  rw [show (0 : Int32) = bI (pAll (wwP r ro (ix t) 1 k) (a + 1)) from (pAll_z (decide_eq_false (by rw [if_neg (Int32.not_lt.mpr c_30)]; exact c_31)))]
                                  refine lv_istore (lv' := [(6, .int (bI (pAll (wwP r ro (ix t) 1 k) (a + 1)))), (8, .int (pFls (pFit r (ix t) 1 k) a)), (7, .int (nI a)), (5, .int (nI k)), (4, .int (bs (fun j => isRw ro (pFit r (ix t) 1 j)) k)), (3, .int 0), (0, .ref (am 0)), (1, .int (nI (ix t))), (2, .int 1)]) hx hb dX9_whatWas_166 hl (by decide) rfl (fun ls hl => ?_)
                                  refine lv_iinc (v := nI (a + 1)) (lv' := [(7, .int (nI (a + 1))), (6, .int (bI (pAll (wwP r ro (ix t) 1 k) (a + 1)))), (8, .int (pFls (pFit r (ix t) 1 k) a)), (5, .int (nI k)), (4, .int (bs (fun j => isRw ro (pFit r (ix t) 1 j)) k)), (3, .int 0), (0, .ref (am 0)), (1, .int (nI (ix t))), (2, .int 1)]) hx hb dX9_whatWas_168 hl (k := 2) rfl (x_inc1 _) (by decide) rfl (fun ls hl => ?_)
                                  refine lv_goto (tgt := 84) hx hb dX9_whatWas_171 (by decide) ?_
                                  exact ih_84 (a + 1) _ (by omega) (by omega) _ _ _ hP hD hS (lv_sub hl [0, 1, 3, 4, 5, 6, 7, 8] rfl)
                                · skip
                                  refine lv_iconst (v := 1) hx hb dX9_whatWas_161 (by decide) ?_
                                  refine lv_goto (tgt := 166) hx hb dX9_whatWas_162 (by decide) ?_
                                  rw [show (1 : Int32) = bI (pAll (wwP r ro (ix t) 1 k) (a + 1)) from (pAll_sT (show pAll (wwP r ro (ix t) 1 k) a = true from (by first | exact bI_n0 c_24 | exact bI_0.mp c_24)) (decide_eq_true (by rw [if_neg (Int32.not_lt.mpr c_30)]; exact c_31)))]
                                  refine lv_istore (lv' := [(6, .int (bI (pAll (wwP r ro (ix t) 1 k) (a + 1)))), (8, .int (pFls (pFit r (ix t) 1 k) a)), (7, .int (nI a)), (5, .int (nI k)), (4, .int (bs (fun j => isRw ro (pFit r (ix t) 1 j)) k)), (3, .int 0), (0, .ref (am 0)), (1, .int (nI (ix t))), (2, .int 1)]) hx hb dX9_whatWas_166 hl (by decide) rfl (fun ls hl => ?_)
                                  refine lv_iinc (v := nI (a + 1)) (lv' := [(7, .int (nI (a + 1))), (6, .int (bI (pAll (wwP r ro (ix t) 1 k) (a + 1)))), (8, .int (pFls (pFit r (ix t) 1 k) a)), (5, .int (nI k)), (4, .int (bs (fun j => isRw ro (pFit r (ix t) 1 j)) k)), (3, .int 0), (0, .ref (am 0)), (1, .int (nI (ix t))), (2, .int 1)]) hx hb dX9_whatWas_168 hl (k := 2) rfl (x_inc1 _) (by decide) rfl (fun ls hl => ?_)
                                  refine lv_goto (tgt := 84) hx hb dX9_whatWas_171 (by decide) ?_
                                  exact ih_84 (a + 1) _ (by omega) (by omega) _ _ _ hP hD hS (lv_sub hl [0, 1, 3, 4, 5, 6, 7, 8] rfl)
                              · skip
                                refine lv_bipush (v := 99) hx hb dX9_whatWas_144 (by decide) ?_
                                refine lv_goto (tgt := 151) hx hb dX9_whatWas_146 (by decide) ?_
                                refine lv_aload_n hx hb dX9_whatWas_151 rfl (lv_at hl 6 rfl) ?_
                                refine va_get (D := G.1) (ci := 8) (v := .ref (am 6)) (C := RX9) (T := TX9) (N := 13) hx hb hts in_X9 hown hK.1 hP 0 rfl rfl 6 (by decide) (hts _ q1168) (fun _ h9 => h9) rfl dX9_whatWas_152 ?_
                                refine lv_iload hx hb dX9_whatWas_155 (lv_at hl 1 rfl) ?_
                                refine x_ialdn (k := a) hx hb hK.1 hP 2 0 rfl rfl (by omega) (by decide) (v := ro a) rfl dX9_whatWas_157 ?_
                                refine lv_icmp_ne (tgt := 165) hx hb dX9_whatWas_158 (by decide) (fun c_32 => ?_) (fun c_32 => ?_)
                                · skip
                                  refine lv_iconst (v := 0) hx hb dX9_whatWas_165 (by decide) ?_
                                  rw [show (0 : Int32) = bI (pAll (wwP r ro (ix t) 1 k) (a + 1)) from (pAll_z (decide_eq_false (by rw [if_pos (Int32.not_le.mp c_30)]; exact c_32)))]
                                  refine lv_istore (lv' := [(6, .int (bI (pAll (wwP r ro (ix t) 1 k) (a + 1)))), (8, .int (pFls (pFit r (ix t) 1 k) a)), (7, .int (nI a)), (5, .int (nI k)), (4, .int (bs (fun j => isRw ro (pFit r (ix t) 1 j)) k)), (3, .int 0), (0, .ref (am 0)), (1, .int (nI (ix t))), (2, .int 1)]) hx hb dX9_whatWas_166 hl (by decide) rfl (fun ls hl => ?_)
                                  refine lv_iinc (v := nI (a + 1)) (lv' := [(7, .int (nI (a + 1))), (6, .int (bI (pAll (wwP r ro (ix t) 1 k) (a + 1)))), (8, .int (pFls (pFit r (ix t) 1 k) a)), (5, .int (nI k)), (4, .int (bs (fun j => isRw ro (pFit r (ix t) 1 j)) k)), (3, .int 0), (0, .ref (am 0)), (1, .int (nI (ix t))), (2, .int 1)]) hx hb dX9_whatWas_168 hl (k := 2) rfl (x_inc1 _) (by decide) rfl (fun ls hl => ?_)
                                  refine lv_goto (tgt := 84) hx hb dX9_whatWas_171 (by decide) ?_
                                  exact ih_84 (a + 1) _ (by omega) (by omega) _ _ _ hP hD hS (lv_sub hl [0, 1, 3, 4, 5, 6, 7, 8] rfl)
                                · skip
                                  refine lv_iconst (v := 1) hx hb dX9_whatWas_161 (by decide) ?_
                                  refine lv_goto (tgt := 166) hx hb dX9_whatWas_162 (by decide) ?_
                                  rw [show (1 : Int32) = bI (pAll (wwP r ro (ix t) 1 k) (a + 1)) from (pAll_sT (show pAll (wwP r ro (ix t) 1 k) a = true from (by first | exact bI_n0 c_24 | exact bI_0.mp c_24)) (decide_eq_true (by rw [if_pos (Int32.not_le.mp c_30)]; exact c_32)))]
                                  refine lv_istore (lv' := [(6, .int (bI (pAll (wwP r ro (ix t) 1 k) (a + 1)))), (8, .int (pFls (pFit r (ix t) 1 k) a)), (7, .int (nI a)), (5, .int (nI k)), (4, .int (bs (fun j => isRw ro (pFit r (ix t) 1 j)) k)), (3, .int 0), (0, .ref (am 0)), (1, .int (nI (ix t))), (2, .int 1)]) hx hb dX9_whatWas_166 hl (by decide) rfl (fun ls hl => ?_)
                                  refine lv_iinc (v := nI (a + 1)) (lv' := [(7, .int (nI (a + 1))), (6, .int (bI (pAll (wwP r ro (ix t) 1 k) (a + 1)))), (8, .int (pFls (pFit r (ix t) 1 k) a)), (5, .int (nI k)), (4, .int (bs (fun j => isRw ro (pFit r (ix t) 1 j)) k)), (3, .int 0), (0, .ref (am 0)), (1, .int (nI (ix t))), (2, .int 1)]) hx hb dX9_whatWas_168 hl (k := 2) rfl (x_inc1 _) (by decide) rfl (fun ls hl => ?_)
                                  refine lv_goto (tgt := 84) hx hb dX9_whatWas_171 (by decide) ?_
                                  exact ih_84 (a + 1) _ (by omega) (by omega) _ _ _ hP hD hS (lv_sub hl [0, 1, 3, 4, 5, 6, 7, 8] rfl)
                            · skip
                              exact absurd c_27 (by decide)
                    exact loop_84 (mny r + 1) 0 _ (by omega) (by omega) _ _ _ hP hD hS (lv_sub hl [0, 1, 2, 3, 4, 5, 6, 7] rfl)
                · skip
                  exact absurd c_20 (by decide)
            exact loop_62 11 0 _ (by omega) (by omega) _ _ _ hP hD hS (lv_sub hl [0, 1, 2, 3, 4, 5] rfl)
        · skip
          exact absurd c_6 (by decide)
      · skip
        refine lv_bipush (v := (-3)) hx hb dX9_whatWas_39 (by decide) ?_
        refine lv_goto (tgt := 45) hx hb dX9_whatWas_41 (by decide) ?_
        refine lv_istore_n (lv' := [(3, .int (-3)), (0, .ref (am 0)), (1, .int (nI (ix t))), (2, .int w)]) hx hb dX9_whatWas_45 rfl hl (by decide) rfl (fun ls hl => ?_)
        refine lv_iload_n hx hb dX9_whatWas_46 rfl (lv_at hl 0 rfl) ?_
        refine lv_if_eq (tgt := 56) hx hb dX9_whatWas_47 (by decide) (fun c_33 => ?_) (fun c_33 => ?_)
        · skip
          exact absurd c_33 (by decide)
        · skip
          refine lv_aload_n hx hb dX9_whatWas_50 rfl (lv_at hl 1 rfl) ?_
          refine lv_iload_n hx hb dX9_whatWas_51 rfl (lv_at hl 0 rfl) ?_
          refine x_Vi (wN := fun _ => (wM G am ho rn ln pl sd lt ro (rfU rf (-3)) nb ++ [(am 1, .inl (G.2 0, 54, .inl (row r)))] ++ [(am 2, .inl (G.2 0, 54, .inl (row rm)))] ++ [(am 3, .inl (G.2 0, 54, .inl (row r2)))] ++ [(am 4, .inl (G.2 0, 54, .inl (row r4)))])) ⟨C0, hK, hP, hD, hS, hA⟩ 0 rfl (ci := 8) rfl rfl ((m9_no l G am ho rn ln pl sd lt ro rf nb (-3) noOk_k.2.2.1)) (cwV 1 hts (lw_V q1206 q1208 qs66 q95 q1209) rfl rfl rfl (by decide +kernel) ⟨Nat.le_of_ble_eq_true rfl, Nat.le_of_ble_eq_true rfl⟩) [0, 1, 2, 3, 4] [1, 3, 5, 7, 9, 10, 12, 14, 16] rfl (fun _ => rfl) rfl rfl hl.1 rfl (Nat.le_of_ble_eq_true rfl) dX9_whatWas_52 ⟨(Nat.le_of_ble_eq_true rfl), (Nat.le_of_ble_eq_true rfl)⟩ (fun r_34 u_34 H locs hw_34 hP hD hS => ?_)
          have hw_34 : ((-3) : Int32) = r_34 := hw_34.symm
          subst hw_34
          have hP : va_P G.1 vwCl (wM G am ho rn ln pl sd lt ro (rfU rf (-3)) nb ++ [(am 1, .inl (G.2 0, 54, .inl (row r)))] ++ [(am 2, .inl (G.2 0, 54, .inl (row rm)))] ++ [(am 3, .inl (G.2 0, 54, .inl (row r2)))] ++ [(am 4, .inl (G.2 0, 54, .inl (row r4)))]) H := hP
          have hD : va_D A (wM G am ho rn ln pl sd lt ro (rfU rf (-3)) nb ++ [(am 1, .inl (G.2 0, 54, .inl (row r)))] ++ [(am 2, .inl (G.2 0, 54, .inl (row rm)))] ++ [(am 3, .inl (G.2 0, 54, .inl (row r2)))] ++ [(am 4, .inl (G.2 0, 54, .inl (row r4)))]) := hD
          have hE : eS (tB r t) (-1) (eS (inR w 0 1) (-2) (eS (decide (rn = nI (mny r))) (-3) 0)) = (-3) := by rw [eS_t (show tB r t = true from (by first | exact bI_n0 c_2 | exact bI_0.mp c_2)), eS_t (show inR w 0 1 = true from (by first | exact bI_n0 c_4 | exact bI_0.mp c_4)), eS_f (decide_eq_false (fun z => c_5 z))]
          have hne : ((-3) : Int32) ≠ 0 := (by decide)
          have hP : va_P G.1 vwCl (wM G am ho rn ln pl sd lt ro (sel (eS (tB r t) (-1) (eS (inR w 0 1) (-2) (eS (decide (rn = nI (mny r))) (-3) 0))) rf (rfU rf (eS (tB r t) (-1) (eS (inR w 0 1) (-2) (eS (decide (rn = nI (mny r))) (-3) 0))))) nb ++ [(am 1, .inl (G.2 0, 54, .inl (row r)))] ++ [(am 2, .inl (G.2 0, 54, .inl (row rm)))] ++ [(am 3, .inl (G.2 0, 54, .inl (row r2)))] ++ [(am 4, .inl (G.2 0, 54, .inl (row r4)))]) H := by rw [hE]; simp only [sel_n hne]; exact hP
          have hD : va_D A (wM G am ho rn ln pl sd lt ro (sel (eS (tB r t) (-1) (eS (inR w 0 1) (-2) (eS (decide (rn = nI (mny r))) (-3) 0))) rf (rfU rf (eS (tB r t) (-1) (eS (inR w 0 1) (-2) (eS (decide (rn = nI (mny r))) (-3) 0))))) nb ++ [(am 1, .inl (G.2 0, 54, .inl (row r)))] ++ [(am 2, .inl (G.2 0, 54, .inl (row rm)))] ++ [(am 3, .inl (G.2 0, 54, .inl (row r2)))] ++ [(am 4, .inl (G.2 0, 54, .inl (row r4)))]) := by rw [hE]; simp only [sel_n hne]; exact hD
          refine hret _ _ _ _ _ _ (-3) rm dX9_whatWas_55 ?_ hP hD hS (Nat.le_of_ble_eq_true rfl) (Nat.le_of_ble_eq_true rfl)
          rw [hE, sel_n hne]
    · skip
      refine lv_bipush (v := (-2)) hx hb dX9_whatWas_21 (by decide) ?_
      refine lv_goto (tgt := 45) hx hb dX9_whatWas_23 (by decide) ?_
      refine lv_istore_n (lv' := [(3, .int (-2)), (0, .ref (am 0)), (1, .int (nI (ix t))), (2, .int w)]) hx hb dX9_whatWas_45 rfl hl (by decide) rfl (fun ls hl => ?_)
      refine lv_iload_n hx hb dX9_whatWas_46 rfl (lv_at hl 0 rfl) ?_
      refine lv_if_eq (tgt := 56) hx hb dX9_whatWas_47 (by decide) (fun c_35 => ?_) (fun c_35 => ?_)
      · skip
        exact absurd c_35 (by decide)
      · skip
        refine lv_aload_n hx hb dX9_whatWas_50 rfl (lv_at hl 1 rfl) ?_
        refine lv_iload_n hx hb dX9_whatWas_51 rfl (lv_at hl 0 rfl) ?_
        refine x_Vi (wN := fun _ => (wM G am ho rn ln pl sd lt ro (rfU rf (-2)) nb ++ [(am 1, .inl (G.2 0, 54, .inl (row r)))] ++ [(am 2, .inl (G.2 0, 54, .inl (row rm)))] ++ [(am 3, .inl (G.2 0, 54, .inl (row r2)))] ++ [(am 4, .inl (G.2 0, 54, .inl (row r4)))])) ⟨C0, hK, hP, hD, hS, hA⟩ 0 rfl (ci := 8) rfl rfl ((m9_no l G am ho rn ln pl sd lt ro rf nb (-2) noOk_k.2.1)) (cwV 1 hts (lw_V q1206 q1208 qs66 q95 q1209) rfl rfl rfl (by decide +kernel) ⟨Nat.le_of_ble_eq_true rfl, Nat.le_of_ble_eq_true rfl⟩) [0, 1, 2, 3, 4] [1, 3, 5, 7, 9, 10, 12, 14, 16] rfl (fun _ => rfl) rfl rfl hl.1 rfl (Nat.le_of_ble_eq_true rfl) dX9_whatWas_52 ⟨(Nat.le_of_ble_eq_true rfl), (Nat.le_of_ble_eq_true rfl)⟩ (fun r_36 u_36 H locs hw_36 hP hD hS => ?_)
        have hw_36 : ((-2) : Int32) = r_36 := hw_36.symm
        subst hw_36
        have hP : va_P G.1 vwCl (wM G am ho rn ln pl sd lt ro (rfU rf (-2)) nb ++ [(am 1, .inl (G.2 0, 54, .inl (row r)))] ++ [(am 2, .inl (G.2 0, 54, .inl (row rm)))] ++ [(am 3, .inl (G.2 0, 54, .inl (row r2)))] ++ [(am 4, .inl (G.2 0, 54, .inl (row r4)))]) H := hP
        have hD : va_D A (wM G am ho rn ln pl sd lt ro (rfU rf (-2)) nb ++ [(am 1, .inl (G.2 0, 54, .inl (row r)))] ++ [(am 2, .inl (G.2 0, 54, .inl (row rm)))] ++ [(am 3, .inl (G.2 0, 54, .inl (row r2)))] ++ [(am 4, .inl (G.2 0, 54, .inl (row r4)))]) := hD
        have hE : eS (tB r t) (-1) (eS (inR w 0 1) (-2) (eS (decide (rn = nI (mny r))) (-3) 0)) = (-2) := by rw [eS_t (show tB r t = true from (by first | exact bI_n0 c_2 | exact bI_0.mp c_2)), eS_f (show inR w 0 1 = false from (by first | exact bI_n0 c_4 | exact bI_0.mp c_4))]
        have hne : ((-2) : Int32) ≠ 0 := (by decide)
        have hP : va_P G.1 vwCl (wM G am ho rn ln pl sd lt ro (sel (eS (tB r t) (-1) (eS (inR w 0 1) (-2) (eS (decide (rn = nI (mny r))) (-3) 0))) rf (rfU rf (eS (tB r t) (-1) (eS (inR w 0 1) (-2) (eS (decide (rn = nI (mny r))) (-3) 0))))) nb ++ [(am 1, .inl (G.2 0, 54, .inl (row r)))] ++ [(am 2, .inl (G.2 0, 54, .inl (row rm)))] ++ [(am 3, .inl (G.2 0, 54, .inl (row r2)))] ++ [(am 4, .inl (G.2 0, 54, .inl (row r4)))]) H := by rw [hE]; simp only [sel_n hne]; exact hP
        have hD : va_D A (wM G am ho rn ln pl sd lt ro (sel (eS (tB r t) (-1) (eS (inR w 0 1) (-2) (eS (decide (rn = nI (mny r))) (-3) 0))) rf (rfU rf (eS (tB r t) (-1) (eS (inR w 0 1) (-2) (eS (decide (rn = nI (mny r))) (-3) 0))))) nb ++ [(am 1, .inl (G.2 0, 54, .inl (row r)))] ++ [(am 2, .inl (G.2 0, 54, .inl (row rm)))] ++ [(am 3, .inl (G.2 0, 54, .inl (row r2)))] ++ [(am 4, .inl (G.2 0, 54, .inl (row r4)))]) := by rw [hE]; simp only [sel_n hne]; exact hD
        refine hret _ _ _ _ _ _ (-2) rm dX9_whatWas_55 ?_ hP hD hS (Nat.le_of_ble_eq_true rfl) (Nat.le_of_ble_eq_true rfl)
        rw [hE, sel_n hne]
  · skip
    refine lv_iconst (v := (-1)) hx hb dX9_whatWas_8 (by decide) ?_
    refine lv_goto (tgt := 45) hx hb dX9_whatWas_9 (by decide) ?_
    refine lv_istore_n (lv' := [(3, .int (-1)), (0, .ref (am 0)), (1, .int t), (2, .int w)]) hx hb dX9_whatWas_45 rfl hl (by decide) rfl (fun ls hl => ?_)
    refine lv_iload_n hx hb dX9_whatWas_46 rfl (lv_at hl 0 rfl) ?_
    refine lv_if_eq (tgt := 56) hx hb dX9_whatWas_47 (by decide) (fun c_37 => ?_) (fun c_37 => ?_)
    · skip
      exact absurd c_37 (by decide)
    · skip
      refine lv_aload_n hx hb dX9_whatWas_50 rfl (lv_at hl 1 rfl) ?_
      refine lv_iload_n hx hb dX9_whatWas_51 rfl (lv_at hl 0 rfl) ?_
      refine x_Vi (wN := fun _ => (wM G am ho rn ln pl sd lt ro (rfU rf (-1)) nb ++ [(am 1, .inl (G.2 0, 54, .inl (row r)))] ++ [(am 2, .inl (G.2 0, 54, .inl (row rm)))] ++ [(am 3, .inl (G.2 0, 54, .inl (row r2)))] ++ [(am 4, .inl (G.2 0, 54, .inl (row r4)))])) ⟨C0, hK, hP, hD, hS, hA⟩ 0 rfl (ci := 8) rfl rfl ((m9_no l G am ho rn ln pl sd lt ro rf nb (-1) noOk_k.1)) (cwV 1 hts (lw_V q1206 q1208 qs66 q95 q1209) rfl rfl rfl (by decide +kernel) ⟨Nat.le_of_ble_eq_true rfl, Nat.le_of_ble_eq_true rfl⟩) [0, 1, 2, 3, 4] [1, 3, 5, 7, 9, 10, 12, 14, 16] rfl (fun _ => rfl) rfl rfl hl.1 rfl (Nat.le_of_ble_eq_true rfl) dX9_whatWas_52 ⟨(Nat.le_of_ble_eq_true rfl), (Nat.le_of_ble_eq_true rfl)⟩ (fun r_38 u_38 H locs hw_38 hP hD hS => ?_)
      have hw_38 : ((-1) : Int32) = r_38 := hw_38.symm
      subst hw_38
      have hP : va_P G.1 vwCl (wM G am ho rn ln pl sd lt ro (rfU rf (-1)) nb ++ [(am 1, .inl (G.2 0, 54, .inl (row r)))] ++ [(am 2, .inl (G.2 0, 54, .inl (row rm)))] ++ [(am 3, .inl (G.2 0, 54, .inl (row r2)))] ++ [(am 4, .inl (G.2 0, 54, .inl (row r4)))]) H := hP
      have hD : va_D A (wM G am ho rn ln pl sd lt ro (rfU rf (-1)) nb ++ [(am 1, .inl (G.2 0, 54, .inl (row r)))] ++ [(am 2, .inl (G.2 0, 54, .inl (row rm)))] ++ [(am 3, .inl (G.2 0, 54, .inl (row r2)))] ++ [(am 4, .inl (G.2 0, 54, .inl (row r4)))]) := hD
      have hE : eS (tB r t) (-1) (eS (inR w 0 1) (-2) (eS (decide (rn = nI (mny r))) (-3) 0)) = (-1) := by rw [eS_f (show tB r t = false from (by first | exact bI_n0 c_2 | exact bI_0.mp c_2))]
      have hne : ((-1) : Int32) ≠ 0 := (by decide)
      have hP : va_P G.1 vwCl (wM G am ho rn ln pl sd lt ro (sel (eS (tB r t) (-1) (eS (inR w 0 1) (-2) (eS (decide (rn = nI (mny r))) (-3) 0))) rf (rfU rf (eS (tB r t) (-1) (eS (inR w 0 1) (-2) (eS (decide (rn = nI (mny r))) (-3) 0))))) nb ++ [(am 1, .inl (G.2 0, 54, .inl (row r)))] ++ [(am 2, .inl (G.2 0, 54, .inl (row rm)))] ++ [(am 3, .inl (G.2 0, 54, .inl (row r2)))] ++ [(am 4, .inl (G.2 0, 54, .inl (row r4)))]) H := by rw [hE]; simp only [sel_n hne]; exact hP
      have hD : va_D A (wM G am ho rn ln pl sd lt ro (sel (eS (tB r t) (-1) (eS (inR w 0 1) (-2) (eS (decide (rn = nI (mny r))) (-3) 0))) rf (rfU rf (eS (tB r t) (-1) (eS (inR w 0 1) (-2) (eS (decide (rn = nI (mny r))) (-3) 0))))) nb ++ [(am 1, .inl (G.2 0, 54, .inl (row r)))] ++ [(am 2, .inl (G.2 0, 54, .inl (row rm)))] ++ [(am 3, .inl (G.2 0, 54, .inl (row r2)))] ++ [(am 4, .inl (G.2 0, 54, .inl (row r4)))]) := by rw [hE]; simp only [sel_n hne]; exact hD
      refine hret _ _ _ _ _ _ (-1) rm dX9_whatWas_55 ?_ hP hD hS (Nat.le_of_ble_eq_true rfl) (Nat.le_of_ble_eq_true rfl)
      rw [hE, sel_n hne]

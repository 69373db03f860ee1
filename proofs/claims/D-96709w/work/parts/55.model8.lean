/-! the model: two, fractions (printed by tools/model8.py) -/
/-! the model: two, orders, told falls, fractions -/
set_option maxRecDepth 100000
theorem bt01 {k : Nat} (h : k < 4) : k / 2 < 2 ∧ k % 2 < 2 := by omega
/-- two things pulled, or one, or none -/
def sPl (r : Rw) (t1 : Nat) (b1 : Bool) (t2 : Nat) (b2 : Bool) (n : Nat) : Int32 := pStN (pMins (pTwQ (pTwQ r t1 b1) t2 b2) n)
theorem tw_sub1 {k : Nat} (h : k < 4) : (1 : Int32) - nI (k / 2) = nI ((k ^^^ 2) / 2) ∧ (1 : Int32) - nI (k % 2) = nI ((k ^^^ 1) % 2) ∧ (k ^^^ 2) % 2 = k % 2 ∧ (k ^^^ 1) / 2 = k / 2 := by
  rcases (show k = 0 ∨ k = 1 ∨ k = 2 ∨ k = 3 by omega) with rfl | rfl | rfl | rfl <;> decide
theorem tw_V1 {r : Rw} {t1 t2 n k : Nat} : sPl r t1 (decide (k / 2 = 1)) t2 (decide (k % 2 = 1)) n = pTwV r t1 t2 n k := rfl
theorem tw_V2 {r : Rw} {t1 t2 n k : Nat} (h : k < 4) : sPl r t1 (decide ((k ^^^ 2) / 2 = 1)) t2 (decide (k % 2 = 1)) n = pTwV r t1 t2 n (k ^^^ 2) := by
  rw [← (tw_sub1 h).2.2.1]; rfl
theorem tw_V3 {r : Rw} {t1 t2 n k : Nat} (h : k < 4) : sPl r t1 (decide (k / 2 = 1)) t2 (decide ((k ^^^ 1) % 2 = 1)) n = pTwV r t1 t2 n (k ^^^ 1) := by
  rw [← (tw_sub1 h).2.2.2]; rfl
set_option maxHeartbeats 4000000 in
set_option maxRecDepth 100000 in
theorem m9_standingPulled (l : Launch) (G : xG) (am : Nat → Nat) (r rm r2 r4 : Rw) (ho rn ln pl sd : Int32) (lt ro rf nb : Nat → Int32) (hr : Ok r) (hp : r 5 3 = 0) (t1 x1 t2 x2 k : Nat) (hx1 : x1 < 2) (hx2 : x2 < 2) (h1 : t1 < mny r) (h2 : t2 < mny r) (hk1 : k < 2 ^ 30) : xCi l G yX9_standingPulled cX9_standingPulled 8 (some .int) ({ frames := 5, cells := 0, slots := 0, locals := 110 } : Room) [.ref (am 0), .int (nI t1), .int (nI x1), .int (nI t2), .int (nI x2), .int (nI k)] (wM G am ho rn ln pl sd lt ro rf nb ++ [(am 1, .inl (G.2 0, 54, .inl (row r)))] ++ [(am 2, .inl (G.2 0, 54, .inl (row rm)))] ++ [(am 3, .inl (G.2 0, 54, .inl (row r2)))] ++ [(am 4, .inl (G.2 0, 54, .inl (row r4)))]) (S := Rw) (fun v _ => v = sPl r t1 (decide (x1 = 1)) t2 (decide (x2 = 1)) k) (fun u => (wM G am ho rn ln pl sd lt ro rf nb ++ [(am 1, .inl (G.2 0, 54, .inl (row r)))] ++ [(am 2, .inl (G.2 0, 54, .inl (row u)))] ++ [(am 3, .inl (G.2 0, 54, .inl (row r2)))] ++ [(am 4, .inl (G.2 0, 54, .inl (row r4)))])) := by
  refine x_openi (by decide) (Nat.le_of_ble_eq_true rfl) (fun _ _ _ => rfl) ?_
  intro p e s m args below meth c A Q ls C0 hK hP hD hA hl hret
  obtain ⟨hx, hb, hml, hown, hts⟩ := id C0
  have hS : va_S A s.heap s.heap [] := va_S.rf
  have hP : va_P G.1 vwCl (wM G am ho rn ln pl sd lt ro rf nb ++ [(am 1, .inl (G.2 0, 54, .inl (row r)))] ++ [(am 2, .inl (G.2 0, 54, .inl (row rm)))] ++ [(am 3, .inl (G.2 0, 54, .inl (row r2)))] ++ [(am 4, .inl (G.2 0, 54, .inl (row r4)))]) s.heap := hP
  have hD : va_D A (wM G am ho rn ln pl sd lt ro rf nb ++ [(am 1, .inl (G.2 0, 54, .inl (row r)))] ++ [(am 2, .inl (G.2 0, 54, .inl (row rm)))] ++ [(am 3, .inl (G.2 0, 54, .inl (row r2)))] ++ [(am 4, .inl (G.2 0, 54, .inl (row r4)))]) := hD
  have hl : lv_has ls 8 [(0, .ref (am 0)), (1, .int (nI t1)), (2, .int (nI x1)), (3, .int (nI t2)), (4, .int (nI x2)), (5, .int (nI k))] := hl
  have hr0 := hr.n
  have hN := hr.le
  refine lv_aload_n hx hb dX9_standingPulled_0 rfl (lv_at hl 0 rfl) ?_
  refine va_get (D := G.1) (ci := 8) (v := .ref (am 1)) (C := RX9) (T := TX9) (N := 13) hx hb hts in_X9 hown hK.1 hP 0 rfl rfl 0 (by decide) (hts _ q1162) (fun _ h9 => h9) rfl dX9_standingPulled_1 ?_
  refine lv_aload_n hx hb dX9_standingPulled_4 rfl (lv_at hl 0 rfl) ?_
  refine va_get (D := G.1) (ci := 8) (v := .ref (am 2)) (C := RX9) (T := TX9) (N := 13) hx hb hts in_X9 hown hK.1 hP 0 rfl rfl 1 (by decide) (hts _ q1163) (fun _ h9 => h9) rfl dX9_standingPulled_5 ?_
  refine x_Sv (wN := fun _ => (wM G am ho rn ln pl sd lt ro rf nb ++ [(am 1, .inl (G.2 0, 54, .inl (row r)))] ++ [(am 2, .inl (G.2 0, 54, .inl (row r)))] ++ [(am 3, .inl (G.2 0, 54, .inl (row r2)))] ++ [(am 4, .inl (G.2 0, 54, .inl (row r4)))])) ⟨C0, hK, hP, hD, hS, hA⟩ ((m9_copies l G (am 1) (am 2) (row r) (row rm))) (va_cwS 2 hts (lw_S q1236 q1237 q95 q1238) rfl rfl rfl (by decide +kernel) ⟨Nat.le_of_ble_eq_true rfl, Nat.le_of_ble_eq_true rfl⟩) [5, 6] [0, 2, 4, 6, 8, 1, 3, 14, 16] rfl (fun _ => rfl) rfl rfl hl.1 rfl (Nat.le_of_ble_eq_true rfl) dX9_standingPulled_8 ⟨(Nat.le_of_ble_eq_true rfl), (Nat.le_of_ble_eq_true rfl)⟩ (fun u_1 H locs hw_1 hP hD hS => ?_)
  have hP : va_P G.1 vwCl (wM G am ho rn ln pl sd lt ro rf nb ++ [(am 1, .inl (G.2 0, 54, .inl (row r)))] ++ [(am 2, .inl (G.2 0, 54, .inl (row r)))] ++ [(am 3, .inl (G.2 0, 54, .inl (row r2)))] ++ [(am 4, .inl (G.2 0, 54, .inl (row r4)))]) H := hP
  have hD : va_D A (wM G am ho rn ln pl sd lt ro rf nb ++ [(am 1, .inl (G.2 0, 54, .inl (row r)))] ++ [(am 2, .inl (G.2 0, 54, .inl (row r)))] ++ [(am 3, .inl (G.2 0, 54, .inl (row r2)))] ++ [(am 4, .inl (G.2 0, 54, .inl (row r4)))]) := hD
  refine lv_iload_n hx hb dX9_standingPulled_11 rfl (lv_at hl 2 rfl) ?_
  refine lv_iconst (v := 1) hx hb dX9_standingPulled_12 (by decide) ?_
  refine lv_icmp_ne (tgt := 40) hx hb dX9_standingPulled_13 (by decide) (fun c_2 => ?_) (fun c_2 => ?_)
  · skip
    have g_2 := mt (nI_eq (by omega) (by omega)).mpr (show ¬ (nI x1 = nI 1) from c_2)
    refine lv_iconst (v := 0) hx hb dX9_standingPulled_40 (by decide) ?_
    have ea : pTwQ r t1 (decide (x1 = 1)) = r := pTwQ_n (t := t1) (b := decide (x1 = 1)) (fun z => absurd (of_decide_eq_true z) (by omega))
    have hoq : Ok (pTwQ r t1 (decide (x1 = 1))) := by rw [ea]; exact hr
    have hmq : mny (pTwQ r t1 (decide (x1 = 1))) = mny r := by rw [ea]; rfl
    have hP : va_P G.1 vwCl (wM G am ho rn ln pl sd lt ro rf nb ++ [(am 1, .inl (G.2 0, 54, .inl (row r)))] ++ [(am 2, .inl (G.2 0, 54, .inl (row (pTwQ r t1 (decide (x1 = 1))))))] ++ [(am 3, .inl (G.2 0, 54, .inl (row r2)))] ++ [(am 4, .inl (G.2 0, 54, .inl (row r4)))]) H := by rw [ea]; exact hP
    have hD : va_D A (wM G am ho rn ln pl sd lt ro rf nb ++ [(am 1, .inl (G.2 0, 54, .inl (row r)))] ++ [(am 2, .inl (G.2 0, 54, .inl (row (pTwQ r t1 (decide (x1 = 1))))))] ++ [(am 3, .inl (G.2 0, 54, .inl (row r2)))] ++ [(am 4, .inl (G.2 0, 54, .inl (row r4)))]) := by rw [ea]; exact hD
    generalize hqe : pTwQ r t1 (decide (x1 = 1)) = q at hP hD hoq hmq
    have hP : va_P G.1 vwCl (wM G am ho rn ln pl sd lt ro rf nb ++ [(am 1, .inl (G.2 0, 54, .inl (row r)))] ++ [(am 2, .inl (G.2 0, 54, .inl (row q)))] ++ [(am 3, .inl (G.2 0, 54, .inl (row r2)))] ++ [(am 4, .inl (G.2 0, 54, .inl (row r4)))]) H := hP
    have hD : va_D A (wM G am ho rn ln pl sd lt ro rf nb ++ [(am 1, .inl (G.2 0, 54, .inl (row r)))] ++ [(am 2, .inl (G.2 0, 54, .inl (row q)))] ++ [(am 3, .inl (G.2 0, 54, .inl (row r2)))] ++ [(am 4, .inl (G.2 0, 54, .inl (row r4)))]) := hD
    refine lv_istore (lv' := [(6, .int 0), (0, .ref (am 0)), (1, .int (nI t1)), (2, .int (nI x1)), (3, .int (nI t2)), (4, .int (nI x2)), (5, .int (nI k))]) hx hb dX9_standingPulled_41 hl (by decide) rfl (fun ls hl => ?_)
    refine lv_iload hx hb dX9_standingPulled_43 (lv_at hl 5 rfl) ?_
    refine lv_iconst (v := 1) hx hb dX9_standingPulled_45 (by decide) ?_
    refine lv_icmp_ne (tgt := 73) hx hb dX9_standingPulled_46 (by decide) (fun c_3 => ?_) (fun c_3 => ?_)
    · skip
      have g_3 := mt (nI_eq (by omega) (by omega)).mpr (show ¬ (nI x2 = nI 1) from c_3)
      refine lv_iconst (v := 0) hx hb dX9_standingPulled_73 (by decide) ?_
      have eb : pTwQ q t2 (decide (x2 = 1)) = q := pTwQ_n (t := t2) (b := decide (x2 = 1)) (fun z => absurd (of_decide_eq_true z) (by omega))
      have hob : Ok (pTwQ q t2 (decide (x2 = 1))) := by rw [eb]; exact hoq
      have hmb : mny (pTwQ q t2 (decide (x2 = 1))) = mny r := by rw [eb]; exact hmq
      have hP : va_P G.1 vwCl (wM G am ho rn ln pl sd lt ro rf nb ++ [(am 1, .inl (G.2 0, 54, .inl (row r)))] ++ [(am 2, .inl (G.2 0, 54, .inl (row (pTwQ q t2 (decide (x2 = 1))))))] ++ [(am 3, .inl (G.2 0, 54, .inl (row r2)))] ++ [(am 4, .inl (G.2 0, 54, .inl (row r4)))]) H := by rw [eb]; exact hP
      have hD : va_D A (wM G am ho rn ln pl sd lt ro rf nb ++ [(am 1, .inl (G.2 0, 54, .inl (row r)))] ++ [(am 2, .inl (G.2 0, 54, .inl (row (pTwQ q t2 (decide (x2 = 1))))))] ++ [(am 3, .inl (G.2 0, 54, .inl (row r2)))] ++ [(am 4, .inl (G.2 0, 54, .inl (row r4)))]) := by rw [eb]; exact hD
      refine lv_istore (lv' := [(7, .int 0), (6, .int 0), (0, .ref (am 0)), (1, .int (nI t1)), (2, .int (nI x1)), (3, .int (nI t2)), (4, .int (nI x2)), (5, .int (nI k))]) hx hb dX9_standingPulled_74 hl (by decide) rfl (fun ls hl => ?_)
      refine lv_aload_n hx hb dX9_standingPulled_76 rfl (lv_at hl 2 rfl) ?_
      refine va_get (D := G.1) (ci := 8) (v := .ref (am 2)) (C := RX9) (T := TX9) (N := 13) hx hb hts in_X9 hown hK.1 hP 0 rfl rfl 1 (by decide) (hts _ q1163) (fun _ h9 => h9) rfl dX9_standingPulled_77 ?_
      refine lv_iload hx hb dX9_standingPulled_80 (lv_at hl 7 rfl) ?_
      refine x_Sv (wN := fun _ => (wM G am ho rn ln pl sd lt ro rf nb ++ [(am 1, .inl (G.2 0, 54, .inl (row r)))] ++ [(am 2, .inl (G.2 0, 54, .inl (row (pMins (pTwQ q t2 (decide (x2 = 1))) k))))] ++ [(am 3, .inl (G.2 0, 54, .inl (row r2)))] ++ [(am 4, .inl (G.2 0, 54, .inl (row r4)))])) ⟨C0, hK, hP, hD, hS, hA⟩ ((m9_minutesOn l G (am 2) (pTwQ q t2 (decide (x2 = 1))) hob k hk1)) (va_cwS 2 hts (lw_S q1272 q1273 q95 q1274) rfl rfl rfl (by decide +kernel) ⟨Nat.le_of_ble_eq_true rfl, Nat.le_of_ble_eq_true rfl⟩) [6] [0, 2, 4, 6, 8, 10, 1, 14, 16] rfl (fun _ => rfl) rfl rfl hl.1 rfl (Nat.le_of_ble_eq_true rfl) dX9_standingPulled_82 ⟨(Nat.le_of_ble_eq_true rfl), (Nat.le_of_ble_eq_true rfl)⟩ (fun u_4 H locs hw_4 hP hD hS => ?_)
      have hP : va_P G.1 vwCl (wM G am ho rn ln pl sd lt ro rf nb ++ [(am 1, .inl (G.2 0, 54, .inl (row r)))] ++ [(am 2, .inl (G.2 0, 54, .inl (row (pMins (pTwQ q t2 (decide (x2 = 1))) k))))] ++ [(am 3, .inl (G.2 0, 54, .inl (row r2)))] ++ [(am 4, .inl (G.2 0, 54, .inl (row r4)))]) H := hP
      have hD : va_D A (wM G am ho rn ln pl sd lt ro rf nb ++ [(am 1, .inl (G.2 0, 54, .inl (row r)))] ++ [(am 2, .inl (G.2 0, 54, .inl (row (pMins (pTwQ q t2 (decide (x2 = 1))) k))))] ++ [(am 3, .inl (G.2 0, 54, .inl (row r2)))] ++ [(am 4, .inl (G.2 0, 54, .inl (row r4)))]) := hD
      refine lv_aload_n hx hb dX9_standingPulled_85 rfl (lv_at hl 2 rfl) ?_
      refine x_Vi (wN := fun _ => (wM G am ho rn ln pl sd lt ro rf nb ++ [(am 1, .inl (G.2 0, 54, .inl (row r)))] ++ [(am 2, .inl (G.2 0, 54, .inl (row (pMins (pTwQ q t2 (decide (x2 = 1))) k))))] ++ [(am 3, .inl (G.2 0, 54, .inl (row r2)))] ++ [(am 4, .inl (G.2 0, 54, .inl (row r4)))])) ⟨C0, hK, hP, hD, hS, hA⟩ 0 rfl (ci := 8) rfl rfl ((m9_standingIn l G am r (pMins (pTwQ q t2 (decide (x2 = 1))) k) r2 r4 ho rn ln pl sd lt ro rf nb hr hp (Ok.mins hob))) (cwV 0 hts (lw_V q1333 q1335 qs76 q95 q1336) rfl rfl rfl (by decide +kernel) ⟨Nat.le_of_ble_eq_true rfl, Nat.le_of_ble_eq_true rfl⟩) [0, 1, 2, 3, 4, 5, 6, 7, 8] [1, 3, 5, 7, 9, 11, 13, 15, 17] rfl (fun _ => rfl) rfl rfl hl.1 rfl (Nat.le_of_ble_eq_true rfl) dX9_standingPulled_86 ⟨(Nat.le_of_ble_eq_true rfl), (Nat.le_of_ble_eq_true rfl)⟩ (fun r_5 u_5 H locs hw_5 hP hD hS => ?_)
      have hw_5 : (pStN (pMins (pTwQ q t2 (decide (x2 = 1))) k) : Int32) = r_5 := hw_5.symm
      subst hw_5
      refine hret _ _ _ _ _ _ (pStN (pMins (pTwQ q t2 (decide (x2 = 1))) k)) (pMins (pTwQ q t2 (decide (x2 = 1))) k) dX9_standingPulled_89 ?_ hP hD hS (Nat.le_of_ble_eq_true rfl) (Nat.le_of_ble_eq_true rfl)
      unfold sPl
      rw [hqe]
    · skip
      have g_3 := (nI_eq (by omega) (by omega)).mp (show nI x2 = nI 1 from c_3)
      refine lv_aload_n hx hb dX9_standingPulled_49 rfl (lv_at hl 1 rfl) ?_
      refine va_get (D := G.1) (ci := 8) (v := .ref (am 2)) (C := RX9) (T := TX9) (N := 13) hx hb hts in_X9 hown hK.1 hP 0 rfl rfl 1 (by decide) (hts _ q1163) (fun _ h9 => h9) rfl dX9_standingPulled_50 ?_
      refine lv_iload_n hx hb dX9_standingPulled_53 rfl (lv_at hl 4 rfl) ?_
      refine x_Si (wN := fun _ => (wM G am ho rn ln pl sd lt ro rf nb ++ [(am 1, .inl (G.2 0, 54, .inl (row r)))] ++ [(am 2, .inl (G.2 0, 54, .inl (row q)))] ++ [(am 3, .inl (G.2 0, 54, .inl (row r2)))] ++ [(am 4, .inl (G.2 0, 54, .inl (row r4)))])) ⟨C0, hK, hP, hD, hS, hA⟩ ((m9_stands l G (am 2) q hoq t2 (by omega))) (va_cwS 2 hts (lw_S q1251 q1252 q95 q1253) rfl rfl rfl (by decide +kernel) ⟨Nat.le_of_ble_eq_true rfl, Nat.le_of_ble_eq_true rfl⟩) [6] [0, 2, 4, 6, 8, 10, 1, 14, 16] rfl (fun _ => rfl) rfl rfl hl.1 rfl (Nat.le_of_ble_eq_true rfl) dX9_standingPulled_54 ⟨(Nat.le_of_ble_eq_true rfl), (Nat.le_of_ble_eq_true rfl)⟩ (fun r_6 u_6 H locs hw_6 hP hD hS => ?_)
      have hw_6 : (bI (pSt q t2) : Int32) = r_6 := hw_6.symm
      subst hw_6
      refine lv_if_eq (tgt := 73) hx hb dX9_standingPulled_57 (by decide) (fun c_7 => ?_) (fun c_7 => ?_)
      · skip
        refine lv_iconst (v := 0) hx hb dX9_standingPulled_73 (by decide) ?_
        have eb : pTwQ q t2 (decide (x2 = 1)) = q := pTwQ_n (b := decide (x2 = 1)) (fun _ => show pSt q t2 = false from (by first | exact bI_n0 c_7 | exact bI_0.mp c_7))
        have hob : Ok (pTwQ q t2 (decide (x2 = 1))) := by rw [eb]; exact hoq
        have hmb : mny (pTwQ q t2 (decide (x2 = 1))) = mny r := by rw [eb]; exact hmq
        have hP : va_P G.1 vwCl (wM G am ho rn ln pl sd lt ro rf nb ++ [(am 1, .inl (G.2 0, 54, .inl (row r)))] ++ [(am 2, .inl (G.2 0, 54, .inl (row (pTwQ q t2 (decide (x2 = 1))))))] ++ [(am 3, .inl (G.2 0, 54, .inl (row r2)))] ++ [(am 4, .inl (G.2 0, 54, .inl (row r4)))]) H := by rw [eb]; exact hP
        have hD : va_D A (wM G am ho rn ln pl sd lt ro rf nb ++ [(am 1, .inl (G.2 0, 54, .inl (row r)))] ++ [(am 2, .inl (G.2 0, 54, .inl (row (pTwQ q t2 (decide (x2 = 1))))))] ++ [(am 3, .inl (G.2 0, 54, .inl (row r2)))] ++ [(am 4, .inl (G.2 0, 54, .inl (row r4)))]) := by rw [eb]; exact hD
        refine lv_istore (lv' := [(7, .int 0), (6, .int 0), (0, .ref (am 0)), (1, .int (nI t1)), (2, .int (nI x1)), (3, .int (nI t2)), (4, .int (nI x2)), (5, .int (nI k))]) hx hb dX9_standingPulled_74 hl (by decide) rfl (fun ls hl => ?_)
        refine lv_aload_n hx hb dX9_standingPulled_76 rfl (lv_at hl 2 rfl) ?_
        refine va_get (D := G.1) (ci := 8) (v := .ref (am 2)) (C := RX9) (T := TX9) (N := 13) hx hb hts in_X9 hown hK.1 hP 0 rfl rfl 1 (by decide) (hts _ q1163) (fun _ h9 => h9) rfl dX9_standingPulled_77 ?_
        refine lv_iload hx hb dX9_standingPulled_80 (lv_at hl 7 rfl) ?_
        refine x_Sv (wN := fun _ => (wM G am ho rn ln pl sd lt ro rf nb ++ [(am 1, .inl (G.2 0, 54, .inl (row r)))] ++ [(am 2, .inl (G.2 0, 54, .inl (row (pMins (pTwQ q t2 (decide (x2 = 1))) k))))] ++ [(am 3, .inl (G.2 0, 54, .inl (row r2)))] ++ [(am 4, .inl (G.2 0, 54, .inl (row r4)))])) ⟨C0, hK, hP, hD, hS, hA⟩ ((m9_minutesOn l G (am 2) (pTwQ q t2 (decide (x2 = 1))) hob k hk1)) (va_cwS 2 hts (lw_S q1272 q1273 q95 q1274) rfl rfl rfl (by decide +kernel) ⟨Nat.le_of_ble_eq_true rfl, Nat.le_of_ble_eq_true rfl⟩) [6] [0, 2, 4, 6, 8, 10, 1, 14, 16] rfl (fun _ => rfl) rfl rfl hl.1 rfl (Nat.le_of_ble_eq_true rfl) dX9_standingPulled_82 ⟨(Nat.le_of_ble_eq_true rfl), (Nat.le_of_ble_eq_true rfl)⟩ (fun u_8 H locs hw_8 hP hD hS => ?_)
        have hP : va_P G.1 vwCl (wM G am ho rn ln pl sd lt ro rf nb ++ [(am 1, .inl (G.2 0, 54, .inl (row r)))] ++ [(am 2, .inl (G.2 0, 54, .inl (row (pMins (pTwQ q t2 (decide (x2 = 1))) k))))] ++ [(am 3, .inl (G.2 0, 54, .inl (row r2)))] ++ [(am 4, .inl (G.2 0, 54, .inl (row r4)))]) H := hP
        have hD : va_D A (wM G am ho rn ln pl sd lt ro rf nb ++ [(am 1, .inl (G.2 0, 54, .inl (row r)))] ++ [(am 2, .inl (G.2 0, 54, .inl (row (pMins (pTwQ q t2 (decide (x2 = 1))) k))))] ++ [(am 3, .inl (G.2 0, 54, .inl (row r2)))] ++ [(am 4, .inl (G.2 0, 54, .inl (row r4)))]) := hD
        refine lv_aload_n hx hb dX9_standingPulled_85 rfl (lv_at hl 2 rfl) ?_
        refine x_Vi (wN := fun _ => (wM G am ho rn ln pl sd lt ro rf nb ++ [(am 1, .inl (G.2 0, 54, .inl (row r)))] ++ [(am 2, .inl (G.2 0, 54, .inl (row (pMins (pTwQ q t2 (decide (x2 = 1))) k))))] ++ [(am 3, .inl (G.2 0, 54, .inl (row r2)))] ++ [(am 4, .inl (G.2 0, 54, .inl (row r4)))])) ⟨C0, hK, hP, hD, hS, hA⟩ 0 rfl (ci := 8) rfl rfl ((m9_standingIn l G am r (pMins (pTwQ q t2 (decide (x2 = 1))) k) r2 r4 ho rn ln pl sd lt ro rf nb hr hp (Ok.mins hob))) (cwV 0 hts (lw_V q1333 q1335 qs76 q95 q1336) rfl rfl rfl (by decide +kernel) ⟨Nat.le_of_ble_eq_true rfl, Nat.le_of_ble_eq_true rfl⟩) [0, 1, 2, 3, 4, 5, 6, 7, 8] [1, 3, 5, 7, 9, 11, 13, 15, 17] rfl (fun _ => rfl) rfl rfl hl.1 rfl (Nat.le_of_ble_eq_true rfl) dX9_standingPulled_86 ⟨(Nat.le_of_ble_eq_true rfl), (Nat.le_of_ble_eq_true rfl)⟩ (fun r_9 u_9 H locs hw_9 hP hD hS => ?_)
        have hw_9 : (pStN (pMins (pTwQ q t2 (decide (x2 = 1))) k) : Int32) = r_9 := hw_9.symm
        subst hw_9
        refine hret _ _ _ _ _ _ (pStN (pMins (pTwQ q t2 (decide (x2 = 1))) k)) (pMins (pTwQ q t2 (decide (x2 = 1))) k) dX9_standingPulled_89 ?_ hP hD hS (Nat.le_of_ble_eq_true rfl) (Nat.le_of_ble_eq_true rfl)
        unfold sPl
        rw [hqe]
      · skip
        refine lv_aload_n hx hb dX9_standingPulled_60 rfl (lv_at hl 1 rfl) ?_
        refine va_get (D := G.1) (ci := 8) (v := .ref (am 2)) (C := RX9) (T := TX9) (N := 13) hx hb hts in_X9 hown hK.1 hP 0 rfl rfl 1 (by decide) (hts _ q1163) (fun _ h9 => h9) rfl dX9_standingPulled_61 ?_
        refine lv_iload_n hx hb dX9_standingPulled_64 rfl (lv_at hl 4 rfl) ?_
        refine lv_bipush (v := 9) hx hb dX9_standingPulled_65 (by decide) ?_
        refine x_Si (wN := fun _ => (wM G am ho rn ln pl sd lt ro rf nb ++ [(am 1, .inl (G.2 0, 54, .inl (row r)))] ++ [(am 2, .inl (G.2 0, 54, .inl (row (pPull q t2 9))))] ++ [(am 3, .inl (G.2 0, 54, .inl (row r2)))] ++ [(am 4, .inl (G.2 0, 54, .inl (row r4)))])) ⟨C0, hK, hP, hD, hS, hA⟩ ((m9_pull l G (am 2) q hoq t2 9 (by omega))) (va_cwS 3 hts (lw_S q1257 q1258 q95 q1259) rfl rfl rfl (by decide +kernel) ⟨Nat.le_of_ble_eq_true rfl, Nat.le_of_ble_eq_true rfl⟩) [6] [0, 2, 4, 6, 8, 10, 1, 14, 16] rfl (fun _ => rfl) rfl rfl hl.1 rfl (Nat.le_of_ble_eq_true rfl) dX9_standingPulled_67 ⟨(Nat.le_of_ble_eq_true rfl), (Nat.le_of_ble_eq_true rfl)⟩ (fun r_10 u_10 H locs hw_10 hP hD hS => ?_)
        have hw_10 : (pPullN q t2 9 : Int32) = r_10 := hw_10.symm
        subst hw_10
        have hP : va_P G.1 vwCl (wM G am ho rn ln pl sd lt ro rf nb ++ [(am 1, .inl (G.2 0, 54, .inl (row r)))] ++ [(am 2, .inl (G.2 0, 54, .inl (row (pPull q t2 9))))] ++ [(am 3, .inl (G.2 0, 54, .inl (row r2)))] ++ [(am 4, .inl (G.2 0, 54, .inl (row r4)))]) H := hP
        have hD : va_D A (wM G am ho rn ln pl sd lt ro rf nb ++ [(am 1, .inl (G.2 0, 54, .inl (row r)))] ++ [(am 2, .inl (G.2 0, 54, .inl (row (pPull q t2 9))))] ++ [(am 3, .inl (G.2 0, 54, .inl (row r2)))] ++ [(am 4, .inl (G.2 0, 54, .inl (row r4)))]) := hD
        refine lv_goto (tgt := 74) hx hb dX9_standingPulled_70 (by decide) ?_
        have eb : pTwQ q t2 (decide (x2 = 1)) = pPull q t2 9 := pTwQ_y (b := decide (x2 = 1)) (decide_eq_true (by omega)) (show pSt q t2 = true from (by first | exact bI_n0 c_7 | exact bI_0.mp c_7))
        have hob : Ok (pTwQ q t2 (decide (x2 = 1))) := by rw [eb]; exact Ok.pull hoq
        have hmb : mny (pTwQ q t2 (decide (x2 = 1))) = mny r := by rw [eb]; exact hmq
        have hP : va_P G.1 vwCl (wM G am ho rn ln pl sd lt ro rf nb ++ [(am 1, .inl (G.2 0, 54, .inl (row r)))] ++ [(am 2, .inl (G.2 0, 54, .inl (row (pTwQ q t2 (decide (x2 = 1))))))] ++ [(am 3, .inl (G.2 0, 54, .inl (row r2)))] ++ [(am 4, .inl (G.2 0, 54, .inl (row r4)))]) H := by rw [eb]; exact hP
        have hD : va_D A (wM G am ho rn ln pl sd lt ro rf nb ++ [(am 1, .inl (G.2 0, 54, .inl (row r)))] ++ [(am 2, .inl (G.2 0, 54, .inl (row (pTwQ q t2 (decide (x2 = 1))))))] ++ [(am 3, .inl (G.2 0, 54, .inl (row r2)))] ++ [(am 4, .inl (G.2 0, 54, .inl (row r4)))]) := by rw [eb]; exact hD
        refine lv_istore (lv' := [(7, .int (pPullN q t2 9)), (6, .int 0), (0, .ref (am 0)), (1, .int (nI t1)), (2, .int (nI x1)), (3, .int (nI t2)), (4, .int (nI x2)), (5, .int (nI k))]) hx hb dX9_standingPulled_74 hl (by decide) rfl (fun ls hl => ?_)
        refine lv_aload_n hx hb dX9_standingPulled_76 rfl (lv_at hl 2 rfl) ?_
        refine va_get (D := G.1) (ci := 8) (v := .ref (am 2)) (C := RX9) (T := TX9) (N := 13) hx hb hts in_X9 hown hK.1 hP 0 rfl rfl 1 (by decide) (hts _ q1163) (fun _ h9 => h9) rfl dX9_standingPulled_77 ?_
        refine lv_iload hx hb dX9_standingPulled_80 (lv_at hl 7 rfl) ?_
        refine x_Sv (wN := fun _ => (wM G am ho rn ln pl sd lt ro rf nb ++ [(am 1, .inl (G.2 0, 54, .inl (row r)))] ++ [(am 2, .inl (G.2 0, 54, .inl (row (pMins (pTwQ q t2 (decide (x2 = 1))) k))))] ++ [(am 3, .inl (G.2 0, 54, .inl (row r2)))] ++ [(am 4, .inl (G.2 0, 54, .inl (row r4)))])) ⟨C0, hK, hP, hD, hS, hA⟩ ((m9_minutesOn l G (am 2) (pTwQ q t2 (decide (x2 = 1))) hob k hk1)) (va_cwS 2 hts (lw_S q1272 q1273 q95 q1274) rfl rfl rfl (by decide +kernel) ⟨Nat.le_of_ble_eq_true rfl, Nat.le_of_ble_eq_true rfl⟩) [6] [0, 2, 4, 6, 8, 10, 1, 14, 16] rfl (fun _ => rfl) rfl rfl hl.1 rfl (Nat.le_of_ble_eq_true rfl) dX9_standingPulled_82 ⟨(Nat.le_of_ble_eq_true rfl), (Nat.le_of_ble_eq_true rfl)⟩ (fun u_11 H locs hw_11 hP hD hS => ?_)
        have hP : va_P G.1 vwCl (wM G am ho rn ln pl sd lt ro rf nb ++ [(am 1, .inl (G.2 0, 54, .inl (row r)))] ++ [(am 2, .inl (G.2 0, 54, .inl (row (pMins (pTwQ q t2 (decide (x2 = 1))) k))))] ++ [(am 3, .inl (G.2 0, 54, .inl (row r2)))] ++ [(am 4, .inl (G.2 0, 54, .inl (row r4)))]) H := hP
        have hD : va_D A (wM G am ho rn ln pl sd lt ro rf nb ++ [(am 1, .inl (G.2 0, 54, .inl (row r)))] ++ [(am 2, .inl (G.2 0, 54, .inl (row (pMins (pTwQ q t2 (decide (x2 = 1))) k))))] ++ [(am 3, .inl (G.2 0, 54, .inl (row r2)))] ++ [(am 4, .inl (G.2 0, 54, .inl (row r4)))]) := hD
        refine lv_aload_n hx hb dX9_standingPulled_85 rfl (lv_at hl 2 rfl) ?_
        refine x_Vi (wN := fun _ => (wM G am ho rn ln pl sd lt ro rf nb ++ [(am 1, .inl (G.2 0, 54, .inl (row r)))] ++ [(am 2, .inl (G.2 0, 54, .inl (row (pMins (pTwQ q t2 (decide (x2 = 1))) k))))] ++ [(am 3, .inl (G.2 0, 54, .inl (row r2)))] ++ [(am 4, .inl (G.2 0, 54, .inl (row r4)))])) ⟨C0, hK, hP, hD, hS, hA⟩ 0 rfl (ci := 8) rfl rfl ((m9_standingIn l G am r (pMins (pTwQ q t2 (decide (x2 = 1))) k) r2 r4 ho rn ln pl sd lt ro rf nb hr hp (Ok.mins hob))) (cwV 0 hts (lw_V q1333 q1335 qs76 q95 q1336) rfl rfl rfl (by decide +kernel) ⟨Nat.le_of_ble_eq_true rfl, Nat.le_of_ble_eq_true rfl⟩) [0, 1, 2, 3, 4, 5, 6, 7, 8] [1, 3, 5, 7, 9, 11, 13, 15, 17] rfl (fun _ => rfl) rfl rfl hl.1 rfl (Nat.le_of_ble_eq_true rfl) dX9_standingPulled_86 ⟨(Nat.le_of_ble_eq_true rfl), (Nat.le_of_ble_eq_true rfl)⟩ (fun r_12 u_12 H locs hw_12 hP hD hS => ?_)
        have hw_12 : (pStN (pMins (pTwQ q t2 (decide (x2 = 1))) k) : Int32) = r_12 := hw_12.symm
        subst hw_12
        refine hret _ _ _ _ _ _ (pStN (pMins (pTwQ q t2 (decide (x2 = 1))) k)) (pMins (pTwQ q t2 (decide (x2 = 1))) k) dX9_standingPulled_89 ?_ hP hD hS (Nat.le_of_ble_eq_true rfl) (Nat.le_of_ble_eq_true rfl)
        unfold sPl
        rw [hqe]
  · skip
    have g_2 := (nI_eq (by omega) (by omega)).mp (show nI x1 = nI 1 from c_2)
    refine lv_aload_n hx hb dX9_standingPulled_16 rfl (lv_at hl 0 rfl) ?_
    refine va_get (D := G.1) (ci := 8) (v := .ref (am 2)) (C := RX9) (T := TX9) (N := 13) hx hb hts in_X9 hown hK.1 hP 0 rfl rfl 1 (by decide) (hts _ q1163) (fun _ h9 => h9) rfl dX9_standingPulled_17 ?_
    refine lv_iload_n hx hb dX9_standingPulled_20 rfl (lv_at hl 1 rfl) ?_
    refine x_Si (wN := fun _ => (wM G am ho rn ln pl sd lt ro rf nb ++ [(am 1, .inl (G.2 0, 54, .inl (row r)))] ++ [(am 2, .inl (G.2 0, 54, .inl (row r)))] ++ [(am 3, .inl (G.2 0, 54, .inl (row r2)))] ++ [(am 4, .inl (G.2 0, 54, .inl (row r4)))])) ⟨C0, hK, hP, hD, hS, hA⟩ ((m9_stands l G (am 2) r hr t1 (by omega))) (va_cwS 2 hts (lw_S q1251 q1252 q95 q1253) rfl rfl rfl (by decide +kernel) ⟨Nat.le_of_ble_eq_true rfl, Nat.le_of_ble_eq_true rfl⟩) [6] [0, 2, 4, 6, 8, 10, 1, 14, 16] rfl (fun _ => rfl) rfl rfl hl.1 rfl (Nat.le_of_ble_eq_true rfl) dX9_standingPulled_21 ⟨(Nat.le_of_ble_eq_true rfl), (Nat.le_of_ble_eq_true rfl)⟩ (fun r_13 u_13 H locs hw_13 hP hD hS => ?_)
    have hw_13 : (bI (pSt r t1) : Int32) = r_13 := hw_13.symm
    subst hw_13
    refine lv_if_eq (tgt := 40) hx hb dX9_standingPulled_24 (by decide) (fun c_14 => ?_) (fun c_14 => ?_)
    · skip
      refine lv_iconst (v := 0) hx hb dX9_standingPulled_40 (by decide) ?_
      have ea : pTwQ r t1 (decide (x1 = 1)) = r := pTwQ_n (b := decide (x1 = 1)) (fun _ => show pSt r t1 = false from (by first | exact bI_n0 c_14 | exact bI_0.mp c_14))
      have hoq : Ok (pTwQ r t1 (decide (x1 = 1))) := by rw [ea]; exact hr
      have hmq : mny (pTwQ r t1 (decide (x1 = 1))) = mny r := by rw [ea]; rfl
      have hP : va_P G.1 vwCl (wM G am ho rn ln pl sd lt ro rf nb ++ [(am 1, .inl (G.2 0, 54, .inl (row r)))] ++ [(am 2, .inl (G.2 0, 54, .inl (row (pTwQ r t1 (decide (x1 = 1))))))] ++ [(am 3, .inl (G.2 0, 54, .inl (row r2)))] ++ [(am 4, .inl (G.2 0, 54, .inl (row r4)))]) H := by rw [ea]; exact hP
      have hD : va_D A (wM G am ho rn ln pl sd lt ro rf nb ++ [(am 1, .inl (G.2 0, 54, .inl (row r)))] ++ [(am 2, .inl (G.2 0, 54, .inl (row (pTwQ r t1 (decide (x1 = 1))))))] ++ [(am 3, .inl (G.2 0, 54, .inl (row r2)))] ++ [(am 4, .inl (G.2 0, 54, .inl (row r4)))]) := by rw [ea]; exact hD
      generalize hqe : pTwQ r t1 (decide (x1 = 1)) = q at hP hD hoq hmq
      have hP : va_P G.1 vwCl (wM G am ho rn ln pl sd lt ro rf nb ++ [(am 1, .inl (G.2 0, 54, .inl (row r)))] ++ [(am 2, .inl (G.2 0, 54, .inl (row q)))] ++ [(am 3, .inl (G.2 0, 54, .inl (row r2)))] ++ [(am 4, .inl (G.2 0, 54, .inl (row r4)))]) H := hP
      have hD : va_D A (wM G am ho rn ln pl sd lt ro rf nb ++ [(am 1, .inl (G.2 0, 54, .inl (row r)))] ++ [(am 2, .inl (G.2 0, 54, .inl (row q)))] ++ [(am 3, .inl (G.2 0, 54, .inl (row r2)))] ++ [(am 4, .inl (G.2 0, 54, .inl (row r4)))]) := hD
      refine lv_istore (lv' := [(6, .int 0), (0, .ref (am 0)), (1, .int (nI t1)), (2, .int (nI x1)), (3, .int (nI t2)), (4, .int (nI x2)), (5, .int (nI k))]) hx hb dX9_standingPulled_41 hl (by decide) rfl (fun ls hl => ?_)
      refine lv_iload hx hb dX9_standingPulled_43 (lv_at hl 5 rfl) ?_
      refine lv_iconst (v := 1) hx hb dX9_standingPulled_45 (by decide) ?_
      refine lv_icmp_ne (tgt := 73) hx hb dX9_standingPulled_46 (by decide) (fun c_15 => ?_) (fun c_15 => ?_)
      · skip
        have g_15 := mt (nI_eq (by omega) (by omega)).mpr (show ¬ (nI x2 = nI 1) from c_15)
        refine lv_iconst (v := 0) hx hb dX9_standingPulled_73 (by decide) ?_
        have eb : pTwQ q t2 (decide (x2 = 1)) = q := pTwQ_n (t := t2) (b := decide (x2 = 1)) (fun z => absurd (of_decide_eq_true z) (by omega))
        have hob : Ok (pTwQ q t2 (decide (x2 = 1))) := by rw [eb]; exact hoq
        have hmb : mny (pTwQ q t2 (decide (x2 = 1))) = mny r := by rw [eb]; exact hmq
        have hP : va_P G.1 vwCl (wM G am ho rn ln pl sd lt ro rf nb ++ [(am 1, .inl (G.2 0, 54, .inl (row r)))] ++ [(am 2, .inl (G.2 0, 54, .inl (row (pTwQ q t2 (decide (x2 = 1))))))] ++ [(am 3, .inl (G.2 0, 54, .inl (row r2)))] ++ [(am 4, .inl (G.2 0, 54, .inl (row r4)))]) H := by rw [eb]; exact hP
        have hD : va_D A (wM G am ho rn ln pl sd lt ro rf nb ++ [(am 1, .inl (G.2 0, 54, .inl (row r)))] ++ [(am 2, .inl (G.2 0, 54, .inl (row (pTwQ q t2 (decide (x2 = 1))))))] ++ [(am 3, .inl (G.2 0, 54, .inl (row r2)))] ++ [(am 4, .inl (G.2 0, 54, .inl (row r4)))]) := by rw [eb]; exact hD
        refine lv_istore (lv' := [(7, .int 0), (6, .int 0), (0, .ref (am 0)), (1, .int (nI t1)), (2, .int (nI x1)), (3, .int (nI t2)), (4, .int (nI x2)), (5, .int (nI k))]) hx hb dX9_standingPulled_74 hl (by decide) rfl (fun ls hl => ?_)
        refine lv_aload_n hx hb dX9_standingPulled_76 rfl (lv_at hl 2 rfl) ?_
        refine va_get (D := G.1) (ci := 8) (v := .ref (am 2)) (C := RX9) (T := TX9) (N := 13) hx hb hts in_X9 hown hK.1 hP 0 rfl rfl 1 (by decide) (hts _ q1163) (fun _ h9 => h9) rfl dX9_standingPulled_77 ?_
        refine lv_iload hx hb dX9_standingPulled_80 (lv_at hl 7 rfl) ?_
        refine x_Sv (wN := fun _ => (wM G am ho rn ln pl sd lt ro rf nb ++ [(am 1, .inl (G.2 0, 54, .inl (row r)))] ++ [(am 2, .inl (G.2 0, 54, .inl (row (pMins (pTwQ q t2 (decide (x2 = 1))) k))))] ++ [(am 3, .inl (G.2 0, 54, .inl (row r2)))] ++ [(am 4, .inl (G.2 0, 54, .inl (row r4)))])) ⟨C0, hK, hP, hD, hS, hA⟩ ((m9_minutesOn l G (am 2) (pTwQ q t2 (decide (x2 = 1))) hob k hk1)) (va_cwS 2 hts (lw_S q1272 q1273 q95 q1274) rfl rfl rfl (by decide +kernel) ⟨Nat.le_of_ble_eq_true rfl, Nat.le_of_ble_eq_true rfl⟩) [6] [0, 2, 4, 6, 8, 10, 1, 14, 16] rfl (fun _ => rfl) rfl rfl hl.1 rfl (Nat.le_of_ble_eq_true rfl) dX9_standingPulled_82 ⟨(Nat.le_of_ble_eq_true rfl), (Nat.le_of_ble_eq_true rfl)⟩ (fun u_16 H locs hw_16 hP hD hS => ?_)
        have hP : va_P G.1 vwCl (wM G am ho rn ln pl sd lt ro rf nb ++ [(am 1, .inl (G.2 0, 54, .inl (row r)))] ++ [(am 2, .inl (G.2 0, 54, .inl (row (pMins (pTwQ q t2 (decide (x2 = 1))) k))))] ++ [(am 3, .inl (G.2 0, 54, .inl (row r2)))] ++ [(am 4, .inl (G.2 0, 54, .inl (row r4)))]) H := hP
        have hD : va_D A (wM G am ho rn ln pl sd lt ro rf nb ++ [(am 1, .inl (G.2 0, 54, .inl (row r)))] ++ [(am 2, .inl (G.2 0, 54, .inl (row (pMins (pTwQ q t2 (decide (x2 = 1))) k))))] ++ [(am 3, .inl (G.2 0, 54, .inl (row r2)))] ++ [(am 4, .inl (G.2 0, 54, .inl (row r4)))]) := hD
        refine lv_aload_n hx hb dX9_standingPulled_85 rfl (lv_at hl 2 rfl) ?_
        refine x_Vi (wN := fun _ => (wM G am ho rn ln pl sd lt ro rf nb ++ [(am 1, .inl (G.2 0, 54, .inl (row r)))] ++ [(am 2, .inl (G.2 0, 54, .inl (row (pMins (pTwQ q t2 (decide (x2 = 1))) k))))] ++ [(am 3, .inl (G.2 0, 54, .inl (row r2)))] ++ [(am 4, .inl (G.2 0, 54, .inl (row r4)))])) ⟨C0, hK, hP, hD, hS, hA⟩ 0 rfl (ci := 8) rfl rfl ((m9_standingIn l G am r (pMins (pTwQ q t2 (decide (x2 = 1))) k) r2 r4 ho rn ln pl sd lt ro rf nb hr hp (Ok.mins hob))) (cwV 0 hts (lw_V q1333 q1335 qs76 q95 q1336) rfl rfl rfl (by decide +kernel) ⟨Nat.le_of_ble_eq_true rfl, Nat.le_of_ble_eq_true rfl⟩) [0, 1, 2, 3, 4, 5, 6, 7, 8] [1, 3, 5, 7, 9, 11, 13, 15, 17] rfl (fun _ => rfl) rfl rfl hl.1 rfl (Nat.le_of_ble_eq_true rfl) dX9_standingPulled_86 ⟨(Nat.le_of_ble_eq_true rfl), (Nat.le_of_ble_eq_true rfl)⟩ (fun r_17 u_17 H locs hw_17 hP hD hS => ?_)
        have hw_17 : (pStN (pMins (pTwQ q t2 (decide (x2 = 1))) k) : Int32) = r_17 := hw_17.symm
        subst hw_17
        refine hret _ _ _ _ _ _ (pStN (pMins (pTwQ q t2 (decide (x2 = 1))) k)) (pMins (pTwQ q t2 (decide (x2 = 1))) k) dX9_standingPulled_89 ?_ hP hD hS (Nat.le_of_ble_eq_true rfl) (Nat.le_of_ble_eq_true rfl)
        unfold sPl
        rw [hqe]
      · skip
        have g_15 := (nI_eq (by omega) (by omega)).mp (show nI x2 = nI 1 from c_15)
        refine lv_aload_n hx hb dX9_standingPulled_49 rfl (lv_at hl 1 rfl) ?_
        refine va_get (D := G.1) (ci := 8) (v := .ref (am 2)) (C := RX9) (T := TX9) (N := 13) hx hb hts in_X9 hown hK.1 hP 0 rfl rfl 1 (by decide) (hts _ q1163) (fun _ h9 => h9) rfl dX9_standingPulled_50 ?_
        refine lv_iload_n hx hb dX9_standingPulled_53 rfl (lv_at hl 4 rfl) ?_
        refine x_Si (wN := fun _ => (wM G am ho rn ln pl sd lt ro rf nb ++ [(am 1, .inl (G.2 0, 54, .inl (row r)))] ++ [(am 2, .inl (G.2 0, 54, .inl (row q)))] ++ [(am 3, .inl (G.2 0, 54, .inl (row r2)))] ++ [(am 4, .inl (G.2 0, 54, .inl (row r4)))])) ⟨C0, hK, hP, hD, hS, hA⟩ ((m9_stands l G (am 2) q hoq t2 (by omega))) (va_cwS 2 hts (lw_S q1251 q1252 q95 q1253) rfl rfl rfl (by decide +kernel) ⟨Nat.le_of_ble_eq_true rfl, Nat.le_of_ble_eq_true rfl⟩) [6] [0, 2, 4, 6, 8, 10, 1, 14, 16] rfl (fun _ => rfl) rfl rfl hl.1 rfl (Nat.le_of_ble_eq_true rfl) dX9_standingPulled_54 ⟨(Nat.le_of_ble_eq_true rfl), (Nat.le_of_ble_eq_true rfl)⟩ (fun r_18 u_18 H locs hw_18 hP hD hS => ?_)
        have hw_18 : (bI (pSt q t2) : Int32) = r_18 := hw_18.symm
        subst hw_18
        refine lv_if_eq (tgt := 73) hx hb dX9_standingPulled_57 (by decide) (fun c_19 => ?_) (fun c_19 => ?_)
        · skip
          refine lv_iconst (v := 0) hx hb dX9_standingPulled_73 (by decide) ?_
          have eb : pTwQ q t2 (decide (x2 = 1)) = q := pTwQ_n (b := decide (x2 = 1)) (fun _ => show pSt q t2 = false from (by first | exact bI_n0 c_19 | exact bI_0.mp c_19))
          have hob : Ok (pTwQ q t2 (decide (x2 = 1))) := by rw [eb]; exact hoq
          have hmb : mny (pTwQ q t2 (decide (x2 = 1))) = mny r := by rw [eb]; exact hmq
          have hP : va_P G.1 vwCl (wM G am ho rn ln pl sd lt ro rf nb ++ [(am 1, .inl (G.2 0, 54, .inl (row r)))] ++ [(am 2, .inl (G.2 0, 54, .inl (row (pTwQ q t2 (decide (x2 = 1))))))] ++ [(am 3, .inl (G.2 0, 54, .inl (row r2)))] ++ [(am 4, .inl (G.2 0, 54, .inl (row r4)))]) H := by rw [eb]; exact hP
          have hD : va_D A (wM G am ho rn ln pl sd lt ro rf nb ++ [(am 1, .inl (G.2 0, 54, .inl (row r)))] ++ [(am 2, .inl (G.2 0, 54, .inl (row (pTwQ q t2 (decide (x2 = 1))))))] ++ [(am 3, .inl (G.2 0, 54, .inl (row r2)))] ++ [(am 4, .inl (G.2 0, 54, .inl (row r4)))]) := by rw [eb]; exact hD
          refine lv_istore (lv' := [(7, .int 0), (6, .int 0), (0, .ref (am 0)), (1, .int (nI t1)), (2, .int (nI x1)), (3, .int (nI t2)), (4, .int (nI x2)), (5, .int (nI k))]) hx hb dX9_standingPulled_74 hl (by decide) rfl (fun ls hl => ?_)
          refine lv_aload_n hx hb dX9_standingPulled_76 rfl (lv_at hl 2 rfl) ?_
          refine va_get (D := G.1) (ci := 8) (v := .ref (am 2)) (C := RX9) (T := TX9) (N := 13) hx hb hts in_X9 hown hK.1 hP 0 rfl rfl 1 (by decide) (hts _ q1163) (fun _ h9 => h9) rfl dX9_standingPulled_77 ?_
          refine lv_iload hx hb dX9_standingPulled_80 (lv_at hl 7 rfl) ?_
          refine x_Sv (wN := fun _ => (wM G am ho rn ln pl sd lt ro rf nb ++ [(am 1, .inl (G.2 0, 54, .inl (row r)))] ++ [(am 2, .inl (G.2 0, 54, .inl (row (pMins (pTwQ q t2 (decide (x2 = 1))) k))))] ++ [(am 3, .inl (G.2 0, 54, .inl (row r2)))] ++ [(am 4, .inl (G.2 0, 54, .inl (row r4)))])) ⟨C0, hK, hP, hD, hS, hA⟩ ((m9_minutesOn l G (am 2) (pTwQ q t2 (decide (x2 = 1))) hob k hk1)) (va_cwS 2 hts (lw_S q1272 q1273 q95 q1274) rfl rfl rfl (by decide +kernel) ⟨Nat.le_of_ble_eq_true rfl, Nat.le_of_ble_eq_true rfl⟩) [6] [0, 2, 4, 6, 8, 10, 1, 14, 16] rfl (fun _ => rfl) rfl rfl hl.1 rfl (Nat.le_of_ble_eq_true rfl) dX9_standingPulled_82 ⟨(Nat.le_of_ble_eq_true rfl), (Nat.le_of_ble_eq_true rfl)⟩ (fun u_20 H locs hw_20 hP hD hS => ?_)
          have hP : va_P G.1 vwCl (wM G am ho rn ln pl sd lt ro rf nb ++ [(am 1, .inl (G.2 0, 54, .inl (row r)))] ++ [(am 2, .inl (G.2 0, 54, .inl (row (pMins (pTwQ q t2 (decide (x2 = 1))) k))))] ++ [(am 3, .inl (G.2 0, 54, .inl (row r2)))] ++ [(am 4, .inl (G.2 0, 54, .inl (row r4)))]) H := hP
          have hD : va_D A (wM G am ho rn ln pl sd lt ro rf nb ++ [(am 1, .inl (G.2 0, 54, .inl (row r)))] ++ [(am 2, .inl (G.2 0, 54, .inl (row (pMins (pTwQ q t2 (decide (x2 = 1))) k))))] ++ [(am 3, .inl (G.2 0, 54, .inl (row r2)))] ++ [(am 4, .inl (G.2 0, 54, .inl (row r4)))]) := hD
          refine lv_aload_n hx hb dX9_standingPulled_85 rfl (lv_at hl 2 rfl) ?_
          refine x_Vi (wN := fun _ => (wM G am ho rn ln pl sd lt ro rf nb ++ [(am 1, .inl (G.2 0, 54, .inl (row r)))] ++ [(am 2, .inl (G.2 0, 54, .inl (row (pMins (pTwQ q t2 (decide (x2 = 1))) k))))] ++ [(am 3, .inl (G.2 0, 54, .inl (row r2)))] ++ [(am 4, .inl (G.2 0, 54, .inl (row r4)))])) ⟨C0, hK, hP, hD, hS, hA⟩ 0 rfl (ci := 8) rfl rfl ((m9_standingIn l G am r (pMins (pTwQ q t2 (decide (x2 = 1))) k) r2 r4 ho rn ln pl sd lt ro rf nb hr hp (Ok.mins hob))) (cwV 0 hts (lw_V q1333 q1335 qs76 q95 q1336) rfl rfl rfl (by decide +kernel) ⟨Nat.le_of_ble_eq_true rfl, Nat.le_of_ble_eq_true rfl⟩) [0, 1, 2, 3, 4, 5, 6, 7, 8] [1, 3, 5, 7, 9, 11, 13, 15, 17] rfl (fun _ => rfl) rfl rfl hl.1 rfl (Nat.le_of_ble_eq_true rfl) dX9_standingPulled_86 ⟨(Nat.le_of_ble_eq_true rfl), (Nat.le_of_ble_eq_true rfl)⟩ (fun r_21 u_21 H locs hw_21 hP hD hS => ?_)
          have hw_21 : (pStN (pMins (pTwQ q t2 (decide (x2 = 1))) k) : Int32) = r_21 := hw_21.symm
          subst hw_21
          refine hret _ _ _ _ _ _ (pStN (pMins (pTwQ q t2 (decide (x2 = 1))) k)) (pMins (pTwQ q t2 (decide (x2 = 1))) k) dX9_standingPulled_89 ?_ hP hD hS (Nat.le_of_ble_eq_true rfl) (Nat.le_of_ble_eq_true rfl)
          unfold sPl
          rw [hqe]
        · skip
          refine lv_aload_n hx hb dX9_standingPulled_60 rfl (lv_at hl 1 rfl) ?_
          refine va_get (D := G.1) (ci := 8) (v := .ref (am 2)) (C := RX9) (T := TX9) (N := 13) hx hb hts in_X9 hown hK.1 hP 0 rfl rfl 1 (by decide) (hts _ q1163) (fun _ h9 => h9) rfl dX9_standingPulled_61 ?_
          refine lv_iload_n hx hb dX9_standingPulled_64 rfl (lv_at hl 4 rfl) ?_
          refine lv_bipush (v := 9) hx hb dX9_standingPulled_65 (by decide) ?_
          refine x_Si (wN := fun _ => (wM G am ho rn ln pl sd lt ro rf nb ++ [(am 1, .inl (G.2 0, 54, .inl (row r)))] ++ [(am 2, .inl (G.2 0, 54, .inl (row (pPull q t2 9))))] ++ [(am 3, .inl (G.2 0, 54, .inl (row r2)))] ++ [(am 4, .inl (G.2 0, 54, .inl (row r4)))])) ⟨C0, hK, hP, hD, hS, hA⟩ ((m9_pull l G (am 2) q hoq t2 9 (by omega))) (va_cwS 3 hts (lw_S q1257 q1258 q95 q1259) rfl rfl rfl (by decide +kernel) ⟨Nat.le_of_ble_eq_true rfl, Nat.le_of_ble_eq_true rfl⟩) [6] [0, 2, 4, 6, 8, 10, 1, 14, 16] rfl (fun _ => rfl) rfl rfl hl.1 rfl (Nat.le_of_ble_eq_true rfl) dX9_standingPulled_67 ⟨(Nat.le_of_ble_eq_true rfl), (Nat.le_of_ble_eq_true rfl)⟩ (fun r_22 u_22 H locs hw_22 hP hD hS => ?_)
          have hw_22 : (pPullN q t2 9 : Int32) = r_22 := hw_22.symm
          subst hw_22
          have hP : va_P G.1 vwCl (wM G am ho rn ln pl sd lt ro rf nb ++ [(am 1, .inl (G.2 0, 54, .inl (row r)))] ++ [(am 2, .inl (G.2 0, 54, .inl (row (pPull q t2 9))))] ++ [(am 3, .inl (G.2 0, 54, .inl (row r2)))] ++ [(am 4, .inl (G.2 0, 54, .inl (row r4)))]) H := hP
          have hD : va_D A (wM G am ho rn ln pl sd lt ro rf nb ++ [(am 1, .inl (G.2 0, 54, .inl (row r)))] ++ [(am 2, .inl (G.2 0, 54, .inl (row (pPull q t2 9))))] ++ [(am 3, .inl (G.2 0, 54, .inl (row r2)))] ++ [(am 4, .inl (G.2 0, 54, .inl (row r4)))]) := hD
          refine lv_goto (tgt := 74) hx hb dX9_standingPulled_70 (by decide) ?_
          have eb : pTwQ q t2 (decide (x2 = 1)) = pPull q t2 9 := pTwQ_y (b := decide (x2 = 1)) (decide_eq_true (by omega)) (show pSt q t2 = true from (by first | exact bI_n0 c_19 | exact bI_0.mp c_19))
          have hob : Ok (pTwQ q t2 (decide (x2 = 1))) := by rw [eb]; exact Ok.pull hoq
          have hmb : mny (pTwQ q t2 (decide (x2 = 1))) = mny r := by rw [eb]; exact hmq
          have hP : va_P G.1 vwCl (wM G am ho rn ln pl sd lt ro rf nb ++ [(am 1, .inl (G.2 0, 54, .inl (row r)))] ++ [(am 2, .inl (G.2 0, 54, .inl (row (pTwQ q t2 (decide (x2 = 1))))))] ++ [(am 3, .inl (G.2 0, 54, .inl (row r2)))] ++ [(am 4, .inl (G.2 0, 54, .inl (row r4)))]) H := by rw [eb]; exact hP
          have hD : va_D A (wM G am ho rn ln pl sd lt ro rf nb ++ [(am 1, .inl (G.2 0, 54, .inl (row r)))] ++ [(am 2, .inl (G.2 0, 54, .inl (row (pTwQ q t2 (decide (x2 = 1))))))] ++ [(am 3, .inl (G.2 0, 54, .inl (row r2)))] ++ [(am 4, .inl (G.2 0, 54, .inl (row r4)))]) := by rw [eb]; exact hD
          refine lv_istore (lv' := [(7, .int (pPullN q t2 9)), (6, .int 0), (0, .ref (am 0)), (1, .int (nI t1)), (2, .int (nI x1)), (3, .int (nI t2)), (4, .int (nI x2)), (5, .int (nI k))]) hx hb dX9_standingPulled_74 hl (by decide) rfl (fun ls hl => ?_)
          refine lv_aload_n hx hb dX9_standingPulled_76 rfl (lv_at hl 2 rfl) ?_
          refine va_get (D := G.1) (ci := 8) (v := .ref (am 2)) (C := RX9) (T := TX9) (N := 13) hx hb hts in_X9 hown hK.1 hP 0 rfl rfl 1 (by decide) (hts _ q1163) (fun _ h9 => h9) rfl dX9_standingPulled_77 ?_
          refine lv_iload hx hb dX9_standingPulled_80 (lv_at hl 7 rfl) ?_
          refine x_Sv (wN := fun _ => (wM G am ho rn ln pl sd lt ro rf nb ++ [(am 1, .inl (G.2 0, 54, .inl (row r)))] ++ [(am 2, .inl (G.2 0, 54, .inl (row (pMins (pTwQ q t2 (decide (x2 = 1))) k))))] ++ [(am 3, .inl (G.2 0, 54, .inl (row r2)))] ++ [(am 4, .inl (G.2 0, 54, .inl (row r4)))])) ⟨C0, hK, hP, hD, hS, hA⟩ ((m9_minutesOn l G (am 2) (pTwQ q t2 (decide (x2 = 1))) hob k hk1)) (va_cwS 2 hts (lw_S q1272 q1273 q95 q1274) rfl rfl rfl (by decide +kernel) ⟨Nat.le_of_ble_eq_true rfl, Nat.le_of_ble_eq_true rfl⟩) [6] [0, 2, 4, 6, 8, 10, 1, 14, 16] rfl (fun _ => rfl) rfl rfl hl.1 rfl (Nat.le_of_ble_eq_true rfl) dX9_standingPulled_82 ⟨(Nat.le_of_ble_eq_true rfl), (Nat.le_of_ble_eq_true rfl)⟩ (fun u_23 H locs hw_23 hP hD hS => ?_)
          have hP : va_P G.1 vwCl (wM G am ho rn ln pl sd lt ro rf nb ++ [(am 1, .inl (G.2 0, 54, .inl (row r)))] ++ [(am 2, .inl (G.2 0, 54, .inl (row (pMins (pTwQ q t2 (decide (x2 = 1))) k))))] ++ [(am 3, .inl (G.2 0, 54, .inl (row r2)))] ++ [(am 4, .inl (G.2 0, 54, .inl (row r4)))]) H := hP
          have hD : va_D A (wM G am ho rn ln pl sd lt ro rf nb ++ [(am 1, .inl (G.2 0, 54, .inl (row r)))] ++ [(am 2, .inl (G.2 0, 54, .inl (row (pMins (pTwQ q t2 (decide (x2 = 1))) k))))] ++ [(am 3, .inl (G.2 0, 54, .inl (row r2)))] ++ [(am 4, .inl (G.2 0, 54, .inl (row r4)))]) := hD
          refine lv_aload_n hx hb dX9_standingPulled_85 rfl (lv_at hl 2 rfl) ?_
          refine x_Vi (wN := fun _ => (wM G am ho rn ln pl sd lt ro rf nb ++ [(am 1, .inl (G.2 0, 54, .inl (row r)))] ++ [(am 2, .inl (G.2 0, 54, .inl (row (pMins (pTwQ q t2 (decide (x2 = 1))) k))))] ++ [(am 3, .inl (G.2 0, 54, .inl (row r2)))] ++ [(am 4, .inl (G.2 0, 54, .inl (row r4)))])) ⟨C0, hK, hP, hD, hS, hA⟩ 0 rfl (ci := 8) rfl rfl ((m9_standingIn l G am r (pMins (pTwQ q t2 (decide (x2 = 1))) k) r2 r4 ho rn ln pl sd lt ro rf nb hr hp (Ok.mins hob))) (cwV 0 hts (lw_V q1333 q1335 qs76 q95 q1336) rfl rfl rfl (by decide +kernel) ⟨Nat.le_of_ble_eq_true rfl, Nat.le_of_ble_eq_true rfl⟩) [0, 1, 2, 3, 4, 5, 6, 7, 8] [1, 3, 5, 7, 9, 11, 13, 15, 17] rfl (fun _ => rfl) rfl rfl hl.1 rfl (Nat.le_of_ble_eq_true rfl) dX9_standingPulled_86 ⟨(Nat.le_of_ble_eq_true rfl), (Nat.le_of_ble_eq_true rfl)⟩ (fun r_24 u_24 H locs hw_24 hP hD hS => ?_)
          have hw_24 : (pStN (pMins (pTwQ q t2 (decide (x2 = 1))) k) : Int32) = r_24 := hw_24.symm
          subst hw_24
          refine hret _ _ _ _ _ _ (pStN (pMins (pTwQ q t2 (decide (x2 = 1))) k)) (pMins (pTwQ q t2 (decide (x2 = 1))) k) dX9_standingPulled_89 ?_ hP hD hS (Nat.le_of_ble_eq_true rfl) (Nat.le_of_ble_eq_true rfl)
          unfold sPl
          rw [hqe]
    · skip
      refine lv_aload_n hx hb dX9_standingPulled_27 rfl (lv_at hl 0 rfl) ?_
      refine va_get (D := G.1) (ci := 8) (v := .ref (am 2)) (C := RX9) (T := TX9) (N := 13) hx hb hts in_X9 hown hK.1 hP 0 rfl rfl 1 (by decide) (hts _ q1163) (fun _ h9 => h9) rfl dX9_standingPulled_28 ?_
      refine lv_iload_n hx hb dX9_standingPulled_31 rfl (lv_at hl 1 rfl) ?_
      refine lv_bipush (v := 9) hx hb dX9_standingPulled_32 (by decide) ?_
      refine x_Si (wN := fun _ => (wM G am ho rn ln pl sd lt ro rf nb ++ [(am 1, .inl (G.2 0, 54, .inl (row r)))] ++ [(am 2, .inl (G.2 0, 54, .inl (row (pPull r t1 9))))] ++ [(am 3, .inl (G.2 0, 54, .inl (row r2)))] ++ [(am 4, .inl (G.2 0, 54, .inl (row r4)))])) ⟨C0, hK, hP, hD, hS, hA⟩ ((m9_pull l G (am 2) r hr t1 9 (by omega))) (va_cwS 3 hts (lw_S q1257 q1258 q95 q1259) rfl rfl rfl (by decide +kernel) ⟨Nat.le_of_ble_eq_true rfl, Nat.le_of_ble_eq_true rfl⟩) [6] [0, 2, 4, 6, 8, 10, 1, 14, 16] rfl (fun _ => rfl) rfl rfl hl.1 rfl (Nat.le_of_ble_eq_true rfl) dX9_standingPulled_34 ⟨(Nat.le_of_ble_eq_true rfl), (Nat.le_of_ble_eq_true rfl)⟩ (fun r_25 u_25 H locs hw_25 hP hD hS => ?_)
      have hw_25 : (pPullN r t1 9 : Int32) = r_25 := hw_25.symm
      subst hw_25
      have hP : va_P G.1 vwCl (wM G am ho rn ln pl sd lt ro rf nb ++ [(am 1, .inl (G.2 0, 54, .inl (row r)))] ++ [(am 2, .inl (G.2 0, 54, .inl (row (pPull r t1 9))))] ++ [(am 3, .inl (G.2 0, 54, .inl (row r2)))] ++ [(am 4, .inl (G.2 0, 54, .inl (row r4)))]) H := hP
      have hD : va_D A (wM G am ho rn ln pl sd lt ro rf nb ++ [(am 1, .inl (G.2 0, 54, .inl (row r)))] ++ [(am 2, .inl (G.2 0, 54, .inl (row (pPull r t1 9))))] ++ [(am 3, .inl (G.2 0, 54, .inl (row r2)))] ++ [(am 4, .inl (G.2 0, 54, .inl (row r4)))]) := hD
      refine lv_goto (tgt := 41) hx hb dX9_standingPulled_37 (by decide) ?_
      have ea : pTwQ r t1 (decide (x1 = 1)) = pPull r t1 9 := pTwQ_y (b := decide (x1 = 1)) (decide_eq_true (by omega)) (show pSt r t1 = true from (by first | exact bI_n0 c_14 | exact bI_0.mp c_14))
      have hoq : Ok (pTwQ r t1 (decide (x1 = 1))) := by rw [ea]; exact Ok.pull hr
      have hmq : mny (pTwQ r t1 (decide (x1 = 1))) = mny r := by rw [ea]; rfl
      have hP : va_P G.1 vwCl (wM G am ho rn ln pl sd lt ro rf nb ++ [(am 1, .inl (G.2 0, 54, .inl (row r)))] ++ [(am 2, .inl (G.2 0, 54, .inl (row (pTwQ r t1 (decide (x1 = 1))))))] ++ [(am 3, .inl (G.2 0, 54, .inl (row r2)))] ++ [(am 4, .inl (G.2 0, 54, .inl (row r4)))]) H := by rw [ea]; exact hP
      have hD : va_D A (wM G am ho rn ln pl sd lt ro rf nb ++ [(am 1, .inl (G.2 0, 54, .inl (row r)))] ++ [(am 2, .inl (G.2 0, 54, .inl (row (pTwQ r t1 (decide (x1 = 1))))))] ++ [(am 3, .inl (G.2 0, 54, .inl (row r2)))] ++ [(am 4, .inl (G.2 0, 54, .inl (row r4)))]) := by rw [ea]; exact hD
      generalize hqe : pTwQ r t1 (decide (x1 = 1)) = q at hP hD hoq hmq
      have hP : va_P G.1 vwCl (wM G am ho rn ln pl sd lt ro rf nb ++ [(am 1, .inl (G.2 0, 54, .inl (row r)))] ++ [(am 2, .inl (G.2 0, 54, .inl (row q)))] ++ [(am 3, .inl (G.2 0, 54, .inl (row r2)))] ++ [(am 4, .inl (G.2 0, 54, .inl (row r4)))]) H := hP
      have hD : va_D A (wM G am ho rn ln pl sd lt ro rf nb ++ [(am 1, .inl (G.2 0, 54, .inl (row r)))] ++ [(am 2, .inl (G.2 0, 54, .inl (row q)))] ++ [(am 3, .inl (G.2 0, 54, .inl (row r2)))] ++ [(am 4, .inl (G.2 0, 54, .inl (row r4)))]) := hD
      refine lv_istore (lv' := [(6, .int (pPullN r t1 9)), (0, .ref (am 0)), (1, .int (nI t1)), (2, .int (nI x1)), (3, .int (nI t2)), (4, .int (nI x2)), (5, .int (nI k))]) hx hb dX9_standingPulled_41 hl (by decide) rfl (fun ls hl => ?_)
      refine lv_iload hx hb dX9_standingPulled_43 (lv_at hl 5 rfl) ?_
      refine lv_iconst (v := 1) hx hb dX9_standingPulled_45 (by decide) ?_
      refine lv_icmp_ne (tgt := 73) hx hb dX9_standingPulled_46 (by decide) (fun c_26 => ?_) (fun c_26 => ?_)
      · skip
        have g_26 := mt (nI_eq (by omega) (by omega)).mpr (show ¬ (nI x2 = nI 1) from c_26)
        refine lv_iconst (v := 0) hx hb dX9_standingPulled_73 (by decide) ?_
        have eb : pTwQ q t2 (decide (x2 = 1)) = q := pTwQ_n (t := t2) (b := decide (x2 = 1)) (fun z => absurd (of_decide_eq_true z) (by omega))
        have hob : Ok (pTwQ q t2 (decide (x2 = 1))) := by rw [eb]; exact hoq
        have hmb : mny (pTwQ q t2 (decide (x2 = 1))) = mny r := by rw [eb]; exact hmq
        have hP : va_P G.1 vwCl (wM G am ho rn ln pl sd lt ro rf nb ++ [(am 1, .inl (G.2 0, 54, .inl (row r)))] ++ [(am 2, .inl (G.2 0, 54, .inl (row (pTwQ q t2 (decide (x2 = 1))))))] ++ [(am 3, .inl (G.2 0, 54, .inl (row r2)))] ++ [(am 4, .inl (G.2 0, 54, .inl (row r4)))]) H := by rw [eb]; exact hP
        have hD : va_D A (wM G am ho rn ln pl sd lt ro rf nb ++ [(am 1, .inl (G.2 0, 54, .inl (row r)))] ++ [(am 2, .inl (G.2 0, 54, .inl (row (pTwQ q t2 (decide (x2 = 1))))))] ++ [(am 3, .inl (G.2 0, 54, .inl (row r2)))] ++ [(am 4, .inl (G.2 0, 54, .inl (row r4)))]) := by rw [eb]; exact hD
        refine lv_istore (lv' := [(7, .int 0), (6, .int (pPullN r t1 9)), (0, .ref (am 0)), (1, .int (nI t1)), (2, .int (nI x1)), (3, .int (nI t2)), (4, .int (nI x2)), (5, .int (nI k))]) hx hb dX9_standingPulled_74 hl (by decide) rfl (fun ls hl => ?_)
        refine lv_aload_n hx hb dX9_standingPulled_76 rfl (lv_at hl 2 rfl) ?_
        refine va_get (D := G.1) (ci := 8) (v := .ref (am 2)) (C := RX9) (T := TX9) (N := 13) hx hb hts in_X9 hown hK.1 hP 0 rfl rfl 1 (by decide) (hts _ q1163) (fun _ h9 => h9) rfl dX9_standingPulled_77 ?_
        refine lv_iload hx hb dX9_standingPulled_80 (lv_at hl 7 rfl) ?_
        refine x_Sv (wN := fun _ => (wM G am ho rn ln pl sd lt ro rf nb ++ [(am 1, .inl (G.2 0, 54, .inl (row r)))] ++ [(am 2, .inl (G.2 0, 54, .inl (row (pMins (pTwQ q t2 (decide (x2 = 1))) k))))] ++ [(am 3, .inl (G.2 0, 54, .inl (row r2)))] ++ [(am 4, .inl (G.2 0, 54, .inl (row r4)))])) ⟨C0, hK, hP, hD, hS, hA⟩ ((m9_minutesOn l G (am 2) (pTwQ q t2 (decide (x2 = 1))) hob k hk1)) (va_cwS 2 hts (lw_S q1272 q1273 q95 q1274) rfl rfl rfl (by decide +kernel) ⟨Nat.le_of_ble_eq_true rfl, Nat.le_of_ble_eq_true rfl⟩) [6] [0, 2, 4, 6, 8, 10, 1, 14, 16] rfl (fun _ => rfl) rfl rfl hl.1 rfl (Nat.le_of_ble_eq_true rfl) dX9_standingPulled_82 ⟨(Nat.le_of_ble_eq_true rfl), (Nat.le_of_ble_eq_true rfl)⟩ (fun u_27 H locs hw_27 hP hD hS => ?_)
        have hP : va_P G.1 vwCl (wM G am ho rn ln pl sd lt ro rf nb ++ [(am 1, .inl (G.2 0, 54, .inl (row r)))] ++ [(am 2, .inl (G.2 0, 54, .inl (row (pMins (pTwQ q t2 (decide (x2 = 1))) k))))] ++ [(am 3, .inl (G.2 0, 54, .inl (row r2)))] ++ [(am 4, .inl (G.2 0, 54, .inl (row r4)))]) H := hP
        have hD : va_D A (wM G am ho rn ln pl sd lt ro rf nb ++ [(am 1, .inl (G.2 0, 54, .inl (row r)))] ++ [(am 2, .inl (G.2 0, 54, .inl (row (pMins (pTwQ q t2 (decide (x2 = 1))) k))))] ++ [(am 3, .inl (G.2 0, 54, .inl (row r2)))] ++ [(am 4, .inl (G.2 0, 54, .inl (row r4)))]) := hD
        refine lv_aload_n hx hb dX9_standingPulled_85 rfl (lv_at hl 2 rfl) ?_
        refine x_Vi (wN := fun _ => (wM G am ho rn ln pl sd lt ro rf nb ++ [(am 1, .inl (G.2 0, 54, .inl (row r)))] ++ [(am 2, .inl (G.2 0, 54, .inl (row (pMins (pTwQ q t2 (decide (x2 = 1))) k))))] ++ [(am 3, .inl (G.2 0, 54, .inl (row r2)))] ++ [(am 4, .inl (G.2 0, 54, .inl (row r4)))])) ⟨C0, hK, hP, hD, hS, hA⟩ 0 rfl (ci := 8) rfl rfl ((m9_standingIn l G am r (pMins (pTwQ q t2 (decide (x2 = 1))) k) r2 r4 ho rn ln pl sd lt ro rf nb hr hp (Ok.mins hob))) (cwV 0 hts (lw_V q1333 q1335 qs76 q95 q1336) rfl rfl rfl (by decide +kernel) ⟨Nat.le_of_ble_eq_true rfl, Nat.le_of_ble_eq_true rfl⟩) [0, 1, 2, 3, 4, 5, 6, 7, 8] [1, 3, 5, 7, 9, 11, 13, 15, 17] rfl (fun _ => rfl) rfl rfl hl.1 rfl (Nat.le_of_ble_eq_true rfl) dX9_standingPulled_86 ⟨(Nat.le_of_ble_eq_true rfl), (Nat.le_of_ble_eq_true rfl)⟩ (fun r_28 u_28 H locs hw_28 hP hD hS => ?_)
        have hw_28 : (pStN (pMins (pTwQ q t2 (decide (x2 = 1))) k) : Int32) = r_28 := hw_28.symm
        subst hw_28
        refine hret _ _ _ _ _ _ (pStN (pMins (pTwQ q t2 (decide (x2 = 1))) k)) (pMins (pTwQ q t2 (decide (x2 = 1))) k) dX9_standingPulled_89 ?_ hP hD hS (Nat.le_of_ble_eq_true rfl) (Nat.le_of_ble_eq_true rfl)
        unfold sPl
        rw [hqe]
      · skip
        have g_26 := (nI_eq (by omega) (by omega)).mp (show nI x2 = nI 1 from c_26)
        refine lv_aload_n hx hb dX9_standingPulled_49 rfl (lv_at hl 1 rfl) ?_
        refine va_get (D := G.1) (ci := 8) (v := .ref (am 2)) (C := RX9) (T := TX9) (N := 13) hx hb hts in_X9 hown hK.1 hP 0 rfl rfl 1 (by decide) (hts _ q1163) (fun _ h9 => h9) rfl dX9_standingPulled_50 ?_
        refine lv_iload_n hx hb dX9_standingPulled_53 rfl (lv_at hl 4 rfl) ?_
        refine x_Si (wN := fun _ => (wM G am ho rn ln pl sd lt ro rf nb ++ [(am 1, .inl (G.2 0, 54, .inl (row r)))] ++ [(am 2, .inl (G.2 0, 54, .inl (row q)))] ++ [(am 3, .inl (G.2 0, 54, .inl (row r2)))] ++ [(am 4, .inl (G.2 0, 54, .inl (row r4)))])) ⟨C0, hK, hP, hD, hS, hA⟩ ((m9_stands l G (am 2) q hoq t2 (by omega))) (va_cwS 2 hts (lw_S q1251 q1252 q95 q1253) rfl rfl rfl (by decide +kernel) ⟨Nat.le_of_ble_eq_true rfl, Nat.le_of_ble_eq_true rfl⟩) [6] [0, 2, 4, 6, 8, 10, 1, 14, 16] rfl (fun _ => rfl) rfl rfl hl.1 rfl (Nat.le_of_ble_eq_true rfl) dX9_standingPulled_54 ⟨(Nat.le_of_ble_eq_true rfl), (Nat.le_of_ble_eq_true rfl)⟩ (fun r_29 u_29 H locs hw_29 hP hD hS => ?_)
        have hw_29 : (bI (pSt q t2) : Int32) = r_29 := hw_29.symm
        subst hw_29
        refine lv_if_eq (tgt := 73) hx hb dX9_standingPulled_57 (by decide) (fun c_30 => ?_) (fun c_30 => ?_)
        · skip
          refine lv_iconst (v := 0) hx hb dX9_standingPulled_73 (by decide) ?_
          have eb : pTwQ q t2 (decide (x2 = 1)) = q := pTwQ_n (b := decide (x2 = 1)) (fun _ => show pSt q t2 = false from (by first | exact bI_n0 c_30 | exact bI_0.mp c_30))
          have hob : Ok (pTwQ q t2 (decide (x2 = 1))) := by rw [eb]; exact hoq
          have hmb : mny (pTwQ q t2 (decide (x2 = 1))) = mny r := by rw [eb]; exact hmq
          have hP : va_P G.1 vwCl (wM G am ho rn ln pl sd lt ro rf nb ++ [(am 1, .inl (G.2 0, 54, .inl (row r)))] ++ [(am 2, .inl (G.2 0, 54, .inl (row (pTwQ q t2 (decide (x2 = 1))))))] ++ [(am 3, .inl (G.2 0, 54, .inl (row r2)))] ++ [(am 4, .inl (G.2 0, 54, .inl (row r4)))]) H := by rw [eb]; exact hP
          have hD : va_D A (wM G am ho rn ln pl sd lt ro rf nb ++ [(am 1, .inl (G.2 0, 54, .inl (row r)))] ++ [(am 2, .inl (G.2 0, 54, .inl (row (pTwQ q t2 (decide (x2 = 1))))))] ++ [(am 3, .inl (G.2 0, 54, .inl (row r2)))] ++ [(am 4, .inl (G.2 0, 54, .inl (row r4)))]) := by rw [eb]; exact hD
          refine lv_istore (lv' := [(7, .int 0), (6, .int (pPullN r t1 9)), (0, .ref (am 0)), (1, .int (nI t1)), (2, .int (nI x1)), (3, .int (nI t2)), (4, .int (nI x2)), (5, .int (nI k))]) hx hb dX9_standingPulled_74 hl (by decide) rfl (fun ls hl => ?_)
          refine lv_aload_n hx hb dX9_standingPulled_76 rfl (lv_at hl 2 rfl) ?_
          refine va_get (D := G.1) (ci := 8) (v := .ref (am 2)) (C := RX9) (T := TX9) (N := 13) hx hb hts in_X9 hown hK.1 hP 0 rfl rfl 1 (by decide) (hts _ q1163) (fun _ h9 => h9) rfl dX9_standingPulled_77 ?_
          refine lv_iload hx hb dX9_standingPulled_80 (lv_at hl 7 rfl) ?_
          refine x_Sv (wN := fun _ => (wM G am ho rn ln pl sd lt ro rf nb ++ [(am 1, .inl (G.2 0, 54, .inl (row r)))] ++ [(am 2, .inl (G.2 0, 54, .inl (row (pMins (pTwQ q t2 (decide (x2 = 1))) k))))] ++ [(am 3, .inl (G.2 0, 54, .inl (row r2)))] ++ [(am 4, .inl (G.2 0, 54, .inl (row r4)))])) ⟨C0, hK, hP, hD, hS, hA⟩ ((m9_minutesOn l G (am 2) (pTwQ q t2 (decide (x2 = 1))) hob k hk1)) (va_cwS 2 hts (lw_S q1272 q1273 q95 q1274) rfl rfl rfl (by decide +kernel) ⟨Nat.le_of_ble_eq_true rfl, Nat.le_of_ble_eq_true rfl⟩) [6] [0, 2, 4, 6, 8, 10, 1, 14, 16] rfl (fun _ => rfl) rfl rfl hl.1 rfl (Nat.le_of_ble_eq_true rfl) dX9_standingPulled_82 ⟨(Nat.le_of_ble_eq_true rfl), (Nat.le_of_ble_eq_true rfl)⟩ (fun u_31 H locs hw_31 hP hD hS => ?_)
          have hP : va_P G.1 vwCl (wM G am ho rn ln pl sd lt ro rf nb ++ [(am 1, .inl (G.2 0, 54, .inl (row r)))] ++ [(am 2, .inl (G.2 0, 54, .inl (row (pMins (pTwQ q t2 (decide (x2 = 1))) k))))] ++ [(am 3, .inl (G.2 0, 54, .inl (row r2)))] ++ [(am 4, .inl (G.2 0, 54, .inl (row r4)))]) H := hP
          have hD : va_D A (wM G am ho rn ln pl sd lt ro rf nb ++ [(am 1, .inl (G.2 0, 54, .inl (row r)))] ++ [(am 2, .inl (G.2 0, 54, .inl (row (pMins (pTwQ q t2 (decide (x2 = 1))) k))))] ++ [(am 3, .inl (G.2 0, 54, .inl (row r2)))] ++ [(am 4, .inl (G.2 0, 54, .inl (row r4)))]) := hD
          refine lv_aload_n hx hb dX9_standingPulled_85 rfl (lv_at hl 2 rfl) ?_
          refine x_Vi (wN := fun _ => (wM G am ho rn ln pl sd lt ro rf nb ++ [(am 1, .inl (G.2 0, 54, .inl (row r)))] ++ [(am 2, .inl (G.2 0, 54, .inl (row (pMins (pTwQ q t2 (decide (x2 = 1))) k))))] ++ [(am 3, .inl (G.2 0, 54, .inl (row r2)))] ++ [(am 4, .inl (G.2 0, 54, .inl (row r4)))])) ⟨C0, hK, hP, hD, hS, hA⟩ 0 rfl (ci := 8) rfl rfl ((m9_standingIn l G am r (pMins (pTwQ q t2 (decide (x2 = 1))) k) r2 r4 ho rn ln pl sd lt ro rf nb hr hp (Ok.mins hob))) (cwV 0 hts (lw_V q1333 q1335 qs76 q95 q1336) rfl rfl rfl (by decide +kernel) ⟨Nat.le_of_ble_eq_true rfl, Nat.le_of_ble_eq_true rfl⟩) [0, 1, 2, 3, 4, 5, 6, 7, 8] [1, 3, 5, 7, 9, 11, 13, 15, 17] rfl (fun _ => rfl) rfl rfl hl.1 rfl (Nat.le_of_ble_eq_true rfl) dX9_standingPulled_86 ⟨(Nat.le_of_ble_eq_true rfl), (Nat.le_of_ble_eq_true rfl)⟩ (fun r_32 u_32 H locs hw_32 hP hD hS => ?_)
          have hw_32 : (pStN (pMins (pTwQ q t2 (decide (x2 = 1))) k) : Int32) = r_32 := hw_32.symm
          subst hw_32
          refine hret _ _ _ _ _ _ (pStN (pMins (pTwQ q t2 (decide (x2 = 1))) k)) (pMins (pTwQ q t2 (decide (x2 = 1))) k) dX9_standingPulled_89 ?_ hP hD hS (Nat.le_of_ble_eq_true rfl) (Nat.le_of_ble_eq_true rfl)
          unfold sPl
          rw [hqe]
        · skip
          refine lv_aload_n hx hb dX9_standingPulled_60 rfl (lv_at hl 1 rfl) ?_
          refine va_get (D := G.1) (ci := 8) (v := .ref (am 2)) (C := RX9) (T := TX9) (N := 13) hx hb hts in_X9 hown hK.1 hP 0 rfl rfl 1 (by decide) (hts _ q1163) (fun _ h9 => h9) rfl dX9_standingPulled_61 ?_
          refine lv_iload_n hx hb dX9_standingPulled_64 rfl (lv_at hl 4 rfl) ?_
          refine lv_bipush (v := 9) hx hb dX9_standingPulled_65 (by decide) ?_
          refine x_Si (wN := fun _ => (wM G am ho rn ln pl sd lt ro rf nb ++ [(am 1, .inl (G.2 0, 54, .inl (row r)))] ++ [(am 2, .inl (G.2 0, 54, .inl (row (pPull q t2 9))))] ++ [(am 3, .inl (G.2 0, 54, .inl (row r2)))] ++ [(am 4, .inl (G.2 0, 54, .inl (row r4)))])) ⟨C0, hK, hP, hD, hS, hA⟩ ((m9_pull l G (am 2) q hoq t2 9 (by omega))) (va_cwS 3 hts (lw_S q1257 q1258 q95 q1259) rfl rfl rfl (by decide +kernel) ⟨Nat.le_of_ble_eq_true rfl, Nat.le_of_ble_eq_true rfl⟩) [6] [0, 2, 4, 6, 8, 10, 1, 14, 16] rfl (fun _ => rfl) rfl rfl hl.1 rfl (Nat.le_of_ble_eq_true rfl) dX9_standingPulled_67 ⟨(Nat.le_of_ble_eq_true rfl), (Nat.le_of_ble_eq_true rfl)⟩ (fun r_33 u_33 H locs hw_33 hP hD hS => ?_)
          have hw_33 : (pPullN q t2 9 : Int32) = r_33 := hw_33.symm
          subst hw_33
          have hP : va_P G.1 vwCl (wM G am ho rn ln pl sd lt ro rf nb ++ [(am 1, .inl (G.2 0, 54, .inl (row r)))] ++ [(am 2, .inl (G.2 0, 54, .inl (row (pPull q t2 9))))] ++ [(am 3, .inl (G.2 0, 54, .inl (row r2)))] ++ [(am 4, .inl (G.2 0, 54, .inl (row r4)))]) H := hP
          have hD : va_D A (wM G am ho rn ln pl sd lt ro rf nb ++ [(am 1, .inl (G.2 0, 54, .inl (row r)))] ++ [(am 2, .inl (G.2 0, 54, .inl (row (pPull q t2 9))))] ++ [(am 3, .inl (G.2 0, 54, .inl (row r2)))] ++ [(am 4, .inl (G.2 0, 54, .inl (row r4)))]) := hD
          refine lv_goto (tgt := 74) hx hb dX9_standingPulled_70 (by decide) ?_
          have eb : pTwQ q t2 (decide (x2 = 1)) = pPull q t2 9 := pTwQ_y (b := decide (x2 = 1)) (decide_eq_true (by omega)) (show pSt q t2 = true from (by first | exact bI_n0 c_30 | exact bI_0.mp c_30))
          have hob : Ok (pTwQ q t2 (decide (x2 = 1))) := by rw [eb]; exact Ok.pull hoq
          have hmb : mny (pTwQ q t2 (decide (x2 = 1))) = mny r := by rw [eb]; exact hmq
          have hP : va_P G.1 vwCl (wM G am ho rn ln pl sd lt ro rf nb ++ [(am 1, .inl (G.2 0, 54, .inl (row r)))] ++ [(am 2, .inl (G.2 0, 54, .inl (row (pTwQ q t2 (decide (x2 = 1))))))] ++ [(am 3, .inl (G.2 0, 54, .inl (row r2)))] ++ [(am 4, .inl (G.2 0, 54, .inl (row r4)))]) H := by rw [eb]; exact hP
          have hD : va_D A (wM G am ho rn ln pl sd lt ro rf nb ++ [(am 1, .inl (G.2 0, 54, .inl (row r)))] ++ [(am 2, .inl (G.2 0, 54, .inl (row (pTwQ q t2 (decide (x2 = 1))))))] ++ [(am 3, .inl (G.2 0, 54, .inl (row r2)))] ++ [(am 4, .inl (G.2 0, 54, .inl (row r4)))]) := by rw [eb]; exact hD
          refine lv_istore (lv' := [(7, .int (pPullN q t2 9)), (6, .int (pPullN r t1 9)), (0, .ref (am 0)), (1, .int (nI t1)), (2, .int (nI x1)), (3, .int (nI t2)), (4, .int (nI x2)), (5, .int (nI k))]) hx hb dX9_standingPulled_74 hl (by decide) rfl (fun ls hl => ?_)
          refine lv_aload_n hx hb dX9_standingPulled_76 rfl (lv_at hl 2 rfl) ?_
          refine va_get (D := G.1) (ci := 8) (v := .ref (am 2)) (C := RX9) (T := TX9) (N := 13) hx hb hts in_X9 hown hK.1 hP 0 rfl rfl 1 (by decide) (hts _ q1163) (fun _ h9 => h9) rfl dX9_standingPulled_77 ?_
          refine lv_iload hx hb dX9_standingPulled_80 (lv_at hl 7 rfl) ?_
          refine x_Sv (wN := fun _ => (wM G am ho rn ln pl sd lt ro rf nb ++ [(am 1, .inl (G.2 0, 54, .inl (row r)))] ++ [(am 2, .inl (G.2 0, 54, .inl (row (pMins (pTwQ q t2 (decide (x2 = 1))) k))))] ++ [(am 3, .inl (G.2 0, 54, .inl (row r2)))] ++ [(am 4, .inl (G.2 0, 54, .inl (row r4)))])) ⟨C0, hK, hP, hD, hS, hA⟩ ((m9_minutesOn l G (am 2) (pTwQ q t2 (decide (x2 = 1))) hob k hk1)) (va_cwS 2 hts (lw_S q1272 q1273 q95 q1274) rfl rfl rfl (by decide +kernel) ⟨Nat.le_of_ble_eq_true rfl, Nat.le_of_ble_eq_true rfl⟩) [6] [0, 2, 4, 6, 8, 10, 1, 14, 16] rfl (fun _ => rfl) rfl rfl hl.1 rfl (Nat.le_of_ble_eq_true rfl) dX9_standingPulled_82 ⟨(Nat.le_of_ble_eq_true rfl), (Nat.le_of_ble_eq_true rfl)⟩ (fun u_34 H locs hw_34 hP hD hS => ?_)
          have hP : va_P G.1 vwCl (wM G am ho rn ln pl sd lt ro rf nb ++ [(am 1, .inl (G.2 0, 54, .inl (row r)))] ++ [(am 2, .inl (G.2 0, 54, .inl (row (pMins (pTwQ q t2 (decide (x2 = 1))) k))))] ++ [(am 3, .inl (G.2 0, 54, .inl (row r2)))] ++ [(am 4, .inl (G.2 0, 54, .inl (row r4)))]) H := hP
          have hD : va_D A (wM G am ho rn ln pl sd lt ro rf nb ++ [(am 1, .inl (G.2 0, 54, .inl (row r)))] ++ [(am 2, .inl (G.2 0, 54, .inl (row (pMins (pTwQ q t2 (decide (x2 = 1))) k))))] ++ [(am 3, .inl (G.2 0, 54, .inl (row r2)))] ++ [(am 4, .inl (G.2 0, 54, .inl (row r4)))]) := hD
          refine lv_aload_n hx hb dX9_standingPulled_85 rfl (lv_at hl 2 rfl) ?_
          refine x_Vi (wN := fun _ => (wM G am ho rn ln pl sd lt ro rf nb ++ [(am 1, .inl (G.2 0, 54, .inl (row r)))] ++ [(am 2, .inl (G.2 0, 54, .inl (row (pMins (pTwQ q t2 (decide (x2 = 1))) k))))] ++ [(am 3, .inl (G.2 0, 54, .inl (row r2)))] ++ [(am 4, .inl (G.2 0, 54, .inl (row r4)))])) ⟨C0, hK, hP, hD, hS, hA⟩ 0 rfl (ci := 8) rfl rfl ((m9_standingIn l G am r (pMins (pTwQ q t2 (decide (x2 = 1))) k) r2 r4 ho rn ln pl sd lt ro rf nb hr hp (Ok.mins hob))) (cwV 0 hts (lw_V q1333 q1335 qs76 q95 q1336) rfl rfl rfl (by decide +kernel) ⟨Nat.le_of_ble_eq_true rfl, Nat.le_of_ble_eq_true rfl⟩) [0, 1, 2, 3, 4, 5, 6, 7, 8] [1, 3, 5, 7, 9, 11, 13, 15, 17] rfl (fun _ => rfl) rfl rfl hl.1 rfl (Nat.le_of_ble_eq_true rfl) dX9_standingPulled_86 ⟨(Nat.le_of_ble_eq_true rfl), (Nat.le_of_ble_eq_true rfl)⟩ (fun r_35 u_35 H locs hw_35 hP hD hS => ?_)
          have hw_35 : (pStN (pMins (pTwQ q t2 (decide (x2 = 1))) k) : Int32) = r_35 := hw_35.symm
          subst hw_35
          refine hret _ _ _ _ _ _ (pStN (pMins (pTwQ q t2 (decide (x2 = 1))) k)) (pMins (pTwQ q t2 (decide (x2 = 1))) k) dX9_standingPulled_89 ?_ hP hD hS (Nat.le_of_ble_eq_true rfl) (Nat.le_of_ble_eq_true rfl)
          unfold sPl
          rw [hqe]
set_option maxHeartbeats 4000000 in
set_option maxRecDepth 100000 in
theorem n_two (l : Launch) (G : xG) (am : Nat → Nat) (r rm r2 r4 : Rw) (ho rn ln pl sd : Int32) (lt ro rf nb : Nat → Int32) (hr : Ok r) (hp : r 5 3 = 0) (t t2 mi : Int32) : xCi l G yX9_two cX9_two 9 (some .int) ({ frames := 6, cells := 0, slots := 0, locals := 137 } : Room) [.ref (am 0), .int t, .int t2, .int mi] (wM G am ho rn ln pl sd lt ro rf nb ++ [(am 1, .inl (G.2 0, 54, .inl (row r)))] ++ [(am 2, .inl (G.2 0, 54, .inl (row rm)))] ++ [(am 3, .inl (G.2 0, 54, .inl (row r2)))] ++ [(am 4, .inl (G.2 0, 54, .inl (row r4)))]) (S := Rw) (fun v _ => v = sel (eS (tB r t) (-1) (eS (tB r t2) (-1) (eS (decide (t ≠ t2)) (-1) (eW (wBy mi.toInt 0 99) 0)))) (pTwo r (ix t) (ix t2) (ix mi)) (eS (tB r t) (-1) (eS (tB r t2) (-1) (eS (decide (t ≠ t2)) (-1) (eW (wBy mi.toInt 0 99) 0))))) (fun u => (wM G am ho rn ln pl sd lt ro (sel (eS (tB r t) (-1) (eS (tB r t2) (-1) (eS (decide (t ≠ t2)) (-1) (eW (wBy mi.toInt 0 99) 0)))) rf (rfU rf (eS (tB r t) (-1) (eS (tB r t2) (-1) (eS (decide (t ≠ t2)) (-1) (eW (wBy mi.toInt 0 99) 0)))))) nb ++ [(am 1, .inl (G.2 0, 54, .inl (row r)))] ++ [(am 2, .inl (G.2 0, 54, .inl (row u)))] ++ [(am 3, .inl (G.2 0, 54, .inl (row r2)))] ++ [(am 4, .inl (G.2 0, 54, .inl (row r4)))])) := by
  refine x_openi (by decide) (Nat.le_of_ble_eq_true rfl) (fun _ _ _ => rfl) ?_
  intro p e s m args below meth c A Q ls C0 hK hP hD hA hl hret
  obtain ⟨hx, hb, hml, hown, hts⟩ := id C0
  have hS : va_S A s.heap s.heap [] := va_S.rf
  have hP : va_P G.1 vwCl (wM G am ho rn ln pl sd lt ro rf nb ++ [(am 1, .inl (G.2 0, 54, .inl (row r)))] ++ [(am 2, .inl (G.2 0, 54, .inl (row rm)))] ++ [(am 3, .inl (G.2 0, 54, .inl (row r2)))] ++ [(am 4, .inl (G.2 0, 54, .inl (row r4)))]) s.heap := hP
  have hD : va_D A (wM G am ho rn ln pl sd lt ro rf nb ++ [(am 1, .inl (G.2 0, 54, .inl (row r)))] ++ [(am 2, .inl (G.2 0, 54, .inl (row rm)))] ++ [(am 3, .inl (G.2 0, 54, .inl (row r2)))] ++ [(am 4, .inl (G.2 0, 54, .inl (row r4)))]) := hD
  have hl : lv_has ls 9 [(0, .ref (am 0)), (1, .int t), (2, .int t2), (3, .int mi)] := hl
  have hr0 := hr.n
  have hN := hr.le
  refine lv_aload_n hx hb dX9_two_0 rfl (lv_at hl 0 rfl) ?_
  refine lv_iload_n hx hb dX9_two_1 rfl (lv_at hl 1 rfl) ?_
  refine x_Vi (wN := fun _ => (wM G am ho rn ln pl sd lt ro rf nb ++ [(am 1, .inl (G.2 0, 54, .inl (row r)))] ++ [(am 2, .inl (G.2 0, 54, .inl (row rm)))] ++ [(am 3, .inl (G.2 0, 54, .inl (row r2)))] ++ [(am 4, .inl (G.2 0, 54, .inl (row r4)))])) ⟨C0, hK, hP, hD, hS, hA⟩ 0 rfl (ci := 8) rfl rfl ((m9_isThing l G am r rm r2 r4 ho rn ln pl sd lt ro rf nb hr hp t)) (cwV 1 hts (lw_V q1247 q1249 qs73 q95 q1250) rfl rfl rfl (by decide +kernel) ⟨Nat.le_of_ble_eq_true rfl, Nat.le_of_ble_eq_true rfl⟩) [0, 1, 2, 3, 4, 5, 6, 7, 8] [1, 3, 5, 7, 9, 11, 13, 15, 17] rfl (fun _ => rfl) rfl rfl hl.1 rfl (Nat.le_of_ble_eq_true rfl) dX9_two_2 ⟨(Nat.le_of_ble_eq_true rfl), (Nat.le_of_ble_eq_true rfl)⟩ (fun r_1 u_1 H locs hw_1 hP hD hS => ?_)
  have hw_1 : (bI (tB r t) : Int32) = r_1 := hw_1.symm
  subst hw_1
  refine lv_if_eq (tgt := 21) hx hb dX9_two_5 (by decide) (fun c_2 => ?_) (fun c_2 => ?_)
  · skip
    refine lv_iconst (v := (-1)) hx hb dX9_two_21 (by decide) ?_
    refine lv_goto (tgt := 31) hx hb dX9_two_22 (by decide) ?_
    refine lv_istore (lv' := [(4, .int (-1)), (0, .ref (am 0)), (1, .int t), (2, .int t2), (3, .int mi)]) hx hb dX9_two_31 hl (by decide) rfl (fun ls hl => ?_)
    refine lv_iload hx hb dX9_two_33 (lv_at hl 0 rfl) ?_
    refine lv_if_eq (tgt := 45) hx hb dX9_two_35 (by decide) (fun c_3 => ?_) (fun c_3 => ?_)
    · skip
      exact absurd c_3 (by decide)
    · skip
      refine lv_aload_n hx hb dX9_two_38 rfl (lv_at hl 1 rfl) ?_
      refine lv_iload hx hb dX9_two_39 (lv_at hl 0 rfl) ?_
      refine x_Vi (wN := fun _ => (wM G am ho rn ln pl sd lt ro (rfU rf (-1)) nb ++ [(am 1, .inl (G.2 0, 54, .inl (row r)))] ++ [(am 2, .inl (G.2 0, 54, .inl (row rm)))] ++ [(am 3, .inl (G.2 0, 54, .inl (row r2)))] ++ [(am 4, .inl (G.2 0, 54, .inl (row r4)))])) ⟨C0, hK, hP, hD, hS, hA⟩ 0 rfl (ci := 8) rfl rfl ((m9_no l G am ho rn ln pl sd lt ro rf nb (-1) noOk_k.1)) (cwV 1 hts (lw_V q1206 q1208 qs66 q95 q1209) rfl rfl rfl (by decide +kernel) ⟨Nat.le_of_ble_eq_true rfl, Nat.le_of_ble_eq_true rfl⟩) [0, 1, 2, 3, 4] [1, 3, 5, 7, 9, 10, 12, 14, 16] rfl (fun _ => rfl) rfl rfl hl.1 rfl (Nat.le_of_ble_eq_true rfl) dX9_two_41 ⟨(Nat.le_of_ble_eq_true rfl), (Nat.le_of_ble_eq_true rfl)⟩ (fun r_4 u_4 H locs hw_4 hP hD hS => ?_)
      have hw_4 : ((-1) : Int32) = r_4 := hw_4.symm
      subst hw_4
      have hP : va_P G.1 vwCl (wM G am ho rn ln pl sd lt ro (rfU rf (-1)) nb ++ [(am 1, .inl (G.2 0, 54, .inl (row r)))] ++ [(am 2, .inl (G.2 0, 54, .inl (row rm)))] ++ [(am 3, .inl (G.2 0, 54, .inl (row r2)))] ++ [(am 4, .inl (G.2 0, 54, .inl (row r4)))]) H := hP
      have hD : va_D A (wM G am ho rn ln pl sd lt ro (rfU rf (-1)) nb ++ [(am 1, .inl (G.2 0, 54, .inl (row r)))] ++ [(am 2, .inl (G.2 0, 54, .inl (row rm)))] ++ [(am 3, .inl (G.2 0, 54, .inl (row r2)))] ++ [(am 4, .inl (G.2 0, 54, .inl (row r4)))]) := hD
      have hE : eS (tB r t) (-1) (eS (tB r t2) (-1) (eS (decide (t ≠ t2)) (-1) (eW (wBy mi.toInt 0 99) 0))) = (-1) := by rw [eS_f (show tB r t = false from (by first | exact bI_n0 c_2 | exact bI_0.mp c_2))]
      have hne : ((-1) : Int32) ≠ 0 := (by decide)
      have hP : va_P G.1 vwCl (wM G am ho rn ln pl sd lt ro (sel (eS (tB r t) (-1) (eS (tB r t2) (-1) (eS (decide (t ≠ t2)) (-1) (eW (wBy mi.toInt 0 99) 0)))) rf (rfU rf (eS (tB r t) (-1) (eS (tB r t2) (-1) (eS (decide (t ≠ t2)) (-1) (eW (wBy mi.toInt 0 99) 0)))))) nb ++ [(am 1, .inl (G.2 0, 54, .inl (row r)))] ++ [(am 2, .inl (G.2 0, 54, .inl (row rm)))] ++ [(am 3, .inl (G.2 0, 54, .inl (row r2)))] ++ [(am 4, .inl (G.2 0, 54, .inl (row r4)))]) H := by rw [hE]; simp only [sel_n hne]; exact hP
      have hD : va_D A (wM G am ho rn ln pl sd lt ro (sel (eS (tB r t) (-1) (eS (tB r t2) (-1) (eS (decide (t ≠ t2)) (-1) (eW (wBy mi.toInt 0 99) 0)))) rf (rfU rf (eS (tB r t) (-1) (eS (tB r t2) (-1) (eS (decide (t ≠ t2)) (-1) (eW (wBy mi.toInt 0 99) 0)))))) nb ++ [(am 1, .inl (G.2 0, 54, .inl (row r)))] ++ [(am 2, .inl (G.2 0, 54, .inl (row rm)))] ++ [(am 3, .inl (G.2 0, 54, .inl (row r2)))] ++ [(am 4, .inl (G.2 0, 54, .inl (row r4)))]) := by rw [hE]; simp only [sel_n hne]; exact hD
      refine hret _ _ _ _ _ _ (-1) rm dX9_two_44 ?_ hP hD hS (Nat.le_of_ble_eq_true rfl) (Nat.le_of_ble_eq_true rfl)
      rw [hE, sel_n hne]
  · skip
    refine lv_aload_n hx hb dX9_two_8 rfl (lv_at hl 0 rfl) ?_
    refine lv_iload_n hx hb dX9_two_9 rfl (lv_at hl 2 rfl) ?_
    refine x_Vi (wN := fun _ => (wM G am ho rn ln pl sd lt ro rf nb ++ [(am 1, .inl (G.2 0, 54, .inl (row r)))] ++ [(am 2, .inl (G.2 0, 54, .inl (row rm)))] ++ [(am 3, .inl (G.2 0, 54, .inl (row r2)))] ++ [(am 4, .inl (G.2 0, 54, .inl (row r4)))])) ⟨C0, hK, hP, hD, hS, hA⟩ 0 rfl (ci := 8) rfl rfl ((m9_isThing l G am r rm r2 r4 ho rn ln pl sd lt ro rf nb hr hp t2)) (cwV 1 hts (lw_V q1247 q1249 qs73 q95 q1250) rfl rfl rfl (by decide +kernel) ⟨Nat.le_of_ble_eq_true rfl, Nat.le_of_ble_eq_true rfl⟩) [0, 1, 2, 3, 4, 5, 6, 7, 8] [1, 3, 5, 7, 9, 11, 13, 15, 17] rfl (fun _ => rfl) rfl rfl hl.1 rfl (Nat.le_of_ble_eq_true rfl) dX9_two_10 ⟨(Nat.le_of_ble_eq_true rfl), (Nat.le_of_ble_eq_true rfl)⟩ (fun r_5 u_5 H locs hw_5 hP hD hS => ?_)
    have hw_5 : (bI (tB r t2) : Int32) = r_5 := hw_5.symm
    subst hw_5
    refine lv_if_eq (tgt := 21) hx hb dX9_two_13 (by decide) (fun c_6 => ?_) (fun c_6 => ?_)
    · skip
      refine lv_iconst (v := (-1)) hx hb dX9_two_21 (by decide) ?_
      refine lv_goto (tgt := 31) hx hb dX9_two_22 (by decide) ?_
      refine lv_istore (lv' := [(4, .int (-1)), (0, .ref (am 0)), (1, .int t), (2, .int t2), (3, .int mi)]) hx hb dX9_two_31 hl (by decide) rfl (fun ls hl => ?_)
      refine lv_iload hx hb dX9_two_33 (lv_at hl 0 rfl) ?_
      refine lv_if_eq (tgt := 45) hx hb dX9_two_35 (by decide) (fun c_7 => ?_) (fun c_7 => ?_)
      · skip
        exact absurd c_7 (by decide)
      · skip
        refine lv_aload_n hx hb dX9_two_38 rfl (lv_at hl 1 rfl) ?_
        refine lv_iload hx hb dX9_two_39 (lv_at hl 0 rfl) ?_
        refine x_Vi (wN := fun _ => (wM G am ho rn ln pl sd lt ro (rfU rf (-1)) nb ++ [(am 1, .inl (G.2 0, 54, .inl (row r)))] ++ [(am 2, .inl (G.2 0, 54, .inl (row rm)))] ++ [(am 3, .inl (G.2 0, 54, .inl (row r2)))] ++ [(am 4, .inl (G.2 0, 54, .inl (row r4)))])) ⟨C0, hK, hP, hD, hS, hA⟩ 0 rfl (ci := 8) rfl rfl ((m9_no l G am ho rn ln pl sd lt ro rf nb (-1) noOk_k.1)) (cwV 1 hts (lw_V q1206 q1208 qs66 q95 q1209) rfl rfl rfl (by decide +kernel) ⟨Nat.le_of_ble_eq_true rfl, Nat.le_of_ble_eq_true rfl⟩) [0, 1, 2, 3, 4] [1, 3, 5, 7, 9, 10, 12, 14, 16] rfl (fun _ => rfl) rfl rfl hl.1 rfl (Nat.le_of_ble_eq_true rfl) dX9_two_41 ⟨(Nat.le_of_ble_eq_true rfl), (Nat.le_of_ble_eq_true rfl)⟩ (fun r_8 u_8 H locs hw_8 hP hD hS => ?_)
        have hw_8 : ((-1) : Int32) = r_8 := hw_8.symm
        subst hw_8
        have hP : va_P G.1 vwCl (wM G am ho rn ln pl sd lt ro (rfU rf (-1)) nb ++ [(am 1, .inl (G.2 0, 54, .inl (row r)))] ++ [(am 2, .inl (G.2 0, 54, .inl (row rm)))] ++ [(am 3, .inl (G.2 0, 54, .inl (row r2)))] ++ [(am 4, .inl (G.2 0, 54, .inl (row r4)))]) H := hP
        have hD : va_D A (wM G am ho rn ln pl sd lt ro (rfU rf (-1)) nb ++ [(am 1, .inl (G.2 0, 54, .inl (row r)))] ++ [(am 2, .inl (G.2 0, 54, .inl (row rm)))] ++ [(am 3, .inl (G.2 0, 54, .inl (row r2)))] ++ [(am 4, .inl (G.2 0, 54, .inl (row r4)))]) := hD
        have hE : eS (tB r t) (-1) (eS (tB r t2) (-1) (eS (decide (t ≠ t2)) (-1) (eW (wBy mi.toInt 0 99) 0))) = (-1) := by rw [eS_t (show tB r t = true from (by first | exact bI_n0 c_2 | exact bI_0.mp c_2)), eS_f (show tB r t2 = false from (by first | exact bI_n0 c_6 | exact bI_0.mp c_6))]
        have hne : ((-1) : Int32) ≠ 0 := (by decide)
        have hP : va_P G.1 vwCl (wM G am ho rn ln pl sd lt ro (sel (eS (tB r t) (-1) (eS (tB r t2) (-1) (eS (decide (t ≠ t2)) (-1) (eW (wBy mi.toInt 0 99) 0)))) rf (rfU rf (eS (tB r t) (-1) (eS (tB r t2) (-1) (eS (decide (t ≠ t2)) (-1) (eW (wBy mi.toInt 0 99) 0)))))) nb ++ [(am 1, .inl (G.2 0, 54, .inl (row r)))] ++ [(am 2, .inl (G.2 0, 54, .inl (row rm)))] ++ [(am 3, .inl (G.2 0, 54, .inl (row r2)))] ++ [(am 4, .inl (G.2 0, 54, .inl (row r4)))]) H := by rw [hE]; simp only [sel_n hne]; exact hP
        have hD : va_D A (wM G am ho rn ln pl sd lt ro (sel (eS (tB r t) (-1) (eS (tB r t2) (-1) (eS (decide (t ≠ t2)) (-1) (eW (wBy mi.toInt 0 99) 0)))) rf (rfU rf (eS (tB r t) (-1) (eS (tB r t2) (-1) (eS (decide (t ≠ t2)) (-1) (eW (wBy mi.toInt 0 99) 0)))))) nb ++ [(am 1, .inl (G.2 0, 54, .inl (row r)))] ++ [(am 2, .inl (G.2 0, 54, .inl (row rm)))] ++ [(am 3, .inl (G.2 0, 54, .inl (row r2)))] ++ [(am 4, .inl (G.2 0, 54, .inl (row r4)))]) := by rw [hE]; simp only [sel_n hne]; exact hD
        refine hret _ _ _ _ _ _ (-1) rm dX9_two_44 ?_ hP hD hS (Nat.le_of_ble_eq_true rfl) (Nat.le_of_ble_eq_true rfl)
        rw [hE, sel_n hne]
    · skip
      refine lv_iload_n hx hb dX9_two_16 rfl (lv_at hl 1 rfl) ?_
      refine lv_iload_n hx hb dX9_two_17 rfl (lv_at hl 2 rfl) ?_
      refine lv_icmp_ne (tgt := 25) hx hb dX9_two_18 (by decide) (fun c_9 => ?_) (fun c_9 => ?_)
      · skip
        refine lv_iload_n hx hb dX9_two_25 rfl (lv_at hl 3 rfl) ?_
        refine lv_bipush (v := 99) hx hb dX9_two_26 (by decide) ?_
        refine x_Si (wN := fun _ => (wM G am ho rn ln pl sd lt ro rf nb ++ [(am 1, .inl (G.2 0, 54, .inl (row r)))] ++ [(am 2, .inl (G.2 0, 54, .inl (row rm)))] ++ [(am 3, .inl (G.2 0, 54, .inl (row r2)))] ++ [(am 4, .inl (G.2 0, 54, .inl (row r4)))])) ⟨C0, hK, hP, hD, hS, hA⟩ ((m9_wrongBy l G mi 99)) (va_cwS 2 hts (lw_S q1302 q1303 q95 q1304) rfl rfl rfl (by decide +kernel) ⟨Nat.le_of_ble_eq_true rfl, Nat.le_of_ble_eq_true rfl⟩) [] [0, 2, 4, 6, 8, 10, 12, 14, 16] rfl (fun _ => rfl) rfl rfl hl.1 rfl (Nat.le_of_ble_eq_true rfl) dX9_two_28 ⟨(Nat.le_of_ble_eq_true rfl), (Nat.le_of_ble_eq_true rfl)⟩ (fun r_10 u_10 H locs hw_10 hP hD hS => ?_)
        have hw_10 : r_10 = wBy mi.toInt 0 99 := hw_10.trans rfl
        have hw_10 : (wBy mi.toInt 0 99 : Int32) = r_10 := hw_10.symm
        subst hw_10
        refine lv_istore (lv' := [(4, .int (wBy mi.toInt 0 99)), (0, .ref (am 0)), (1, .int t), (2, .int t2), (3, .int mi)]) hx hb dX9_two_31 hl (by decide) rfl (fun ls hl => ?_)
        refine lv_iload hx hb dX9_two_33 (lv_at hl 0 rfl) ?_
        refine lv_if_eq (tgt := 45) hx hb dX9_two_35 (by decide) (fun c_11 => ?_) (fun c_11 => ?_)
        · skip
          obtain ⟨hj_t, et_t⟩ := tB_ix hN (by first | exact bI_n0 c_2 | exact bI_0.mp c_2)
          rw [et_t] at hl
          obtain ⟨hj_t2, et_t2⟩ := tB_ix hN (by first | exact bI_n0 c_6 | exact bI_0.mp c_6)
          rw [et_t2] at hl
          obtain ⟨hj_mi, et_mi⟩ := wB_ix (n := 99) (by omega) (show wBy mi.toInt 0 99 = 0 from c_11)
          rw [et_mi] at hl
          refine lv_iconst (v := 0) hx hb dX9_two_45 (by decide) ?_
          refine lv_istore (lv' := [(5, .int 0), (4, .int (wBy (nI (ix mi)).toInt 0 99)), (0, .ref (am 0)), (1, .int (nI (ix t))), (2, .int (nI (ix t2))), (3, .int (nI (ix mi)))]) hx hb dX9_two_46 hl (by decide) rfl (fun ls hl => ?_)
          have loop_48 : ∀ (n : Nat) (k : Nat) (q9 : Rw), (k ≤ 4) → (4 < k + n) → (∀ j, j < k → pTwP r (ix t) (ix t2) (ix mi) j = false) → ∀ (H : Heap) (locs : List Loc) (ls : Array Slot), va_P G.1 vwCl (wM G am ho rn ln pl sd lt ro rf nb ++ [(am 1, .inl (G.2 0, 54, .inl (row r)))] ++ [(am 2, .inl (G.2 0, 54, .inl (row q9)))] ++ [(am 3, .inl (G.2 0, 54, .inl (row r2)))] ++ [(am 4, .inl (G.2 0, 54, .inl (row r4)))]) H → va_D A (wM G am ho rn ln pl sd lt ro rf nb ++ [(am 1, .inl (G.2 0, 54, .inl (row r)))] ++ [(am 2, .inl (G.2 0, 54, .inl (row q9)))] ++ [(am 3, .inl (G.2 0, 54, .inl (row r2)))] ++ [(am 4, .inl (G.2 0, 54, .inl (row r4)))]) → va_S A s.heap H locs → lv_has ls 9 [(5, .int (nI k)), (4, .int (wBy (nI (ix mi)).toInt 0 99)), (0, .ref (am 0)), (1, .int (nI (ix t))), (2, .int (nI (ix t2))), (3, .int (nI (ix mi)))] → W p l e ({ frames := 6, cells := 0, slots := 0, locals := 137 } : Room) s m args below meth c H locs 0 0 Q (F0 m 48 ls []) := by
            intro n
            induction n with
            | zero => intro k q9 hi48_0 hi48_1 hi48_2; exact absurd hi48_1 (by omega)
            | succ n ih_48 =>
              intro k q9 hi48_0 hi48_1 hi48_2 H locs ls hP hD hS hl
              refine lv_iload hx hb dX9_two_48 (lv_at hl 0 rfl) ?_
              refine lv_iconst (v := 4) hx hb dX9_two_50 (by decide) ?_
              refine lv_icmp_ge (tgt := 130) hx hb dX9_two_51 (by decide) (fun c_12 => ?_) (fun c_12 => ?_)
              · skip
                have g_12 := (nI_leI (by omega) (by omega)).mp (show nI k ≥ nI 4 from c_12)
                refine lv_bipush (v := (-9)) hx hb dX9_two_130 (by decide) ?_
                have hE : eS (tB r t) (-1) (eS (tB r t2) (-1) (eS (decide (t ≠ t2)) (-1) (eW (wBy mi.toInt 0 99) 0))) = 0 := by rw [eS_t (show tB r t = true from (by first | exact bI_n0 c_2 | exact bI_0.mp c_2)), eS_t (show tB r t2 = true from (by first | exact bI_n0 c_6 | exact bI_0.mp c_6)), eS_t (decide_eq_true c_9), eW_0 c_11]
                have hP : va_P G.1 vwCl (wM G am ho rn ln pl sd lt ro (sel (eS (tB r t) (-1) (eS (tB r t2) (-1) (eS (decide (t ≠ t2)) (-1) (eW (wBy mi.toInt 0 99) 0)))) rf (rfU rf (eS (tB r t) (-1) (eS (tB r t2) (-1) (eS (decide (t ≠ t2)) (-1) (eW (wBy mi.toInt 0 99) 0)))))) nb ++ [(am 1, .inl (G.2 0, 54, .inl (row r)))] ++ [(am 2, .inl (G.2 0, 54, .inl (row q9)))] ++ [(am 3, .inl (G.2 0, 54, .inl (row r2)))] ++ [(am 4, .inl (G.2 0, 54, .inl (row r4)))]) H := by rw [hE]; simp only [sel_0 rfl]; exact hP
                have hD : va_D A (wM G am ho rn ln pl sd lt ro (sel (eS (tB r t) (-1) (eS (tB r t2) (-1) (eS (decide (t ≠ t2)) (-1) (eW (wBy mi.toInt 0 99) 0)))) rf (rfU rf (eS (tB r t) (-1) (eS (tB r t2) (-1) (eS (decide (t ≠ t2)) (-1) (eW (wBy mi.toInt 0 99) 0)))))) nb ++ [(am 1, .inl (G.2 0, 54, .inl (row r)))] ++ [(am 2, .inl (G.2 0, 54, .inl (row q9)))] ++ [(am 3, .inl (G.2 0, 54, .inl (row r2)))] ++ [(am 4, .inl (G.2 0, 54, .inl (row r4)))]) := by rw [hE]; simp only [sel_0 rfl]; exact hD
                refine hret _ _ _ _ _ _ (-9) q9 dX9_two_132 ?_ hP hD hS (Nat.le_of_ble_eq_true rfl) (Nat.le_of_ble_eq_true rfl)
                rw [hE, sel_0 rfl]
                exact pTwo_no (fun j hj => hi48_2 j (by omega))
              · skip
                have g_12 := mt (nI_leI (by omega) (by omega)).mpr (show ¬ (nI k ≥ nI 4) from c_12)
                have hx2 := x_l2 k (by omega)
                have hx1 := x_l1 k (by omega)
                refine lv_iload hx hb dX9_two_54 (lv_at hl 0 rfl) ?_
                refine lv_iconst (v := 2) hx hb dX9_two_56 (by decide) ?_
                refine x_idiv hx hb dX9_two_57 (by decide) (v := nI (k / 2)) (pk_div (d := 2) (by omega) (by omega) (by omega)) ?_
                refine lv_istore (lv' := [(6, .int (nI (k / 2))), (5, .int (nI k)), (4, .int (wBy (nI (ix mi)).toInt 0 99)), (0, .ref (am 0)), (1, .int (nI (ix t))), (2, .int (nI (ix t2))), (3, .int (nI (ix mi)))]) hx hb dX9_two_58 hl (by decide) rfl (fun ls hl => ?_)
                refine lv_iload hx hb dX9_two_60 (lv_at hl 1 rfl) ?_
                refine lv_iconst (v := 2) hx hb dX9_two_62 (by decide) ?_
                refine x_irem hx hb dX9_two_63 (by decide) (v := nI (k % 2)) (pk_rem (d := 2) (by omega) (by omega) (by omega)) ?_
                refine lv_istore (lv' := [(7, .int (nI (k % 2))), (6, .int (nI (k / 2))), (5, .int (nI k)), (4, .int (wBy (nI (ix mi)).toInt 0 99)), (0, .ref (am 0)), (1, .int (nI (ix t))), (2, .int (nI (ix t2))), (3, .int (nI (ix mi)))]) hx hb dX9_two_64 hl (by decide) rfl (fun ls hl => ?_)
                refine lv_aload_n hx hb dX9_two_66 rfl (lv_at hl 4 rfl) ?_
                refine lv_iload_n hx hb dX9_two_67 rfl (lv_at hl 5 rfl) ?_
                refine lv_iload hx hb dX9_two_68 (lv_at hl 1 rfl) ?_
                refine lv_iload_n hx hb dX9_two_70 rfl (lv_at hl 6 rfl) ?_
                refine lv_iload hx hb dX9_two_71 (lv_at hl 0 rfl) ?_
                refine lv_iload_n hx hb dX9_two_73 rfl (lv_at hl 7 rfl) ?_
                refine x_Vi (wN := fun u_13 => (wM G am ho rn ln pl sd lt ro rf nb ++ [(am 1, .inl (G.2 0, 54, .inl (row r)))] ++ [(am 2, .inl (G.2 0, 54, .inl (row u_13)))] ++ [(am 3, .inl (G.2 0, 54, .inl (row r2)))] ++ [(am 4, .inl (G.2 0, 54, .inl (row r4)))])) ⟨C0, hK, hP, hD, hS, hA⟩ 0 rfl (ci := 8) rfl rfl ((m9_standingPulled l G am r q9 r2 r4 ho rn ln pl sd lt ro rf nb hr hp (ix t) (k / 2) (ix t2) (k % 2) (ix mi) (by omega) (by omega) (by omega) (by omega) (by omega))) (cwV 5 hts (lw_V q1439 q1441 qs83 q95 q1442) rfl rfl rfl (by decide +kernel) ⟨Nat.le_of_ble_eq_true rfl, Nat.le_of_ble_eq_true rfl⟩) [0, 1, 2, 3, 4, 5, 6, 7, 8] [1, 3, 5, 7, 9, 11, 13, 15, 17] rfl (fun _ => rfl) rfl rfl hl.1 rfl (Nat.le_of_ble_eq_true rfl) dX9_two_74 ⟨(Nat.le_of_ble_eq_true rfl), (Nat.le_of_ble_eq_true rfl)⟩ (fun r_13 u_13 H locs hw_13 hP hD hS => ?_)
                have hw_13 : r_13 = pTwV r (ix t) (ix t2) (ix mi) k := hw_13.trans tw_V1
                have hw_13 : (pTwV r (ix t) (ix t2) (ix mi) k : Int32) = r_13 := hw_13.symm
                subst hw_13
                have hP : va_P G.1 vwCl (wM G am ho rn ln pl sd lt ro rf nb ++ [(am 1, .inl (G.2 0, 54, .inl (row r)))] ++ [(am 2, .inl (G.2 0, 54, .inl (row u_13)))] ++ [(am 3, .inl (G.2 0, 54, .inl (row r2)))] ++ [(am 4, .inl (G.2 0, 54, .inl (row r4)))]) H := hP
                have hD : va_D A (wM G am ho rn ln pl sd lt ro rf nb ++ [(am 1, .inl (G.2 0, 54, .inl (row r)))] ++ [(am 2, .inl (G.2 0, 54, .inl (row u_13)))] ++ [(am 3, .inl (G.2 0, 54, .inl (row r2)))] ++ [(am 4, .inl (G.2 0, 54, .inl (row r4)))]) := hD
                refine lv_istore (lv' := [(8, .int (pTwV r (ix t) (ix t2) (ix mi) k)), (7, .int (nI (k % 2))), (6, .int (nI (k / 2))), (5, .int (nI k)), (4, .int (wBy (nI (ix mi)).toInt 0 99)), (0, .ref (am 0)), (1, .int (nI (ix t))), (2, .int (nI (ix t2))), (3, .int (nI (ix mi)))]) hx hb dX9_two_77 hl (by decide) rfl (fun ls hl => ?_)
                refine lv_aload_n hx hb dX9_two_79 rfl (lv_at hl 5 rfl) ?_
                refine lv_iload_n hx hb dX9_two_80 rfl (lv_at hl 6 rfl) ?_
                refine lv_iconst (v := 1) hx hb dX9_two_81 (by decide) ?_
                refine lv_iload hx hb dX9_two_82 (lv_at hl 2 rfl) ?_
                refine x_isub hx hb dX9_two_84 (v := nI ((k ^^^ 2) / 2)) (tw_sub1 (by omega)).1 ?_
                refine lv_iload_n hx hb dX9_two_85 rfl (lv_at hl 7 rfl) ?_
                refine lv_iload hx hb dX9_two_86 (lv_at hl 1 rfl) ?_
                refine lv_iload_n hx hb dX9_two_88 rfl (lv_at hl 8 rfl) ?_
                refine x_Vi (wN := fun u_14 => (wM G am ho rn ln pl sd lt ro rf nb ++ [(am 1, .inl (G.2 0, 54, .inl (row r)))] ++ [(am 2, .inl (G.2 0, 54, .inl (row u_14)))] ++ [(am 3, .inl (G.2 0, 54, .inl (row r2)))] ++ [(am 4, .inl (G.2 0, 54, .inl (row r4)))])) ⟨C0, hK, hP, hD, hS, hA⟩ 0 rfl (ci := 8) rfl rfl ((m9_standingPulled l G am r u_13 r2 r4 ho rn ln pl sd lt ro rf nb hr hp (ix t) ((k ^^^ 2) / 2) (ix t2) (k % 2) (ix mi) (by omega) (by omega) (by omega) (by omega) (by omega))) (cwV 5 hts (lw_V q1439 q1441 qs83 q95 q1442) rfl rfl rfl (by decide +kernel) ⟨Nat.le_of_ble_eq_true rfl, Nat.le_of_ble_eq_true rfl⟩) [0, 1, 2, 3, 4, 5, 6, 7, 8] [1, 3, 5, 7, 9, 11, 13, 15, 17] rfl (fun _ => rfl) rfl rfl hl.1 rfl (Nat.le_of_ble_eq_true rfl) dX9_two_89 ⟨(Nat.le_of_ble_eq_true rfl), (Nat.le_of_ble_eq_true rfl)⟩ (fun r_14 u_14 H locs hw_14 hP hD hS => ?_)
                have hw_14 : r_14 = pTwV r (ix t) (ix t2) (ix mi) (k ^^^ 2) := hw_14.trans (tw_V2 (by omega))
                have hw_14 : (pTwV r (ix t) (ix t2) (ix mi) (k ^^^ 2) : Int32) = r_14 := hw_14.symm
                subst hw_14
                have hP : va_P G.1 vwCl (wM G am ho rn ln pl sd lt ro rf nb ++ [(am 1, .inl (G.2 0, 54, .inl (row r)))] ++ [(am 2, .inl (G.2 0, 54, .inl (row u_14)))] ++ [(am 3, .inl (G.2 0, 54, .inl (row r2)))] ++ [(am 4, .inl (G.2 0, 54, .inl (row r4)))]) H := hP
                have hD : va_D A (wM G am ho rn ln pl sd lt ro rf nb ++ [(am 1, .inl (G.2 0, 54, .inl (row r)))] ++ [(am 2, .inl (G.2 0, 54, .inl (row u_14)))] ++ [(am 3, .inl (G.2 0, 54, .inl (row r2)))] ++ [(am 4, .inl (G.2 0, 54, .inl (row r4)))]) := hD
                refine lv_iload hx hb dX9_two_92 (lv_at hl 0 rfl) ?_
                refine lv_icmp_gt (tgt := 124) hx hb dX9_two_94 (by decide) (fun c_15 => ?_) (fun c_15 => ?_)
                · skip
                  refine lv_iinc (v := nI (k + 1)) (lv' := [(5, .int (nI (k + 1))), (8, .int (pTwV r (ix t) (ix t2) (ix mi) k)), (7, .int (nI (k % 2))), (6, .int (nI (k / 2))), (4, .int (wBy (nI (ix mi)).toInt 0 99)), (0, .ref (am 0)), (1, .int (nI (ix t))), (2, .int (nI (ix t2))), (3, .int (nI (ix mi)))]) hx hb dX9_two_124 hl (k := 3) rfl (x_inc1 _) (by decide) rfl (fun ls hl => ?_)
                  refine lv_goto (tgt := 48) hx hb dX9_two_127 (by decide) ?_
                  exact ih_48 (k + 1) _ (by omega) (by omega) (fun j hj => if q : j = k then q ▸ (decide_eq_false (fun z => absurd z.1 (Int32.not_le.mpr (show pTwV r (ix t) (ix t2) (ix mi) k < pTwV r (ix t) (ix t2) (ix mi) (k ^^^ 2) from c_15)))) else hi48_2 j (by omega)) _ _ _ hP hD hS (lv_sub hl [0, 4, 5, 6, 7, 8] rfl)
                · skip
                  refine lv_aload_n hx hb dX9_two_97 rfl (lv_at hl 5 rfl) ?_
                  refine lv_iload_n hx hb dX9_two_98 rfl (lv_at hl 6 rfl) ?_
                  refine lv_iload hx hb dX9_two_99 (lv_at hl 2 rfl) ?_
                  refine lv_iload_n hx hb dX9_two_101 rfl (lv_at hl 7 rfl) ?_
                  refine lv_iconst (v := 1) hx hb dX9_two_102 (by decide) ?_
                  refine lv_iload hx hb dX9_two_103 (lv_at hl 1 rfl) ?_
                  refine x_isub hx hb dX9_two_105 (v := nI ((k ^^^ 1) % 2)) (tw_sub1 (by omega)).2.1 ?_
                  refine lv_iload_n hx hb dX9_two_106 rfl (lv_at hl 8 rfl) ?_
                  refine x_Vi (wN := fun u_16 => (wM G am ho rn ln pl sd lt ro rf nb ++ [(am 1, .inl (G.2 0, 54, .inl (row r)))] ++ [(am 2, .inl (G.2 0, 54, .inl (row u_16)))] ++ [(am 3, .inl (G.2 0, 54, .inl (row r2)))] ++ [(am 4, .inl (G.2 0, 54, .inl (row r4)))])) ⟨C0, hK, hP, hD, hS, hA⟩ 0 rfl (ci := 8) rfl rfl ((m9_standingPulled l G am r u_14 r2 r4 ho rn ln pl sd lt ro rf nb hr hp (ix t) (k / 2) (ix t2) ((k ^^^ 1) % 2) (ix mi) (by omega) (by omega) (by omega) (by omega) (by omega))) (cwV 5 hts (lw_V q1439 q1441 qs83 q95 q1442) rfl rfl rfl (by decide +kernel) ⟨Nat.le_of_ble_eq_true rfl, Nat.le_of_ble_eq_true rfl⟩) [0, 1, 2, 3, 4, 5, 6, 7, 8] [1, 3, 5, 7, 9, 11, 13, 15, 17] rfl (fun _ => rfl) rfl rfl hl.1 rfl (Nat.le_of_ble_eq_true rfl) dX9_two_107 ⟨(Nat.le_of_ble_eq_true rfl), (Nat.le_of_ble_eq_true rfl)⟩ (fun r_16 u_16 H locs hw_16 hP hD hS => ?_)
                  have hw_16 : r_16 = pTwV r (ix t) (ix t2) (ix mi) (k ^^^ 1) := hw_16.trans (tw_V3 (by omega))
                  have hw_16 : (pTwV r (ix t) (ix t2) (ix mi) (k ^^^ 1) : Int32) = r_16 := hw_16.symm
                  subst hw_16
                  have hP : va_P G.1 vwCl (wM G am ho rn ln pl sd lt ro rf nb ++ [(am 1, .inl (G.2 0, 54, .inl (row r)))] ++ [(am 2, .inl (G.2 0, 54, .inl (row u_16)))] ++ [(am 3, .inl (G.2 0, 54, .inl (row r2)))] ++ [(am 4, .inl (G.2 0, 54, .inl (row r4)))]) H := hP
                  have hD : va_D A (wM G am ho rn ln pl sd lt ro rf nb ++ [(am 1, .inl (G.2 0, 54, .inl (row r)))] ++ [(am 2, .inl (G.2 0, 54, .inl (row u_16)))] ++ [(am 3, .inl (G.2 0, 54, .inl (row r2)))] ++ [(am 4, .inl (G.2 0, 54, .inl (row r4)))]) := hD
                  refine lv_iload hx hb dX9_two_110 (lv_at hl 0 rfl) ?_
                  refine lv_icmp_lt (tgt := 124) hx hb dX9_two_112 (by decide) (fun c_17 => ?_) (fun c_17 => ?_)
                  · skip
                    refine lv_iinc (v := nI (k + 1)) (lv' := [(5, .int (nI (k + 1))), (8, .int (pTwV r (ix t) (ix t2) (ix mi) k)), (7, .int (nI (k % 2))), (6, .int (nI (k / 2))), (4, .int (wBy (nI (ix mi)).toInt 0 99)), (0, .ref (am 0)), (1, .int (nI (ix t))), (2, .int (nI (ix t2))), (3, .int (nI (ix mi)))]) hx hb dX9_two_124 hl (k := 3) rfl (x_inc1 _) (by decide) rfl (fun ls hl => ?_)
                    refine lv_goto (tgt := 48) hx hb dX9_two_127 (by decide) ?_
                    exact ih_48 (k + 1) _ (by omega) (by omega) (fun j hj => if q : j = k then q ▸ (decide_eq_false (fun z => absurd z.2 (Int32.not_le.mpr (show pTwV r (ix t) (ix t2) (ix mi) (k ^^^ 1) < pTwV r (ix t) (ix t2) (ix mi) k from c_17)))) else hi48_2 j (by omega)) _ _ _ hP hD hS (lv_sub hl [0, 4, 5, 6, 7, 8] rfl)
                  · skip
                    refine lv_bipush (v := 10) hx hb dX9_two_115 (by decide) ?_
                    refine lv_iload hx hb dX9_two_117 (lv_at hl 2 rfl) ?_
                    refine x_imul hx hb dX9_two_119 (v := 10 * (nI (k / 2))) rfl ?_
                    refine lv_iload hx hb dX9_two_120 (lv_at hl 1 rfl) ?_
                    refine x_iadd hx hb dX9_two_122 (v := nI (10 * (k / 2) + k % 2)) (x_t2 k (by omega)) ?_
                    have hE : eS (tB r t) (-1) (eS (tB r t2) (-1) (eS (decide (t ≠ t2)) (-1) (eW (wBy mi.toInt 0 99) 0))) = 0 := by rw [eS_t (show tB r t = true from (by first | exact bI_n0 c_2 | exact bI_0.mp c_2)), eS_t (show tB r t2 = true from (by first | exact bI_n0 c_6 | exact bI_0.mp c_6)), eS_t (decide_eq_true c_9), eW_0 c_11]
                    have hP : va_P G.1 vwCl (wM G am ho rn ln pl sd lt ro (sel (eS (tB r t) (-1) (eS (tB r t2) (-1) (eS (decide (t ≠ t2)) (-1) (eW (wBy mi.toInt 0 99) 0)))) rf (rfU rf (eS (tB r t) (-1) (eS (tB r t2) (-1) (eS (decide (t ≠ t2)) (-1) (eW (wBy mi.toInt 0 99) 0)))))) nb ++ [(am 1, .inl (G.2 0, 54, .inl (row r)))] ++ [(am 2, .inl (G.2 0, 54, .inl (row u_16)))] ++ [(am 3, .inl (G.2 0, 54, .inl (row r2)))] ++ [(am 4, .inl (G.2 0, 54, .inl (row r4)))]) H := by rw [hE]; simp only [sel_0 rfl]; exact hP
                    have hD : va_D A (wM G am ho rn ln pl sd lt ro (sel (eS (tB r t) (-1) (eS (tB r t2) (-1) (eS (decide (t ≠ t2)) (-1) (eW (wBy mi.toInt 0 99) 0)))) rf (rfU rf (eS (tB r t) (-1) (eS (tB r t2) (-1) (eS (decide (t ≠ t2)) (-1) (eW (wBy mi.toInt 0 99) 0)))))) nb ++ [(am 1, .inl (G.2 0, 54, .inl (row r)))] ++ [(am 2, .inl (G.2 0, 54, .inl (row u_16)))] ++ [(am 3, .inl (G.2 0, 54, .inl (row r2)))] ++ [(am 4, .inl (G.2 0, 54, .inl (row r4)))]) := by rw [hE]; simp only [sel_0 rfl]; exact hD
                    refine hret _ _ _ _ _ _ (nI (10 * (k / 2) + k % 2)) u_16 dX9_two_123 ?_ hP hD hS (Nat.le_of_ble_eq_true rfl) (Nat.le_of_ble_eq_true rfl)
                    rw [hE, sel_0 rfl]
                    exact pTwo_at (by omega) hi48_2 (decide_eq_true ⟨Int32.not_lt.mp (show ¬ pTwV r (ix t) (ix t2) (ix mi) k < pTwV r (ix t) (ix t2) (ix mi) (k ^^^ 2) from c_15), Int32.not_lt.mp (show ¬ pTwV r (ix t) (ix t2) (ix mi) (k ^^^ 1) < pTwV r (ix t) (ix t2) (ix mi) k from c_17)⟩)
          exact loop_48 5 0 _ (by omega) (by omega) (fun j hj => absurd hj (Nat.not_lt_zero j)) _ _ _ hP hD hS (lv_sub hl [0, 1, 2, 3, 4, 5] rfl)
        · skip
          refine lv_aload_n hx hb dX9_two_38 rfl (lv_at hl 1 rfl) ?_
          refine lv_iload hx hb dX9_two_39 (lv_at hl 0 rfl) ?_
          refine x_Vi (wN := fun _ => (wM G am ho rn ln pl sd lt ro (rfU rf (wBy mi.toInt 0 99)) nb ++ [(am 1, .inl (G.2 0, 54, .inl (row r)))] ++ [(am 2, .inl (G.2 0, 54, .inl (row rm)))] ++ [(am 3, .inl (G.2 0, 54, .inl (row r2)))] ++ [(am 4, .inl (G.2 0, 54, .inl (row r4)))])) ⟨C0, hK, hP, hD, hS, hA⟩ 0 rfl (ci := 8) rfl rfl ((m9_no l G am ho rn ln pl sd lt ro rf nb (wBy mi.toInt 0 99) (cOk.no cOk_WW c_11))) (cwV 1 hts (lw_V q1206 q1208 qs66 q95 q1209) rfl rfl rfl (by decide +kernel) ⟨Nat.le_of_ble_eq_true rfl, Nat.le_of_ble_eq_true rfl⟩) [0, 1, 2, 3, 4] [1, 3, 5, 7, 9, 10, 12, 14, 16] rfl (fun _ => rfl) rfl rfl hl.1 rfl (Nat.le_of_ble_eq_true rfl) dX9_two_41 ⟨(Nat.le_of_ble_eq_true rfl), (Nat.le_of_ble_eq_true rfl)⟩ (fun r_18 u_18 H locs hw_18 hP hD hS => ?_)
          have hw_18 : (wBy mi.toInt 0 99 : Int32) = r_18 := hw_18.symm
          subst hw_18
          have hP : va_P G.1 vwCl (wM G am ho rn ln pl sd lt ro (rfU rf (wBy mi.toInt 0 99)) nb ++ [(am 1, .inl (G.2 0, 54, .inl (row r)))] ++ [(am 2, .inl (G.2 0, 54, .inl (row rm)))] ++ [(am 3, .inl (G.2 0, 54, .inl (row r2)))] ++ [(am 4, .inl (G.2 0, 54, .inl (row r4)))]) H := hP
          have hD : va_D A (wM G am ho rn ln pl sd lt ro (rfU rf (wBy mi.toInt 0 99)) nb ++ [(am 1, .inl (G.2 0, 54, .inl (row r)))] ++ [(am 2, .inl (G.2 0, 54, .inl (row rm)))] ++ [(am 3, .inl (G.2 0, 54, .inl (row r2)))] ++ [(am 4, .inl (G.2 0, 54, .inl (row r4)))]) := hD
          have hE : eS (tB r t) (-1) (eS (tB r t2) (-1) (eS (decide (t ≠ t2)) (-1) (eW (wBy mi.toInt 0 99) 0))) = wBy mi.toInt 0 99 := by rw [eS_t (show tB r t = true from (by first | exact bI_n0 c_2 | exact bI_0.mp c_2)), eS_t (show tB r t2 = true from (by first | exact bI_n0 c_6 | exact bI_0.mp c_6)), eS_t (decide_eq_true c_9), eW_n c_11]
          have hne : (wBy mi.toInt 0 99 : Int32) ≠ 0 := c_11
          have hP : va_P G.1 vwCl (wM G am ho rn ln pl sd lt ro (sel (eS (tB r t) (-1) (eS (tB r t2) (-1) (eS (decide (t ≠ t2)) (-1) (eW (wBy mi.toInt 0 99) 0)))) rf (rfU rf (eS (tB r t) (-1) (eS (tB r t2) (-1) (eS (decide (t ≠ t2)) (-1) (eW (wBy mi.toInt 0 99) 0)))))) nb ++ [(am 1, .inl (G.2 0, 54, .inl (row r)))] ++ [(am 2, .inl (G.2 0, 54, .inl (row rm)))] ++ [(am 3, .inl (G.2 0, 54, .inl (row r2)))] ++ [(am 4, .inl (G.2 0, 54, .inl (row r4)))]) H := by rw [hE]; simp only [sel_n hne]; exact hP
          have hD : va_D A (wM G am ho rn ln pl sd lt ro (sel (eS (tB r t) (-1) (eS (tB r t2) (-1) (eS (decide (t ≠ t2)) (-1) (eW (wBy mi.toInt 0 99) 0)))) rf (rfU rf (eS (tB r t) (-1) (eS (tB r t2) (-1) (eS (decide (t ≠ t2)) (-1) (eW (wBy mi.toInt 0 99) 0)))))) nb ++ [(am 1, .inl (G.2 0, 54, .inl (row r)))] ++ [(am 2, .inl (G.2 0, 54, .inl (row rm)))] ++ [(am 3, .inl (G.2 0, 54, .inl (row r2)))] ++ [(am 4, .inl (G.2 0, 54, .inl (row r4)))]) := by rw [hE]; simp only [sel_n hne]; exact hD
          refine hret _ _ _ _ _ _ (wBy mi.toInt 0 99) rm dX9_two_44 ?_ hP hD hS (Nat.le_of_ble_eq_true rfl) (Nat.le_of_ble_eq_true rfl)
          rw [hE, sel_n hne]
      · skip
        refine lv_iconst (v := (-1)) hx hb dX9_two_21 (by decide) ?_
        refine lv_goto (tgt := 31) hx hb dX9_two_22 (by decide) ?_
        refine lv_istore (lv' := [(4, .int (-1)), (0, .ref (am 0)), (1, .int t), (2, .int t2), (3, .int mi)]) hx hb dX9_two_31 hl (by decide) rfl (fun ls hl => ?_)
        refine lv_iload hx hb dX9_two_33 (lv_at hl 0 rfl) ?_
        refine lv_if_eq (tgt := 45) hx hb dX9_two_35 (by decide) (fun c_19 => ?_) (fun c_19 => ?_)
        · skip
          exact absurd c_19 (by decide)
        · skip
          refine lv_aload_n hx hb dX9_two_38 rfl (lv_at hl 1 rfl) ?_
          refine lv_iload hx hb dX9_two_39 (lv_at hl 0 rfl) ?_
          refine x_Vi (wN := fun _ => (wM G am ho rn ln pl sd lt ro (rfU rf (-1)) nb ++ [(am 1, .inl (G.2 0, 54, .inl (row r)))] ++ [(am 2, .inl (G.2 0, 54, .inl (row rm)))] ++ [(am 3, .inl (G.2 0, 54, .inl (row r2)))] ++ [(am 4, .inl (G.2 0, 54, .inl (row r4)))])) ⟨C0, hK, hP, hD, hS, hA⟩ 0 rfl (ci := 8) rfl rfl ((m9_no l G am ho rn ln pl sd lt ro rf nb (-1) noOk_k.1)) (cwV 1 hts (lw_V q1206 q1208 qs66 q95 q1209) rfl rfl rfl (by decide +kernel) ⟨Nat.le_of_ble_eq_true rfl, Nat.le_of_ble_eq_true rfl⟩) [0, 1, 2, 3, 4] [1, 3, 5, 7, 9, 10, 12, 14, 16] rfl (fun _ => rfl) rfl rfl hl.1 rfl (Nat.le_of_ble_eq_true rfl) dX9_two_41 ⟨(Nat.le_of_ble_eq_true rfl), (Nat.le_of_ble_eq_true rfl)⟩ (fun r_20 u_20 H locs hw_20 hP hD hS => ?_)
          have hw_20 : ((-1) : Int32) = r_20 := hw_20.symm
          subst hw_20
          have hP : va_P G.1 vwCl (wM G am ho rn ln pl sd lt ro (rfU rf (-1)) nb ++ [(am 1, .inl (G.2 0, 54, .inl (row r)))] ++ [(am 2, .inl (G.2 0, 54, .inl (row rm)))] ++ [(am 3, .inl (G.2 0, 54, .inl (row r2)))] ++ [(am 4, .inl (G.2 0, 54, .inl (row r4)))]) H := hP
          have hD : va_D A (wM G am ho rn ln pl sd lt ro (rfU rf (-1)) nb ++ [(am 1, .inl (G.2 0, 54, .inl (row r)))] ++ [(am 2, .inl (G.2 0, 54, .inl (row rm)))] ++ [(am 3, .inl (G.2 0, 54, .inl (row r2)))] ++ [(am 4, .inl (G.2 0, 54, .inl (row r4)))]) := hD
          have hE : eS (tB r t) (-1) (eS (tB r t2) (-1) (eS (decide (t ≠ t2)) (-1) (eW (wBy mi.toInt 0 99) 0))) = (-1) := by rw [eS_t (show tB r t = true from (by first | exact bI_n0 c_2 | exact bI_0.mp c_2)), eS_t (show tB r t2 = true from (by first | exact bI_n0 c_6 | exact bI_0.mp c_6)), eS_f (decide_eq_false (fun z => z c_9))]
          have hne : ((-1) : Int32) ≠ 0 := (by decide)
          have hP : va_P G.1 vwCl (wM G am ho rn ln pl sd lt ro (sel (eS (tB r t) (-1) (eS (tB r t2) (-1) (eS (decide (t ≠ t2)) (-1) (eW (wBy mi.toInt 0 99) 0)))) rf (rfU rf (eS (tB r t) (-1) (eS (tB r t2) (-1) (eS (decide (t ≠ t2)) (-1) (eW (wBy mi.toInt 0 99) 0)))))) nb ++ [(am 1, .inl (G.2 0, 54, .inl (row r)))] ++ [(am 2, .inl (G.2 0, 54, .inl (row rm)))] ++ [(am 3, .inl (G.2 0, 54, .inl (row r2)))] ++ [(am 4, .inl (G.2 0, 54, .inl (row r4)))]) H := by rw [hE]; simp only [sel_n hne]; exact hP
          have hD : va_D A (wM G am ho rn ln pl sd lt ro (sel (eS (tB r t) (-1) (eS (tB r t2) (-1) (eS (decide (t ≠ t2)) (-1) (eW (wBy mi.toInt 0 99) 0)))) rf (rfU rf (eS (tB r t) (-1) (eS (tB r t2) (-1) (eS (decide (t ≠ t2)) (-1) (eW (wBy mi.toInt 0 99) 0)))))) nb ++ [(am 1, .inl (G.2 0, 54, .inl (row r)))] ++ [(am 2, .inl (G.2 0, 54, .inl (row rm)))] ++ [(am 3, .inl (G.2 0, 54, .inl (row r2)))] ++ [(am 4, .inl (G.2 0, 54, .inl (row r4)))]) := by rw [hE]; simp only [sel_n hne]; exact hD
          refine hret _ _ _ _ _ _ (-1) rm dX9_two_44 ?_ hP hD hS (Nat.le_of_ble_eq_true rfl) (Nat.le_of_ble_eq_true rfl)
          rw [hE, sel_n hne]
set_option maxHeartbeats 4000000 in
set_option maxRecDepth 100000 in
theorem m9_gcd (l : Launch) (G : xG) (a b : Nat) (ha : a < 2 ^ 63) (hb9 : b < 2 ^ 63) : xCl l G yX9_gcd cX9_gcd 10 (some .long) ({ frames := 0, cells := 0, slots := 0, locals := 0 } : Room) [.long (lN a), .long (lN b)] ([] : va_W) (S := Unit) (fun v _ => v = lN (Nat.gcd a b)) (fun _ => []) := by
  refine x_openl (by decide) (Nat.le_of_ble_eq_true rfl) ?_
  intro p e s m args below meth c A Q ls C0 hK hP hD hA hl hret
  obtain ⟨hx, hb, hml, hown, hts⟩ := id C0
  have hS : va_S A s.heap s.heap [] := va_S.rf
  have hP : va_P G.1 vwCl ([] : va_W) s.heap := hP
  have hD : va_D A ([] : va_W) := hD
  have hl : lv_has ls 10 [(0, .long (lN a)), (2, .long (lN b))] := hl
  refine lv_lload_n hx hb dX9_gcd_0 rfl (lv_at hl 0 rfl) ?_
  refine lv_lstore (lv' := [(4, .long (lN a)), (0, .long (lN a)), (2, .long (lN b))]) hx hb dX9_gcd_1 hl (by decide) rfl (fun ls hl => ?_)
  refine lv_lload_n hx hb dX9_gcd_3 rfl (lv_at hl 2 rfl) ?_
  refine lv_lstore (lv' := [(6, .long (lN b)), (4, .long (lN a)), (0, .long (lN a)), (2, .long (lN b))]) hx hb dX9_gcd_4 hl (by decide) rfl (fun ls hl => ?_)
  have loop_6 : ∀ (n : Nat) (x y : Nat), (y < n) → (x < 2 ^ 63) → (y < 2 ^ 63) → (Nat.gcd x y = Nat.gcd a b) → ∀ (H : Heap) (locs : List Loc) (ls : Array Slot), va_P G.1 vwCl ([] : va_W) H → va_D A ([] : va_W) → va_S A s.heap H locs → lv_has ls 10 [(6, .long (lN y)), (4, .long (lN x)), (0, .long (lN a)), (2, .long (lN b))] → W p l e ({ frames := 0, cells := 0, slots := 0, locals := 0 } : Room) s m args below meth c H locs 0 0 Q (F0 m 6 ls []) := by
    intro n
    induction n with
    | zero => intro x y hi6_0 hi6_1 hi6_2 hi6_3; exact absurd hi6_0 (by omega)
    | succ n ih_6 =>
      intro x y hi6_0 hi6_1 hi6_2 hi6_3 H locs ls hP hD hS hl
      refine lv_lload hx hb dX9_gcd_6 (lv_at hl 0 rfl) ?_
      refine lv_lconst (v := 0) hx hb dX9_gcd_8 (by decide) ?_
      refine W.lcmp hx hb dX9_gcd_9 ?_
      refine lv_if_eq (tgt := 31) hx hb dX9_gcd_10 (by decide) (fun c_1 => ?_) (fun c_1 => ?_)
      · skip
        have ey : y = 0 := (lN_z hi6_2).mp c_1
        refine lv_lload hx hb dX9_gcd_31 (lv_at hl 1 rfl) ?_
        refine hret _ _ _ _ _ _ (lN x) () dX9_gcd_33 ?_ hP hD hS (Nat.le_of_ble_eq_true rfl) (Nat.le_of_ble_eq_true rfl)
        rw [← hi6_3, ey, Nat.gcd_zero_right]
      · skip
        have ey : y ≠ 0 := fun q => c_1 ((lN_z hi6_2).mpr q)
        refine lv_lload hx hb dX9_gcd_13 (lv_at hl 1 rfl) ?_
        refine lv_lload hx hb dX9_gcd_15 (lv_at hl 0 rfl) ?_
        refine x_lrem hx hb dX9_gcd_17 (fun q => ey ((pk_lEQ (b := 0) hi6_2 (by omega)).mp q)) (v := lN (x % y)) (pk_lRem hi6_1 (by omega) hi6_2) ?_
        refine lv_lstore (lv' := [(8, .long (lN (x % y))), (6, .long (lN y)), (4, .long (lN x)), (0, .long (lN a)), (2, .long (lN b))]) hx hb dX9_gcd_18 hl (by decide) rfl (fun ls hl => ?_)
        refine lv_lload hx hb dX9_gcd_20 (lv_at hl 1 rfl) ?_
        refine lv_lstore (lv' := [(4, .long (lN y)), (8, .long (lN (x % y))), (6, .long (lN y)), (0, .long (lN a)), (2, .long (lN b))]) hx hb dX9_gcd_22 hl (by decide) rfl (fun ls hl => ?_)
        refine lv_lload hx hb dX9_gcd_24 (lv_at hl 1 rfl) ?_
        refine lv_lstore (lv' := [(6, .long (lN (x % y))), (4, .long (lN y)), (8, .long (lN (x % y))), (0, .long (lN a)), (2, .long (lN b))]) hx hb dX9_gcd_26 hl (by decide) rfl (fun ls hl => ?_)
        refine lv_goto (tgt := 6) hx hb dX9_gcd_28 (by decide) ?_
        exact ih_6 y (x % y) (by have := Nat.mod_lt x (show 0 < y by omega); omega) hi6_2 (by have := Nat.mod_lt x (show 0 < y by omega); omega) (by rw [Nat.gcd_comm y, ← Nat.gcd_rec, Nat.gcd_comm, hi6_3]) _ _ _ hP hD hS (lv_sub hl [0, 1, 3, 4] rfl)
  exact loop_6 (b + 1) a b (by omega) ha hb9 rfl _ _ _ hP hD hS (lv_sub hl [0, 1, 2, 3] rfl)
set_option maxHeartbeats 4000000 in
set_option maxRecDepth 100000 in
theorem m9_partOf (l : Launch) (G : xG) (a b : Nat) (part : Int32) (ha : a < 2 ^ 63) (hb9 : b < 2 ^ 63) (hb0 : 0 < b) : xCl l G yX9_partOf cX9_partOf 5 (some .long) ({ frames := 1, cells := 0, slots := 0, locals := 29 } : Room) [.long (lN a), .long (lN b), .int part] ([] : va_W) (S := Unit) (fun v _ => v = pDrF a b part) (fun _ => []) := by
  refine x_openl (by decide) (Nat.le_of_ble_eq_true rfl) ?_
  intro p e s m args below meth c A Q ls C0 hK hP hD hA hl hret
  obtain ⟨hx, hb, hml, hown, hts⟩ := id C0
  have hS : va_S A s.heap s.heap [] := va_S.rf
  have hP : va_P G.1 vwCl ([] : va_W) s.heap := hP
  have hD : va_D A ([] : va_W) := hD
  have hl : lv_has ls 5 [(0, .long (lN a)), (2, .long (lN b)), (4, .int part)] := hl
  have hg0 : 0 < Nat.gcd a b := Nat.gcd_pos_of_pos_right _ hb0
  have hg1 : Nat.gcd a b < 2 ^ 63 := Nat.lt_of_le_of_lt (Nat.gcd_le_right _ hb0) hb9
  refine lv_lload_n hx hb dX9_partOf_0 rfl (lv_at hl 0 rfl) ?_
  refine lv_lconst (v := 0) hx hb dX9_partOf_1 (by decide) ?_
  refine W.lcmp hx hb dX9_partOf_2 ?_
  refine lv_if_ne (tgt := 10) hx hb dX9_partOf_3 (by decide) (fun c_1 => ?_) (fun c_1 => ?_)
  · skip
    have ea : ¬ a = 0 := fun q => c_1 ((lN_z ha).mpr q)
    refine lv_iload hx hb dX9_partOf_10 (lv_at hl 2 rfl) ?_
    refine lv_if_ne (tgt := 19) hx hb dX9_partOf_12 (by decide) (fun c_2 => ?_) (fun c_2 => ?_)
    · skip
      refine lv_lload_n hx hb dX9_partOf_19 rfl (lv_at hl 1 rfl) ?_
      refine lv_lload_n hx hb dX9_partOf_20 rfl (lv_at hl 0 rfl) ?_
      refine lv_lload_n hx hb dX9_partOf_21 rfl (lv_at hl 1 rfl) ?_
      refine x_Sl (wN := fun _ => ([] : va_W)) ⟨C0, hK, hP, hD, hS, hA⟩ ((m9_gcd l G a b ha hb9)) (va_cwS 2 hts (lw_S q1432 q1433 q95 q1434) rfl rfl rfl (by decide +kernel) ⟨Nat.le_of_ble_eq_true rfl, Nat.le_of_ble_eq_true rfl⟩) [] [] rfl (fun _ => rfl) rfl rfl hl.1 rfl (Nat.le_of_ble_eq_true rfl) dX9_partOf_22 ⟨(Nat.le_of_ble_eq_true rfl), (Nat.le_of_ble_eq_true rfl)⟩ (fun r_3 u_3 H locs hw_3 hP hD hS => ?_)
      have hw_3 : (lN (Nat.gcd a b) : Int64) = r_3 := hw_3.symm
      subst hw_3
      refine x_ldiv hx hb dX9_partOf_25 (fun q => absurd ((pk_lEQ (b := 0) hg1 (by omega)).mp q) (by omega)) (v := lN (b / Nat.gcd a b)) (pk_lDiv hb9 hg0 hg1) ?_
      refine hret _ _ _ _ _ _ (lN (b / Nat.gcd a b)) () dX9_partOf_26 ?_ hP hD hS (Nat.le_of_ble_eq_true rfl) (Nat.le_of_ble_eq_true rfl)
      unfold pDrF
      rw [if_neg ea, if_neg c_2]
    · skip
      refine lv_lload_n hx hb dX9_partOf_15 rfl (lv_at hl 0 rfl) ?_
      refine lv_goto (tgt := 20) hx hb dX9_partOf_16 (by decide) ?_
      refine lv_lload_n hx hb dX9_partOf_20 rfl (lv_at hl 0 rfl) ?_
      refine lv_lload_n hx hb dX9_partOf_21 rfl (lv_at hl 1 rfl) ?_
      refine x_Sl (wN := fun _ => ([] : va_W)) ⟨C0, hK, hP, hD, hS, hA⟩ ((m9_gcd l G a b ha hb9)) (va_cwS 2 hts (lw_S q1432 q1433 q95 q1434) rfl rfl rfl (by decide +kernel) ⟨Nat.le_of_ble_eq_true rfl, Nat.le_of_ble_eq_true rfl⟩) [] [] rfl (fun _ => rfl) rfl rfl hl.1 rfl (Nat.le_of_ble_eq_true rfl) dX9_partOf_22 ⟨(Nat.le_of_ble_eq_true rfl), (Nat.le_of_ble_eq_true rfl)⟩ (fun r_4 u_4 H locs hw_4 hP hD hS => ?_)
      have hw_4 : (lN (Nat.gcd a b) : Int64) = r_4 := hw_4.symm
      subst hw_4
      refine x_ldiv hx hb dX9_partOf_25 (fun q => absurd ((pk_lEQ (b := 0) hg1 (by omega)).mp q) (by omega)) (v := lN (a / Nat.gcd a b)) (pk_lDiv ha hg0 hg1) ?_
      refine hret _ _ _ _ _ _ (lN (a / Nat.gcd a b)) () dX9_partOf_26 ?_ hP hD hS (Nat.le_of_ble_eq_true rfl) (Nat.le_of_ble_eq_true rfl)
      unfold pDrF
      rw [if_neg ea, if_pos c_2]
  · skip
    have ea : a = 0 := (lN_z ha).mp c_1
    refine lv_iload hx hb dX9_partOf_6 (lv_at hl 2 rfl) ?_
    refine lv_i2l (v := part.toInt64) hx hb dX9_partOf_8 rfl ?_
    refine hret _ _ _ _ _ _ part.toInt64 () dX9_partOf_9 ?_ hP hD hS (Nat.le_of_ble_eq_true rfl) (Nat.le_of_ble_eq_true rfl)
    unfold pDrF
    rw [if_pos ea]

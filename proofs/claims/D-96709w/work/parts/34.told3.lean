/-! what is told and done, by checks, 3 (printed by tools/told3.py) -/
theorem kindI {k : Int32} {c : Nat} (e : k = nI c) : nI c = k := e.symm
def pTurn (r : Rw) (t k f : Nat) : Rw := sf (sf r 0 (upd (r 0) t (nI k))) 1 (upd (r 1) t (nI f))
theorem Ok.turn {r : Rw} (h : Ok r) {t k f : Nat} (hk : k < 6) (hf : f ≤ 9) : Ok (pTurn r t k f) := Ok.turn1 (h.turn0 hk) hf
theorem kOk.turn {ka : Nat → Nat} {kd : Nat → Option Nat} {r : Rw} (h : kOk ka kd r) {t k f : Nat} (hk : k < 6) : kOk ka (va_up kd t (some (ka k))) (pTurn r t k f) := h.turn0 hk
set_option maxHeartbeats 4000000 in
set_option maxRecDepth 100000 in
theorem m_lotsTold (l : Launch) (hl0 : l.stackTraces = false) (G : xG) (ad : Nat → Nat → Nat) (kd k1 k2 : Nat → Option Nat) (r r1 r2 : Rw) (ho rn ln dr : Int32) (ro lt rf th sb : Nat → Int32) (hr : Ok r) (hp : r 5 3 = 0) (hk : kOk (ad 4) kd r) (cnt z w : Int32) : yCi l G yX0_lotsTold cX0_lotsTold 4 (some .int) ({ frames := 9, cells := 4, slots := 28, locals := 159 } : Room) [.ref (ad 0 0), .int cnt, .int z, .int w] (wX G ad ho rn ln dr ro lt rf th sb ++ wR G (ad 1) kd r ++ wR G (ad 2) k1 r1 ++ wR G (ad 3) k2 r2 ++ wK (ad 4)) (S := (((Nat → Option Nat) × Rw) × Int32)) (SX := Unit) (fun v _ => eW (wBy cnt.toInt 1 20) (eS (inR w 0 1) (-2) (eS (decide (0 < nI (mny r))) (-3) 0)) = 0 ∧ v = (lSum r w z (ix cnt)).2) (fun u => (wX G ad ho rn ln u.2 ro lt rf th sb ++ wR G (ad 1) kd r ++ wR G (ad 2) u.1.1 u.1.2 ++ wR G (ad 3) k2 r2 ++ wK (ad 4))) (fun n _ => n = eW (wBy cnt.toInt 1 20) (eS (inR w 0 1) (-2) (eS (decide (0 < nI (mny r))) (-3) 0)) ∧ eW (wBy cnt.toInt 1 20) (eS (inR w 0 1) (-2) (eS (decide (0 < nI (mny r))) (-3) 0)) ≠ 0) (fun _ => (wX G ad ho rn ln dr ro lt rf th sb ++ wR G (ad 1) kd r ++ wR G (ad 2) k1 r1 ++ wR G (ad 3) k2 r2 ++ wK (ad 4))) := by
  refine y_openi (by decide) (Nat.le_of_ble_eq_true rfl) (fun _ _ _ => rfl) ?_
  intro p e s m args below meth c A Q ls C0 hK hZ hP hD hA hl hret hthr
  obtain ⟨hx, hb, hml, hown, hts⟩ := id C0
  have hS : va_S A s.heap s.heap [] := va_S.rf
  have hP : va_P G.1 vwCl (wX G ad ho rn ln dr ro lt rf th sb ++ wR G (ad 1) kd r ++ wR G (ad 2) k1 r1 ++ wR G (ad 3) k2 r2 ++ wK (ad 4)) s.heap := hP
  have hD : va_D A (wX G ad ho rn ln dr ro lt rf th sb ++ wR G (ad 1) kd r ++ wR G (ad 2) k1 r1 ++ wR G (ad 3) k2 r2 ++ wK (ad 4)) := hD
  have hl : lv_has ls 4 [(0, .ref (ad 0 0)), (1, .int cnt), (2, .int z), (3, .int w)] := hl
  have hr0 := hr.n
  have hN := hr.le
  refine lv_iload_n hx hb dX0_lotsTold_0 rfl (lv_at hl 1 rfl) ?_
  refine lv_i2l (v := cnt.toInt64) hx hb dX0_lotsTold_1 rfl ?_
  refine lv_lconst (v := 1) hx hb dX0_lotsTold_2 (by decide) ?_
  refine lv_ldc2 (v := 20) hx hb hown (hts _ q978) dX0_lotsTold_3 ?_
  refine y_Sv (wN := fun _ => (wX G ad ho rn ln dr ro lt rf th sb ++ wR G (ad 1) kd r ++ wR G (ad 2) k1 r1 ++ wR G (ad 3) k2 r2 ++ wK (ad 4))) (wNx := fun u9 => (wX G ad ho rn ln dr ro lt rf th sb ++ wR G (ad 1) kd r ++ wR G (ad 2) k1 r1 ++ wR G (ad 3) k2 r2 ++ wK (ad 4))) ⟨C0, hK, hP, hD, hS, hA⟩ hZ ((m_within l hl0 G cnt.toInt64 1 20)) (va_cwS 3 hts (lw_S q283 q284 q86 q285) rfl rfl rfl (by decide +kernel) ⟨Nat.le_of_ble_eq_true rfl, Nat.le_of_ble_eq_true rfl⟩) [] [0, 2, 4, 6, 8, 10, 12, 14, 16, 18, 20, 22, 24, 26, 28, 30, 32, 34, 36, 38, 40, 42, 44, 46, 48, 50, 52, 54, 56, 58, 60] [0, 2, 4, 6, 8, 10, 12, 14, 16, 18, 20, 22, 24, 26, 28, 30, 32, 34, 36, 38, 40, 42, 44, 46, 48, 50, 52, 54, 56, 58, 60, 1] rfl (fun _ => rfl) (fun _ _ _ => rfl) rfl rfl rfl hl.1 rfl (Nat.le_of_ble_eq_true rfl) dX0_lotsTold_6 ⟨(Nat.le_of_ble_eq_true rfl), (Nat.le_of_ble_eq_true rfl)⟩ (fun q9 u9 ee H locs hw_1 hP hD hS => ?_) (fun u_1 H locs hw_1 hP hD hS => ?_)
  · skip
    refine hthr _ _ _ _ _ _ _ q9 () ee ?_ hP hD hS (Nat.le_of_ble_eq_true rfl) (Nat.le_of_ble_eq_true rfl)
    obtain ⟨h8, h9⟩ := hw_1
    rw [i2l_toInt] at h8 h9
    have h8 : ee.2.1 = wBy _ 1 20 := h8
    have h9 : wBy _ 1 20 ≠ 0 := h9
    have e9 : eW (wBy cnt.toInt 1 20) (eS (inR w 0 1) (-2) (eS (decide (0 < nI (mny r))) (-3) 0)) = ee.2.1 := by rw [eW_n h9]; exact h8.symm
    exact ⟨e9.symm, by rw [e9, h8]; exact h9⟩
  · skip
    refine W.widen (k := 2) (n := 14) (Nat.le_of_ble_eq_true rfl) (Nat.le_of_ble_eq_true rfl) ?_
    rw [i2l_toInt] at hw_1
    have hw_1 : wBy _ 1 20 = 0 := hw_1
    obtain ⟨hj_cnt, hk_cnt, et_cnt⟩ := wB1_ix (n := 20) (by omega) hw_1
    rw [et_cnt] at hl
    refine lv_iload_n hx hb dX0_lotsTold_9 rfl (lv_at hl 3 rfl) ?_
    refine y_Sv (wN := fun _ => (wX G ad ho rn ln dr ro lt rf th sb ++ wR G (ad 1) kd r ++ wR G (ad 2) k1 r1 ++ wR G (ad 3) k2 r2 ++ wK (ad 4))) (wNx := fun u9 => (wX G ad ho rn ln dr ro lt rf th sb ++ wR G (ad 1) kd r ++ wR G (ad 2) k1 r1 ++ wR G (ad 3) k2 r2 ++ wK (ad 4))) ⟨C0, hK, hP, hD, hS, hA⟩ hZ ((m_mustBeBit l hl0 G w)) (va_cwS 1 hts (lw_S q808 q809 q86 q810) rfl rfl rfl (by decide +kernel) ⟨Nat.le_of_ble_eq_true rfl, Nat.le_of_ble_eq_true rfl⟩) [] [0, 2, 4, 6, 8, 10, 12, 14, 16, 18, 20, 22, 24, 26, 28, 30, 32, 34, 36, 38, 40, 42, 44, 46, 48, 50, 52, 54, 56, 58, 60] [0, 2, 4, 6, 8, 10, 12, 14, 16, 18, 20, 22, 24, 26, 28, 30, 32, 34, 36, 38, 40, 42, 44, 46, 48, 50, 52, 54, 56, 58, 60, 1] rfl (fun _ => rfl) (fun _ _ _ => rfl) rfl rfl rfl hl.1 rfl (Nat.le_of_ble_eq_true rfl) dX0_lotsTold_10 ⟨(Nat.le_of_ble_eq_true rfl), (Nat.le_of_ble_eq_true rfl)⟩ (fun q9 u9 ee H locs hw_2 hP hD hS => ?_) (fun u_2 H locs hw_2 hP hD hS => ?_)
    · skip
      refine hthr _ _ _ _ _ _ _ q9 () ee ?_ hP hD hS (Nat.le_of_ble_eq_true rfl) (Nat.le_of_ble_eq_true rfl)
      obtain ⟨h8, h9⟩ := hw_2
      have e9 : eW (wBy cnt.toInt 1 20) (eS (inR w 0 1) (-2) (eS (decide (0 < nI (mny r))) (-3) 0)) = ee.2.1 := by rw [eW_0 hw_1, eS_f h8]; exact h9.symm
      exact ⟨e9.symm, by rw [e9, h9]; decide⟩
    · skip
      refine W.widen (k := 3) (n := 21) (Nat.le_of_ble_eq_true rfl) (Nat.le_of_ble_eq_true rfl) ?_
      refine lv_aload_n hx hb dX0_lotsTold_13 rfl (lv_at hl 0 rfl) ?_
      refine va_get (D := G.1) (ci := 0) (v := .ref ((ad 1) 0)) (C := RX0) (T := TX0) (N := 13) hx hb hts in_X0 hown hK.1 hP 0 rfl rfl 1 (by decide) (hts _ q222) (fun _ h9 => h9) rfl dX0_lotsTold_14 ?_
      refine va_getN (D := G.1) (ci := 7) (v := .int (nI (mny r))) (C := RX8) (T := TX8) (N := 9) hx hb hts in_X8 hown hK.1 hP 7 rfl rfl 0 (by decide) (va_Nw.use rfl (hK.2.F 4 rfl)) (fun _ h9 => h9) (x_some hr0) dX0_lotsTold_17 ?_
      refine lv_if_le (tgt := 27) hx hb dX0_lotsTold_20 (by decide) (fun c_3 => ?_) (fun c_3 => ?_)
      · skip
        refine lv_iconst (v := 0) hx hb dX0_lotsTold_27 (by decide) ?_
        have eb_28 : (0 : Int32) = bI (decide (0 < nI (mny r))) := bI_F (decide_eq_false (fun z => absurd z (Int32.not_lt.mpr c_3)))
        rw [eb_28]
        refine lv_bipush (v := (-3)) hx hb dX0_lotsTold_28 (by decide) ?_
        refine y_Sv (wN := fun _ => (wX G ad ho rn ln dr ro lt rf th sb ++ wR G (ad 1) kd r ++ wR G (ad 2) k1 r1 ++ wR G (ad 3) k2 r2 ++ wK (ad 4))) (wNx := fun u9 => (wX G ad ho rn ln dr ro lt rf th sb ++ wR G (ad 1) kd r ++ wR G (ad 2) k1 r1 ++ wR G (ad 3) k2 r2 ++ wK (ad 4))) ⟨C0, hK, hP, hD, hS, hA⟩ hZ ((m_must l hl0 G (decide (0 < nI (mny r))) (-3))) (va_cwS 2 hts (lw_S q286 q287 q86 q288) rfl rfl rfl (by decide +kernel) ⟨Nat.le_of_ble_eq_true rfl, Nat.le_of_ble_eq_true rfl⟩) [] [0, 2, 4, 6, 8, 10, 12, 14, 16, 18, 20, 22, 24, 26, 28, 30, 32, 34, 36, 38, 40, 42, 44, 46, 48, 50, 52, 54, 56, 58, 60] [0, 2, 4, 6, 8, 10, 12, 14, 16, 18, 20, 22, 24, 26, 28, 30, 32, 34, 36, 38, 40, 42, 44, 46, 48, 50, 52, 54, 56, 58, 60, 1] rfl (fun _ => rfl) (fun _ _ _ => rfl) rfl rfl rfl hl.1 rfl (Nat.le_of_ble_eq_true rfl) dX0_lotsTold_30 ⟨(Nat.le_of_ble_eq_true rfl), (Nat.le_of_ble_eq_true rfl)⟩ (fun q9 u9 ee H locs hw_4 hP hD hS => ?_) (fun u_4 H locs hw_4 hP hD hS => ?_)
        · skip
          refine hthr _ _ _ _ _ _ _ q9 () ee ?_ hP hD hS (Nat.le_of_ble_eq_true rfl) (Nat.le_of_ble_eq_true rfl)
          obtain ⟨h8, h9⟩ := hw_4
          have e9 : eW (wBy cnt.toInt 1 20) (eS (inR w 0 1) (-2) (eS (decide (0 < nI (mny r))) (-3) 0)) = ee.2.1 := by rw [eW_0 hw_1, eS_t hw_2, eS_f h8]; exact h9.symm
          exact ⟨e9.symm, by rw [e9, h9]; decide⟩
        · skip
          refine W.widen (k := 4) (n := 28) (Nat.le_of_ble_eq_true rfl) (Nat.le_of_ble_eq_true rfl) ?_
          have hm0 : 0 < mny r := (nI_ltI (a := 0) (by omega) (by omega)).mp (of_decide_eq_true hw_4)
          refine lv_aload_n hx hb dX0_lotsTold_33 rfl (lv_at hl 0 rfl) ?_
          refine lv_iload_n hx hb dX0_lotsTold_34 rfl (lv_at hl 1 rfl) ?_
          refine lv_iload_n hx hb dX0_lotsTold_35 rfl (lv_at hl 2 rfl) ?_
          refine lv_iload_n hx hb dX0_lotsTold_36 rfl (lv_at hl 3 rfl) ?_
          refine x_Vi (wN := fun u_5 => (wX G ad ho rn ln u_5.2 ro lt rf th sb ++ wR G (ad 1) kd r ++ wR G (ad 2) u_5.1.1 u_5.1.2 ++ wR G (ad 3) k2 r2 ++ wK (ad 4))) ⟨C0, hK, hP, hD, hS, hA⟩ 0 rfl (ci := 0) rfl rfl ((m_byLots l G ad kd k1 k2 r r1 r2 ho rn ln dr ro lt rf th sb hr hp hk (ix cnt) (by omega) z w hm0)) (cwV 3 hts (lw_V q979 q981 qs60 q86 q982) rfl rfl rfl (by decide +kernel) ⟨Nat.le_of_ble_eq_true rfl, Nat.le_of_ble_eq_true rfl⟩) [0, 1, 2, 3, 4, 5, 6, 7, 8, 9, 10, 11, 12, 13, 14, 15, 16, 17, 18, 19, 20, 21, 22, 23, 24, 25, 26, 27, 28, 29, 30] [1, 3, 5, 7, 9, 11, 13, 15, 17, 19, 21, 23, 25, 27, 29, 31, 33, 35, 37, 39, 41, 43, 45, 47, 49, 51, 53, 55, 57, 59, 61] rfl (fun _ => rfl) rfl rfl hl.1 rfl (Nat.le_of_ble_eq_true rfl) dX0_lotsTold_37 ⟨(Nat.le_of_ble_eq_true rfl), (Nat.le_of_ble_eq_true rfl)⟩ (fun r_5 u_5 H locs hw_5 hP hD hS => ?_)
          have hw_5 : ((lSum r w z (ix cnt)).2 : Int32) = r_5 := hw_5.symm
          subst hw_5
          have hP : va_P G.1 vwCl (wX G ad ho rn ln u_5.2 ro lt rf th sb ++ wR G (ad 1) kd r ++ wR G (ad 2) u_5.1.1 u_5.1.2 ++ wR G (ad 3) k2 r2 ++ wK (ad 4)) H := hP
          have hD : va_D A (wX G ad ho rn ln u_5.2 ro lt rf th sb ++ wR G (ad 1) kd r ++ wR G (ad 2) u_5.1.1 u_5.1.2 ++ wR G (ad 3) k2 r2 ++ wK (ad 4)) := hD
          refine hret _ _ _ _ _ _ ((lSum r w z (ix cnt)).2) ((u_5.1.1, u_5.1.2), u_5.2) dX0_lotsTold_40 ?_ hP hD hS (Nat.le_of_ble_eq_true rfl) (Nat.le_of_ble_eq_true rfl)
          refine ⟨by rw [eW_0 hw_1, eS_t hw_2, eS_t hw_4], ?_⟩
          exact rfl
      · skip
        refine lv_iconst (v := 1) hx hb dX0_lotsTold_23 (by decide) ?_
        refine lv_goto (tgt := 28) hx hb dX0_lotsTold_24 (by decide) ?_
        have eb_28 : (1 : Int32) = bI (decide (0 < nI (mny r))) := bI_T (decide_eq_true (Int32.not_le.mp c_3))
        rw [eb_28]
        refine lv_bipush (v := (-3)) hx hb dX0_lotsTold_28 (by decide) ?_
        refine y_Sv (wN := fun _ => (wX G ad ho rn ln dr ro lt rf th sb ++ wR G (ad 1) kd r ++ wR G (ad 2) k1 r1 ++ wR G (ad 3) k2 r2 ++ wK (ad 4))) (wNx := fun u9 => (wX G ad ho rn ln dr ro lt rf th sb ++ wR G (ad 1) kd r ++ wR G (ad 2) k1 r1 ++ wR G (ad 3) k2 r2 ++ wK (ad 4))) ⟨C0, hK, hP, hD, hS, hA⟩ hZ ((m_must l hl0 G (decide (0 < nI (mny r))) (-3))) (va_cwS 2 hts (lw_S q286 q287 q86 q288) rfl rfl rfl (by decide +kernel) ⟨Nat.le_of_ble_eq_true rfl, Nat.le_of_ble_eq_true rfl⟩) [] [0, 2, 4, 6, 8, 10, 12, 14, 16, 18, 20, 22, 24, 26, 28, 30, 32, 34, 36, 38, 40, 42, 44, 46, 48, 50, 52, 54, 56, 58, 60] [0, 2, 4, 6, 8, 10, 12, 14, 16, 18, 20, 22, 24, 26, 28, 30, 32, 34, 36, 38, 40, 42, 44, 46, 48, 50, 52, 54, 56, 58, 60, 1] rfl (fun _ => rfl) (fun _ _ _ => rfl) rfl rfl rfl hl.1 rfl (Nat.le_of_ble_eq_true rfl) dX0_lotsTold_30 ⟨(Nat.le_of_ble_eq_true rfl), (Nat.le_of_ble_eq_true rfl)⟩ (fun q9 u9 ee H locs hw_6 hP hD hS => ?_) (fun u_6 H locs hw_6 hP hD hS => ?_)
        · skip
          refine hthr _ _ _ _ _ _ _ q9 () ee ?_ hP hD hS (Nat.le_of_ble_eq_true rfl) (Nat.le_of_ble_eq_true rfl)
          obtain ⟨h8, h9⟩ := hw_6
          have e9 : eW (wBy cnt.toInt 1 20) (eS (inR w 0 1) (-2) (eS (decide (0 < nI (mny r))) (-3) 0)) = ee.2.1 := by rw [eW_0 hw_1, eS_t hw_2, eS_f h8]; exact h9.symm
          exact ⟨e9.symm, by rw [e9, h9]; decide⟩
        · skip
          refine W.widen (k := 4) (n := 28) (Nat.le_of_ble_eq_true rfl) (Nat.le_of_ble_eq_true rfl) ?_
          have hm0 : 0 < mny r := (nI_ltI (a := 0) (by omega) (by omega)).mp (of_decide_eq_true hw_6)
          refine lv_aload_n hx hb dX0_lotsTold_33 rfl (lv_at hl 0 rfl) ?_
          refine lv_iload_n hx hb dX0_lotsTold_34 rfl (lv_at hl 1 rfl) ?_
          refine lv_iload_n hx hb dX0_lotsTold_35 rfl (lv_at hl 2 rfl) ?_
          refine lv_iload_n hx hb dX0_lotsTold_36 rfl (lv_at hl 3 rfl) ?_
          refine x_Vi (wN := fun u_7 => (wX G ad ho rn ln u_7.2 ro lt rf th sb ++ wR G (ad 1) kd r ++ wR G (ad 2) u_7.1.1 u_7.1.2 ++ wR G (ad 3) k2 r2 ++ wK (ad 4))) ⟨C0, hK, hP, hD, hS, hA⟩ 0 rfl (ci := 0) rfl rfl ((m_byLots l G ad kd k1 k2 r r1 r2 ho rn ln dr ro lt rf th sb hr hp hk (ix cnt) (by omega) z w hm0)) (cwV 3 hts (lw_V q979 q981 qs60 q86 q982) rfl rfl rfl (by decide +kernel) ⟨Nat.le_of_ble_eq_true rfl, Nat.le_of_ble_eq_true rfl⟩) [0, 1, 2, 3, 4, 5, 6, 7, 8, 9, 10, 11, 12, 13, 14, 15, 16, 17, 18, 19, 20, 21, 22, 23, 24, 25, 26, 27, 28, 29, 30] [1, 3, 5, 7, 9, 11, 13, 15, 17, 19, 21, 23, 25, 27, 29, 31, 33, 35, 37, 39, 41, 43, 45, 47, 49, 51, 53, 55, 57, 59, 61] rfl (fun _ => rfl) rfl rfl hl.1 rfl (Nat.le_of_ble_eq_true rfl) dX0_lotsTold_37 ⟨(Nat.le_of_ble_eq_true rfl), (Nat.le_of_ble_eq_true rfl)⟩ (fun r_7 u_7 H locs hw_7 hP hD hS => ?_)
          have hw_7 : ((lSum r w z (ix cnt)).2 : Int32) = r_7 := hw_7.symm
          subst hw_7
          have hP : va_P G.1 vwCl (wX G ad ho rn ln u_7.2 ro lt rf th sb ++ wR G (ad 1) kd r ++ wR G (ad 2) u_7.1.1 u_7.1.2 ++ wR G (ad 3) k2 r2 ++ wK (ad 4)) H := hP
          have hD : va_D A (wX G ad ho rn ln u_7.2 ro lt rf th sb ++ wR G (ad 1) kd r ++ wR G (ad 2) u_7.1.1 u_7.1.2 ++ wR G (ad 3) k2 r2 ++ wK (ad 4)) := hD
          refine hret _ _ _ _ _ _ ((lSum r w z (ix cnt)).2) ((u_7.1.1, u_7.1.2), u_7.2) dX0_lotsTold_40 ?_ hP hD hS (Nat.le_of_ble_eq_true rfl) (Nat.le_of_ble_eq_true rfl)
          refine ⟨by rw [eW_0 hw_1, eS_t hw_2, eS_t hw_6], ?_⟩
          exact rfl
set_option maxHeartbeats 4000000 in
set_option maxRecDepth 100000 in
theorem m_whatTold (l : Launch) (hl0 : l.stackTraces = false) (G : xG) (ad : Nat → Nat → Nat) (kd k1 k2 : Nat → Option Nat) (r r1 r2 : Rw) (ho rn ln dr : Int32) (ro lt rf th sb : Nat → Int32) (hr : Ok r) (hp : r 5 3 = 0) (hk : kOk (ad 4) kd r) (t w : Int32) : yCi l G yX0_whatTold cX0_whatTold 3 (some .int) ({ frames := 10, cells := 13, slots := 121, locals := 171 } : Room) [.ref (ad 0 0), .int t, .int w] (wX G ad ho rn ln dr ro lt rf th sb ++ wR G (ad 1) kd r ++ wR G (ad 2) k1 r1 ++ wR G (ad 3) k2 r2 ++ wK (ad 4)) (S := ((Nat → Option Nat) × Rw)) (SX := Unit) (fun v _ => eS (tB r t) (-1) (eS (inR w 0 1) (-2) (eS (decide (rn = nI (mny r))) (-3) 0)) = 0 ∧ v = pFits r ro (ix t) w) (fun u => (wX G ad ho rn ln dr ro lt rf th sb ++ wR G (ad 1) kd r ++ wR G (ad 2) u.1 u.2 ++ wR G (ad 3) k2 r2 ++ wK (ad 4))) (fun n _ => n = eS (tB r t) (-1) (eS (inR w 0 1) (-2) (eS (decide (rn = nI (mny r))) (-3) 0)) ∧ eS (tB r t) (-1) (eS (inR w 0 1) (-2) (eS (decide (rn = nI (mny r))) (-3) 0)) ≠ 0) (fun _ => (wX G ad ho rn ln dr ro lt rf th sb ++ wR G (ad 1) kd r ++ wR G (ad 2) k1 r1 ++ wR G (ad 3) k2 r2 ++ wK (ad 4))) := by
  refine y_openi (by decide) (Nat.le_of_ble_eq_true rfl) (fun _ _ _ => rfl) ?_
  intro p e s m args below meth c A Q ls C0 hK hZ hP hD hA hl hret hthr
  obtain ⟨hx, hb, hml, hown, hts⟩ := id C0
  have hS : va_S A s.heap s.heap [] := va_S.rf
  have hP : va_P G.1 vwCl (wX G ad ho rn ln dr ro lt rf th sb ++ wR G (ad 1) kd r ++ wR G (ad 2) k1 r1 ++ wR G (ad 3) k2 r2 ++ wK (ad 4)) s.heap := hP
  have hD : va_D A (wX G ad ho rn ln dr ro lt rf th sb ++ wR G (ad 1) kd r ++ wR G (ad 2) k1 r1 ++ wR G (ad 3) k2 r2 ++ wK (ad 4)) := hD
  have hl : lv_has ls 3 [(0, .ref (ad 0 0)), (1, .int t), (2, .int w)] := hl
  have hr0 := hr.n
  have hN := hr.le
  refine lv_aload_n hx hb dX0_whatTold_0 rfl (lv_at hl 0 rfl) ?_
  refine lv_iload_n hx hb dX0_whatTold_1 rfl (lv_at hl 1 rfl) ?_
  refine y_Vv (wN := fun _ => (wX G ad ho rn ln dr ro lt rf th sb ++ wR G (ad 1) kd r ++ wR G (ad 2) k1 r1 ++ wR G (ad 3) k2 r2 ++ wK (ad 4))) (wNx := fun u9 => (wX G ad ho rn ln dr ro lt rf th sb ++ wR G (ad 1) kd r ++ wR G (ad 2) k1 r1 ++ wR G (ad 3) k2 r2 ++ wK (ad 4))) ⟨C0, hK, hP, hD, hS, hA⟩ hZ 0 rfl (ci := 0) rfl rfl ((m_mustBeThing l hl0 G ad kd k1 k2 r r1 r2 ho rn ln dr ro lt rf th sb hr hp hk t)) (cwV 1 hts (lw_V q699 q701 qs14 q86 q702) rfl rfl rfl (by decide +kernel) ⟨Nat.le_of_ble_eq_true rfl, Nat.le_of_ble_eq_true rfl⟩) [0, 1, 2, 3, 4, 5, 6, 7, 8, 9, 10, 11, 12, 13, 14, 15, 16, 17, 18, 19, 20, 21, 22, 23, 24, 25, 26, 27, 28, 29, 30] [1, 3, 5, 7, 9, 11, 13, 15, 17, 19, 21, 23, 25, 27, 29, 31, 33, 35, 37, 39, 41, 43, 45, 47, 49, 51, 53, 55, 57, 59, 61] [1, 3, 5, 7, 9, 11, 13, 15, 17, 19, 21, 23, 25, 27, 29, 31, 33, 35, 37, 39, 41, 43, 45, 47, 49, 51, 53, 55, 57, 59, 61, 63] rfl (fun _ => rfl) (fun _ _ _ => rfl) rfl rfl rfl hl.1 rfl (Nat.le_of_ble_eq_true rfl) dX0_whatTold_2 ⟨(Nat.le_of_ble_eq_true rfl), (Nat.le_of_ble_eq_true rfl)⟩ (fun q9 u9 ee H locs hw_1 hP hD hS => ?_) (fun u_1 H locs hw_1 hP hD hS => ?_)
  · skip
    refine hthr _ _ _ _ _ _ _ q9 () ee ?_ hP hD hS (Nat.le_of_ble_eq_true rfl) (Nat.le_of_ble_eq_true rfl)
    obtain ⟨h8, h9⟩ := hw_1
    have e9 : eS (tB r t) (-1) (eS (inR w 0 1) (-2) (eS (decide (rn = nI (mny r))) (-3) 0)) = ee.2.1 := by rw [eS_f h8]; exact h9.symm
    exact ⟨e9.symm, by rw [e9, h9]; decide⟩
  · skip
    refine W.widen (k := 1) (n := 7) (Nat.le_of_ble_eq_true rfl) (Nat.le_of_ble_eq_true rfl) ?_
    obtain ⟨hj_t, et_t⟩ := tB_ix hN hw_1
    rw [et_t] at hl
    refine lv_iload_n hx hb dX0_whatTold_5 rfl (lv_at hl 2 rfl) ?_
    refine y_Sv (wN := fun _ => (wX G ad ho rn ln dr ro lt rf th sb ++ wR G (ad 1) kd r ++ wR G (ad 2) k1 r1 ++ wR G (ad 3) k2 r2 ++ wK (ad 4))) (wNx := fun u9 => (wX G ad ho rn ln dr ro lt rf th sb ++ wR G (ad 1) kd r ++ wR G (ad 2) k1 r1 ++ wR G (ad 3) k2 r2 ++ wK (ad 4))) ⟨C0, hK, hP, hD, hS, hA⟩ hZ ((m_mustBeBit l hl0 G w)) (va_cwS 1 hts (lw_S q808 q809 q86 q810) rfl rfl rfl (by decide +kernel) ⟨Nat.le_of_ble_eq_true rfl, Nat.le_of_ble_eq_true rfl⟩) [] [0, 2, 4, 6, 8, 10, 12, 14, 16, 18, 20, 22, 24, 26, 28, 30, 32, 34, 36, 38, 40, 42, 44, 46, 48, 50, 52, 54, 56, 58, 60] [0, 2, 4, 6, 8, 10, 12, 14, 16, 18, 20, 22, 24, 26, 28, 30, 32, 34, 36, 38, 40, 42, 44, 46, 48, 50, 52, 54, 56, 58, 60, 1] rfl (fun _ => rfl) (fun _ _ _ => rfl) rfl rfl rfl hl.1 rfl (Nat.le_of_ble_eq_true rfl) dX0_whatTold_6 ⟨(Nat.le_of_ble_eq_true rfl), (Nat.le_of_ble_eq_true rfl)⟩ (fun q9 u9 ee H locs hw_2 hP hD hS => ?_) (fun u_2 H locs hw_2 hP hD hS => ?_)
    · skip
      refine hthr _ _ _ _ _ _ _ q9 () ee ?_ hP hD hS (Nat.le_of_ble_eq_true rfl) (Nat.le_of_ble_eq_true rfl)
      obtain ⟨h8, h9⟩ := hw_2
      have e9 : eS (tB r t) (-1) (eS (inR w 0 1) (-2) (eS (decide (rn = nI (mny r))) (-3) 0)) = ee.2.1 := by rw [eS_t hw_1, eS_f h8]; exact h9.symm
      exact ⟨e9.symm, by rw [e9, h9]; decide⟩
    · skip
      refine W.widen (k := 2) (n := 14) (Nat.le_of_ble_eq_true rfl) (Nat.le_of_ble_eq_true rfl) ?_
      have hbit := iR_bit hw_2
      refine lv_aload_n hx hb dX0_whatTold_9 rfl (lv_at hl 0 rfl) ?_
      refine va_get (D := G.1) (ci := 0) (v := .int rn) (C := RX0) (T := TX0) (N := 13) hx hb hts in_X0 hown hK.1 hP 0 rfl rfl 6 (by decide) (hts _ q227) (fun _ h9 => h9) rfl dX0_whatTold_10 ?_
      refine lv_aload_n hx hb dX0_whatTold_13 rfl (lv_at hl 0 rfl) ?_
      refine va_get (D := G.1) (ci := 0) (v := .ref ((ad 1) 0)) (C := RX0) (T := TX0) (N := 13) hx hb hts in_X0 hown hK.1 hP 0 rfl rfl 1 (by decide) (hts _ q222) (fun _ h9 => h9) rfl dX0_whatTold_14 ?_
      refine va_getN (D := G.1) (ci := 7) (v := .int (nI (mny r))) (C := RX8) (T := TX8) (N := 9) hx hb hts in_X8 hown hK.1 hP 7 rfl rfl 0 (by decide) (va_Nw.use rfl (hK.2.F 4 rfl)) (fun _ h9 => h9) (x_some hr0) dX0_whatTold_17 ?_
      refine lv_icmp_ne (tgt := 27) hx hb dX0_whatTold_20 (by decide) (fun c_3 => ?_) (fun c_3 => ?_)
      · skip
        refine lv_iconst (v := 0) hx hb dX0_whatTold_27 (by decide) ?_
        have eb_28 : (0 : Int32) = bI (decide (rn = nI (mny r))) := bI_F (decide_eq_false (fun z => c_3 z))
        rw [eb_28]
        refine lv_bipush (v := (-3)) hx hb dX0_whatTold_28 (by decide) ?_
        refine y_Sv (wN := fun _ => (wX G ad ho rn ln dr ro lt rf th sb ++ wR G (ad 1) kd r ++ wR G (ad 2) k1 r1 ++ wR G (ad 3) k2 r2 ++ wK (ad 4))) (wNx := fun u9 => (wX G ad ho rn ln dr ro lt rf th sb ++ wR G (ad 1) kd r ++ wR G (ad 2) k1 r1 ++ wR G (ad 3) k2 r2 ++ wK (ad 4))) ⟨C0, hK, hP, hD, hS, hA⟩ hZ ((m_must l hl0 G (decide (rn = nI (mny r))) (-3))) (va_cwS 2 hts (lw_S q286 q287 q86 q288) rfl rfl rfl (by decide +kernel) ⟨Nat.le_of_ble_eq_true rfl, Nat.le_of_ble_eq_true rfl⟩) [] [0, 2, 4, 6, 8, 10, 12, 14, 16, 18, 20, 22, 24, 26, 28, 30, 32, 34, 36, 38, 40, 42, 44, 46, 48, 50, 52, 54, 56, 58, 60] [0, 2, 4, 6, 8, 10, 12, 14, 16, 18, 20, 22, 24, 26, 28, 30, 32, 34, 36, 38, 40, 42, 44, 46, 48, 50, 52, 54, 56, 58, 60, 1] rfl (fun _ => rfl) (fun _ _ _ => rfl) rfl rfl rfl hl.1 rfl (Nat.le_of_ble_eq_true rfl) dX0_whatTold_30 ⟨(Nat.le_of_ble_eq_true rfl), (Nat.le_of_ble_eq_true rfl)⟩ (fun q9 u9 ee H locs hw_4 hP hD hS => ?_) (fun u_4 H locs hw_4 hP hD hS => ?_)
        · skip
          refine hthr _ _ _ _ _ _ _ q9 () ee ?_ hP hD hS (Nat.le_of_ble_eq_true rfl) (Nat.le_of_ble_eq_true rfl)
          obtain ⟨h8, h9⟩ := hw_4
          have e9 : eS (tB r t) (-1) (eS (inR w 0 1) (-2) (eS (decide (rn = nI (mny r))) (-3) 0)) = ee.2.1 := by rw [eS_t hw_1, eS_t hw_2, eS_f h8]; exact h9.symm
          exact ⟨e9.symm, by rw [e9, h9]; decide⟩
        · skip
          refine W.widen (k := 3) (n := 21) (Nat.le_of_ble_eq_true rfl) (Nat.le_of_ble_eq_true rfl) ?_
          refine lv_aload_n hx hb dX0_whatTold_33 rfl (lv_at hl 0 rfl) ?_
          refine lv_iload_n hx hb dX0_whatTold_34 rfl (lv_at hl 1 rfl) ?_
          refine lv_iload_n hx hb dX0_whatTold_35 rfl (lv_at hl 2 rfl) ?_
          refine x_Vi (wN := fun u_5 => (wX G ad ho rn ln dr ro lt rf th sb ++ wR G (ad 1) kd r ++ wR G (ad 2) u_5.1 u_5.2 ++ wR G (ad 3) k2 r2 ++ wK (ad 4))) ⟨C0, hK, hP, hD, hS, hA⟩ 0 rfl (ci := 0) rfl rfl ((m_fitting l G ad kd k1 k2 r r1 r2 ho rn ln dr ro lt rf th sb hr hp hk (ix t) (by omega) w hbit)) (cwV 2 hts (lw_V q962 q964 qs56 q86 q965) rfl rfl rfl (by decide +kernel) ⟨Nat.le_of_ble_eq_true rfl, Nat.le_of_ble_eq_true rfl⟩) [0, 1, 2, 3, 4, 5, 6, 7, 8, 9, 10, 11, 12, 13, 14, 15, 16, 17, 18, 19, 20, 21, 22, 23, 24, 25, 26, 27, 28, 29, 30] [1, 3, 5, 7, 9, 11, 13, 15, 17, 19, 21, 23, 25, 27, 29, 31, 33, 35, 37, 39, 41, 43, 45, 47, 49, 51, 53, 55, 57, 59, 61] rfl (fun _ => rfl) rfl rfl hl.1 rfl (Nat.le_of_ble_eq_true rfl) dX0_whatTold_36 ⟨(Nat.le_of_ble_eq_true rfl), (Nat.le_of_ble_eq_true rfl)⟩ (fun r_5 u_5 H locs hw_5 hP hD hS => ?_)
          have hw_5 : (pFits r ro (ix t) w : Int32) = r_5 := hw_5.symm
          subst hw_5
          have hP : va_P G.1 vwCl (wX G ad ho rn ln dr ro lt rf th sb ++ wR G (ad 1) kd r ++ wR G (ad 2) u_5.1 u_5.2 ++ wR G (ad 3) k2 r2 ++ wK (ad 4)) H := hP
          have hD : va_D A (wX G ad ho rn ln dr ro lt rf th sb ++ wR G (ad 1) kd r ++ wR G (ad 2) u_5.1 u_5.2 ++ wR G (ad 3) k2 r2 ++ wK (ad 4)) := hD
          refine W.widen (k := 13) (n := 121) (Nat.le_of_ble_eq_true rfl) (Nat.le_of_ble_eq_true rfl) ?_
          refine hret _ _ _ _ _ _ (pFits r ro (ix t) w) (u_5.1, u_5.2) dX0_whatTold_39 ?_ hP hD hS (Nat.le_of_ble_eq_true rfl) (Nat.le_of_ble_eq_true rfl)
          refine ⟨by rw [eS_t hw_1, eS_t hw_2, eS_t hw_4], ?_⟩
          exact rfl
      · skip
        refine lv_iconst (v := 1) hx hb dX0_whatTold_23 (by decide) ?_
        refine lv_goto (tgt := 28) hx hb dX0_whatTold_24 (by decide) ?_
        have eb_28 : (1 : Int32) = bI (decide (rn = nI (mny r))) := bI_T (decide_eq_true (c_3))
        rw [eb_28]
        refine lv_bipush (v := (-3)) hx hb dX0_whatTold_28 (by decide) ?_
        refine y_Sv (wN := fun _ => (wX G ad ho rn ln dr ro lt rf th sb ++ wR G (ad 1) kd r ++ wR G (ad 2) k1 r1 ++ wR G (ad 3) k2 r2 ++ wK (ad 4))) (wNx := fun u9 => (wX G ad ho rn ln dr ro lt rf th sb ++ wR G (ad 1) kd r ++ wR G (ad 2) k1 r1 ++ wR G (ad 3) k2 r2 ++ wK (ad 4))) ⟨C0, hK, hP, hD, hS, hA⟩ hZ ((m_must l hl0 G (decide (rn = nI (mny r))) (-3))) (va_cwS 2 hts (lw_S q286 q287 q86 q288) rfl rfl rfl (by decide +kernel) ⟨Nat.le_of_ble_eq_true rfl, Nat.le_of_ble_eq_true rfl⟩) [] [0, 2, 4, 6, 8, 10, 12, 14, 16, 18, 20, 22, 24, 26, 28, 30, 32, 34, 36, 38, 40, 42, 44, 46, 48, 50, 52, 54, 56, 58, 60] [0, 2, 4, 6, 8, 10, 12, 14, 16, 18, 20, 22, 24, 26, 28, 30, 32, 34, 36, 38, 40, 42, 44, 46, 48, 50, 52, 54, 56, 58, 60, 1] rfl (fun _ => rfl) (fun _ _ _ => rfl) rfl rfl rfl hl.1 rfl (Nat.le_of_ble_eq_true rfl) dX0_whatTold_30 ⟨(Nat.le_of_ble_eq_true rfl), (Nat.le_of_ble_eq_true rfl)⟩ (fun q9 u9 ee H locs hw_6 hP hD hS => ?_) (fun u_6 H locs hw_6 hP hD hS => ?_)
        · skip
          refine hthr _ _ _ _ _ _ _ q9 () ee ?_ hP hD hS (Nat.le_of_ble_eq_true rfl) (Nat.le_of_ble_eq_true rfl)
          obtain ⟨h8, h9⟩ := hw_6
          have e9 : eS (tB r t) (-1) (eS (inR w 0 1) (-2) (eS (decide (rn = nI (mny r))) (-3) 0)) = ee.2.1 := by rw [eS_t hw_1, eS_t hw_2, eS_f h8]; exact h9.symm
          exact ⟨e9.symm, by rw [e9, h9]; decide⟩
        · skip
          refine W.widen (k := 3) (n := 21) (Nat.le_of_ble_eq_true rfl) (Nat.le_of_ble_eq_true rfl) ?_
          refine lv_aload_n hx hb dX0_whatTold_33 rfl (lv_at hl 0 rfl) ?_
          refine lv_iload_n hx hb dX0_whatTold_34 rfl (lv_at hl 1 rfl) ?_
          refine lv_iload_n hx hb dX0_whatTold_35 rfl (lv_at hl 2 rfl) ?_
          refine x_Vi (wN := fun u_7 => (wX G ad ho rn ln dr ro lt rf th sb ++ wR G (ad 1) kd r ++ wR G (ad 2) u_7.1 u_7.2 ++ wR G (ad 3) k2 r2 ++ wK (ad 4))) ⟨C0, hK, hP, hD, hS, hA⟩ 0 rfl (ci := 0) rfl rfl ((m_fitting l G ad kd k1 k2 r r1 r2 ho rn ln dr ro lt rf th sb hr hp hk (ix t) (by omega) w hbit)) (cwV 2 hts (lw_V q962 q964 qs56 q86 q965) rfl rfl rfl (by decide +kernel) ⟨Nat.le_of_ble_eq_true rfl, Nat.le_of_ble_eq_true rfl⟩) [0, 1, 2, 3, 4, 5, 6, 7, 8, 9, 10, 11, 12, 13, 14, 15, 16, 17, 18, 19, 20, 21, 22, 23, 24, 25, 26, 27, 28, 29, 30] [1, 3, 5, 7, 9, 11, 13, 15, 17, 19, 21, 23, 25, 27, 29, 31, 33, 35, 37, 39, 41, 43, 45, 47, 49, 51, 53, 55, 57, 59, 61] rfl (fun _ => rfl) rfl rfl hl.1 rfl (Nat.le_of_ble_eq_true rfl) dX0_whatTold_36 ⟨(Nat.le_of_ble_eq_true rfl), (Nat.le_of_ble_eq_true rfl)⟩ (fun r_7 u_7 H locs hw_7 hP hD hS => ?_)
          have hw_7 : (pFits r ro (ix t) w : Int32) = r_7 := hw_7.symm
          subst hw_7
          have hP : va_P G.1 vwCl (wX G ad ho rn ln dr ro lt rf th sb ++ wR G (ad 1) kd r ++ wR G (ad 2) u_7.1 u_7.2 ++ wR G (ad 3) k2 r2 ++ wK (ad 4)) H := hP
          have hD : va_D A (wX G ad ho rn ln dr ro lt rf th sb ++ wR G (ad 1) kd r ++ wR G (ad 2) u_7.1 u_7.2 ++ wR G (ad 3) k2 r2 ++ wK (ad 4)) := hD
          refine W.widen (k := 13) (n := 121) (Nat.le_of_ble_eq_true rfl) (Nat.le_of_ble_eq_true rfl) ?_
          refine hret _ _ _ _ _ _ (pFits r ro (ix t) w) (u_7.1, u_7.2) dX0_whatTold_39 ?_ hP hD hS (Nat.le_of_ble_eq_true rfl) (Nat.le_of_ble_eq_true rfl)
          refine ⟨by rw [eS_t hw_1, eS_t hw_2, eS_t hw_6], ?_⟩
          exact rfl
set_option maxHeartbeats 4000000 in
set_option maxRecDepth 100000 in
theorem m_letterIt (l : Launch) (hl0 : l.stackTraces = false) (G : xG) (ad : Nat → Nat → Nat) (kd k1 k2 : Nat → Option Nat) (r r1 r2 : Rw) (ho rn ln dr : Int32) (ro lt rf th sb : Nat → Int32) (hr : Ok r) (hp : r 5 3 = 0) (hk : kOk (ad 4) kd r) (c1 : Int32) (lm : Nat) (hln : ln = nI lm) (hlm9 : lm ≤ 96) : yCi l G yX0_letterIt cX0_letterIt 2 (some .int) ({ frames := 9, cells := 3, slots := 21, locals := 154 } : Room) [.ref (ad 0 0), .int c1] (wX G ad ho rn ln dr ro lt rf th sb ++ wR G (ad 1) kd r ++ wR G (ad 2) k1 r1 ++ wR G (ad 3) k2 r2 ++ wK (ad 4)) (S := Unit) (SX := Unit) (fun v _ => eW (wBy c1.toInt 0 255) (eS (decide (lm < 96)) (-6) 0) = 0 ∧ v = nI (lm + 1)) (fun _ => (wX G ad ho rn (nI (lm + 1)) dr ro (upd lt lm c1) rf th sb ++ wR G (ad 1) kd r ++ wR G (ad 2) k1 r1 ++ wR G (ad 3) k2 r2 ++ wK (ad 4))) (fun n _ => n = eW (wBy c1.toInt 0 255) (eS (decide (lm < 96)) (-6) 0) ∧ eW (wBy c1.toInt 0 255) (eS (decide (lm < 96)) (-6) 0) ≠ 0) (fun _ => (wX G ad ho rn ln dr ro lt rf th sb ++ wR G (ad 1) kd r ++ wR G (ad 2) k1 r1 ++ wR G (ad 3) k2 r2 ++ wK (ad 4))) := by
  refine y_openi (by decide) (Nat.le_of_ble_eq_true rfl) (fun _ _ _ => rfl) ?_
  intro p e s m args below meth c A Q ls C0 hK hZ hP hD hA hl hret hthr
  obtain ⟨hx, hb, hml, hown, hts⟩ := id C0
  have hS : va_S A s.heap s.heap [] := va_S.rf
  have hP : va_P G.1 vwCl (wX G ad ho rn ln dr ro lt rf th sb ++ wR G (ad 1) kd r ++ wR G (ad 2) k1 r1 ++ wR G (ad 3) k2 r2 ++ wK (ad 4)) s.heap := hP
  have hD : va_D A (wX G ad ho rn ln dr ro lt rf th sb ++ wR G (ad 1) kd r ++ wR G (ad 2) k1 r1 ++ wR G (ad 3) k2 r2 ++ wK (ad 4)) := hD
  have hl : lv_has ls 2 [(0, .ref (ad 0 0)), (1, .int c1)] := hl
  have hr0 := hr.n
  have hN := hr.le
  refine lv_iload_n hx hb dX0_letterIt_0 rfl (lv_at hl 1 rfl) ?_
  refine lv_i2l (v := c1.toInt64) hx hb dX0_letterIt_1 rfl ?_
  refine lv_lconst (v := 0) hx hb dX0_letterIt_2 (by decide) ?_
  refine lv_ldc2 (v := 255) hx hb hown (hts _ q282) dX0_letterIt_3 ?_
  refine y_Sv (wN := fun _ => (wX G ad ho rn ln dr ro lt rf th sb ++ wR G (ad 1) kd r ++ wR G (ad 2) k1 r1 ++ wR G (ad 3) k2 r2 ++ wK (ad 4))) (wNx := fun u9 => (wX G ad ho rn ln dr ro lt rf th sb ++ wR G (ad 1) kd r ++ wR G (ad 2) k1 r1 ++ wR G (ad 3) k2 r2 ++ wK (ad 4))) ⟨C0, hK, hP, hD, hS, hA⟩ hZ ((m_within l hl0 G c1.toInt64 0 255)) (va_cwS 3 hts (lw_S q283 q284 q86 q285) rfl rfl rfl (by decide +kernel) ⟨Nat.le_of_ble_eq_true rfl, Nat.le_of_ble_eq_true rfl⟩) [] [0, 2, 4, 6, 8, 10, 12, 14, 16, 18, 20, 22, 24, 26, 28, 30, 32, 34, 36, 38, 40, 42, 44, 46, 48, 50, 52, 54, 56, 58, 60] [0, 2, 4, 6, 8, 10, 12, 14, 16, 18, 20, 22, 24, 26, 28, 30, 32, 34, 36, 38, 40, 42, 44, 46, 48, 50, 52, 54, 56, 58, 60, 1] rfl (fun _ => rfl) (fun _ _ _ => rfl) rfl rfl rfl hl.1 rfl (Nat.le_of_ble_eq_true rfl) dX0_letterIt_6 ⟨(Nat.le_of_ble_eq_true rfl), (Nat.le_of_ble_eq_true rfl)⟩ (fun q9 u9 ee H locs hw_1 hP hD hS => ?_) (fun u_1 H locs hw_1 hP hD hS => ?_)
  · skip
    refine hthr _ _ _ _ _ _ _ q9 () ee ?_ hP hD hS (Nat.le_of_ble_eq_true rfl) (Nat.le_of_ble_eq_true rfl)
    obtain ⟨h8, h9⟩ := hw_1
    rw [i2l_toInt] at h8 h9
    have h8 : ee.2.1 = wBy _ 0 255 := h8
    have h9 : wBy _ 0 255 ≠ 0 := h9
    have e9 : eW (wBy c1.toInt 0 255) (eS (decide (lm < 96)) (-6) 0) = ee.2.1 := by rw [eW_n h9]; exact h8.symm
    exact ⟨e9.symm, by rw [e9, h8]; exact h9⟩
  · skip
    refine W.widen (k := 2) (n := 14) (Nat.le_of_ble_eq_true rfl) (Nat.le_of_ble_eq_true rfl) ?_
    rw [i2l_toInt] at hw_1
    have hw_1 : wBy _ 0 255 = 0 := hw_1
    obtain ⟨hj_c1, et_c1⟩ := wB_ix (n := 255) (by omega) hw_1
    refine lv_aload_n hx hb dX0_letterIt_9 rfl (lv_at hl 0 rfl) ?_
    refine va_get (D := G.1) (ci := 0) (v := .int ln) (C := RX0) (T := TX0) (N := 13) hx hb hts in_X0 hown hK.1 hP 0 rfl rfl 8 (by decide) (hts _ q231) (fun _ h9 => h9) rfl dX0_letterIt_10 ?_
    rw [show (ln : Int32) = nI lm from hln]
    refine lv_bipush (v := 96) hx hb dX0_letterIt_13 (by decide) ?_
    refine lv_icmp_ge (tgt := 22) hx hb dX0_letterIt_15 (by decide) (fun c_2 => ?_) (fun c_2 => ?_)
    · skip
      have g_2 := (nI_leI (by omega) (by omega)).mp (show nI lm ≥ nI 96 from c_2)
      refine lv_iconst (v := 0) hx hb dX0_letterIt_22 (by decide) ?_
      have eb_23 : (0 : Int32) = bI (decide (lm < 96)) := bI_F (decide_eq_false (by omega))
      rw [eb_23]
      refine lv_bipush (v := (-6)) hx hb dX0_letterIt_23 (by decide) ?_
      refine y_Sv (wN := fun _ => (wX G ad ho rn ln dr ro lt rf th sb ++ wR G (ad 1) kd r ++ wR G (ad 2) k1 r1 ++ wR G (ad 3) k2 r2 ++ wK (ad 4))) (wNx := fun u9 => (wX G ad ho rn ln dr ro lt rf th sb ++ wR G (ad 1) kd r ++ wR G (ad 2) k1 r1 ++ wR G (ad 3) k2 r2 ++ wK (ad 4))) ⟨C0, hK, hP, hD, hS, hA⟩ hZ ((m_must l hl0 G (decide (lm < 96)) (-6))) (va_cwS 2 hts (lw_S q286 q287 q86 q288) rfl rfl rfl (by decide +kernel) ⟨Nat.le_of_ble_eq_true rfl, Nat.le_of_ble_eq_true rfl⟩) [] [0, 2, 4, 6, 8, 10, 12, 14, 16, 18, 20, 22, 24, 26, 28, 30, 32, 34, 36, 38, 40, 42, 44, 46, 48, 50, 52, 54, 56, 58, 60] [0, 2, 4, 6, 8, 10, 12, 14, 16, 18, 20, 22, 24, 26, 28, 30, 32, 34, 36, 38, 40, 42, 44, 46, 48, 50, 52, 54, 56, 58, 60, 1] rfl (fun _ => rfl) (fun _ _ _ => rfl) rfl rfl rfl hl.1 rfl (Nat.le_of_ble_eq_true rfl) dX0_letterIt_25 ⟨(Nat.le_of_ble_eq_true rfl), (Nat.le_of_ble_eq_true rfl)⟩ (fun q9 u9 ee H locs hw_3 hP hD hS => ?_) (fun u_3 H locs hw_3 hP hD hS => ?_)
      · skip
        refine hthr _ _ _ _ _ _ _ q9 () ee ?_ hP hD hS (Nat.le_of_ble_eq_true rfl) (Nat.le_of_ble_eq_true rfl)
        obtain ⟨h8, h9⟩ := hw_3
        have e9 : eW (wBy c1.toInt 0 255) (eS (decide (lm < 96)) (-6) 0) = ee.2.1 := by rw [eW_0 hw_1, eS_f h8]; exact h9.symm
        exact ⟨e9.symm, by rw [e9, h9]; decide⟩
      · skip
        refine W.widen (k := 3) (n := 21) (Nat.le_of_ble_eq_true rfl) (Nat.le_of_ble_eq_true rfl) ?_
        have hlm := of_decide_eq_true hw_3
        rw [et_c1] at hl
        refine lv_aload_n hx hb dX0_letterIt_28 rfl (lv_at hl 0 rfl) ?_
        refine va_get (D := G.1) (ci := 0) (v := .ref (ad 0 3)) (C := RX0) (T := TX0) (N := 13) hx hb hts in_X0 hown hK.1 hP 0 rfl rfl 7 (by decide) (hts _ q229) (fun _ h9 => h9) rfl dX0_letterIt_29 ?_
        refine lv_aload_n hx hb dX0_letterIt_32 rfl (lv_at hl 0 rfl) ?_
        refine va_get (D := G.1) (ci := 0) (v := .int ln) (C := RX0) (T := TX0) (N := 13) hx hb hts in_X0 hown hK.1 hP 0 rfl rfl 8 (by decide) (hts _ q231) (fun _ h9 => h9) rfl dX0_letterIt_33 ?_
        rw [show (ln : Int32) = nI lm from hln]
        refine lv_iload_n hx hb dX0_letterIt_36 rfl (lv_at hl 1 rfl) ?_
        refine lv_i2c (v := nI (ix c1)) hx hb dX0_letterIt_37 (i2c_k _ (by omega)) ?_
        refine x_castn (k := lm) hx hb hK.1 hP hD hS 3 2 rfl rfl (by omega) (by decide) (nar_c _ (by omega)) (g := upd lt lm (nI (ix c1))) rfl dX0_letterIt_38 (fun H locs hP hD hS => ?_)
        have hP : va_P G.1 vwCl (wX G ad ho rn ln dr ro (upd lt lm (nI (ix c1))) rf th sb ++ wR G (ad 1) kd r ++ wR G (ad 2) k1 r1 ++ wR G (ad 3) k2 r2 ++ wK (ad 4)) H := hP
        have hD : va_D A (wX G ad ho rn ln dr ro (upd lt lm (nI (ix c1))) rf th sb ++ wR G (ad 1) kd r ++ wR G (ad 2) k1 r1 ++ wR G (ad 3) k2 r2 ++ wK (ad 4)) := hD
        refine lv_aload_n hx hb dX0_letterIt_39 rfl (lv_at hl 0 rfl) ?_
        refine lv_dup hx hb dX0_letterIt_40 rfl ?_
        refine va_get (D := G.1) (ci := 0) (v := .int ln) (C := RX0) (T := TX0) (N := 13) hx hb hts in_X0 hown hK.1 hP 0 rfl rfl 8 (by decide) (hts _ q231) (fun _ h9 => h9) rfl dX0_letterIt_41 ?_
        rw [show (ln : Int32) = nI lm from hln]
        refine lv_iconst (v := 1) hx hb dX0_letterIt_44 (by decide) ?_
        refine x_iadd hx hb dX0_letterIt_45 (v := nI (lm + 1)) (nI_1 _) ?_
        refine va_put (D := G.1) (ci := 0) (v := .int (nI (lm + 1))) (ty := .int) (C := RX0) (T := TX0) (N := 13) hx hb hts in_X0 tyX0 tyX0_ok nmX0 hown hK.1 hP hD hS 0 rfl rfl 8 (by decide) (hts _ q231) (fun _ h9 => h9) rfl (by decide +kernel) rfl rfl (Nat.le_of_ble_eq_true rfl) dX0_letterIt_46 (fun H locs hP hD hS => ?_)
        have hP : va_P G.1 vwCl (wX G ad ho rn (nI (lm + 1)) dr ro (upd lt lm (nI (ix c1))) rf th sb ++ wR G (ad 1) kd r ++ wR G (ad 2) k1 r1 ++ wR G (ad 3) k2 r2 ++ wK (ad 4)) H := hP
        have hD : va_D A (wX G ad ho rn (nI (lm + 1)) dr ro (upd lt lm (nI (ix c1))) rf th sb ++ wR G (ad 1) kd r ++ wR G (ad 2) k1 r1 ++ wR G (ad 3) k2 r2 ++ wK (ad 4)) := hD
        refine lv_aload_n hx hb dX0_letterIt_49 rfl (lv_at hl 0 rfl) ?_
        refine va_get (D := G.1) (ci := 0) (v := .int (nI (lm + 1))) (C := RX0) (T := TX0) (N := 13) hx hb hts in_X0 hown hK.1 hP 0 rfl rfl 8 (by decide) (hts _ q231) (fun _ h9 => h9) rfl dX0_letterIt_50 ?_
        rw [← et_c1] at hP hD
        refine hret _ _ _ _ _ _ (nI (lm + 1)) () dX0_letterIt_53 ?_ hP hD hS (Nat.le_of_ble_eq_true rfl) (Nat.le_of_ble_eq_true rfl)
        refine ⟨by rw [eW_0 hw_1, eS_t hw_3], ?_⟩
        exact rfl
    · skip
      have g_2 := mt (nI_leI (by omega) (by omega)).mpr (show ¬ (nI lm ≥ nI 96) from c_2)
      refine lv_iconst (v := 1) hx hb dX0_letterIt_18 (by decide) ?_
      refine lv_goto (tgt := 23) hx hb dX0_letterIt_19 (by decide) ?_
      have eb_23 : (1 : Int32) = bI (decide (lm < 96)) := bI_T (decide_eq_true (by omega))
      rw [eb_23]
      refine lv_bipush (v := (-6)) hx hb dX0_letterIt_23 (by decide) ?_
      refine y_Sv (wN := fun _ => (wX G ad ho rn ln dr ro lt rf th sb ++ wR G (ad 1) kd r ++ wR G (ad 2) k1 r1 ++ wR G (ad 3) k2 r2 ++ wK (ad 4))) (wNx := fun u9 => (wX G ad ho rn ln dr ro lt rf th sb ++ wR G (ad 1) kd r ++ wR G (ad 2) k1 r1 ++ wR G (ad 3) k2 r2 ++ wK (ad 4))) ⟨C0, hK, hP, hD, hS, hA⟩ hZ ((m_must l hl0 G (decide (lm < 96)) (-6))) (va_cwS 2 hts (lw_S q286 q287 q86 q288) rfl rfl rfl (by decide +kernel) ⟨Nat.le_of_ble_eq_true rfl, Nat.le_of_ble_eq_true rfl⟩) [] [0, 2, 4, 6, 8, 10, 12, 14, 16, 18, 20, 22, 24, 26, 28, 30, 32, 34, 36, 38, 40, 42, 44, 46, 48, 50, 52, 54, 56, 58, 60] [0, 2, 4, 6, 8, 10, 12, 14, 16, 18, 20, 22, 24, 26, 28, 30, 32, 34, 36, 38, 40, 42, 44, 46, 48, 50, 52, 54, 56, 58, 60, 1] rfl (fun _ => rfl) (fun _ _ _ => rfl) rfl rfl rfl hl.1 rfl (Nat.le_of_ble_eq_true rfl) dX0_letterIt_25 ⟨(Nat.le_of_ble_eq_true rfl), (Nat.le_of_ble_eq_true rfl)⟩ (fun q9 u9 ee H locs hw_4 hP hD hS => ?_) (fun u_4 H locs hw_4 hP hD hS => ?_)
      · skip
        refine hthr _ _ _ _ _ _ _ q9 () ee ?_ hP hD hS (Nat.le_of_ble_eq_true rfl) (Nat.le_of_ble_eq_true rfl)
        obtain ⟨h8, h9⟩ := hw_4
        have e9 : eW (wBy c1.toInt 0 255) (eS (decide (lm < 96)) (-6) 0) = ee.2.1 := by rw [eW_0 hw_1, eS_f h8]; exact h9.symm
        exact ⟨e9.symm, by rw [e9, h9]; decide⟩
      · skip
        refine W.widen (k := 3) (n := 21) (Nat.le_of_ble_eq_true rfl) (Nat.le_of_ble_eq_true rfl) ?_
        have hlm := of_decide_eq_true hw_4
        rw [et_c1] at hl
        refine lv_aload_n hx hb dX0_letterIt_28 rfl (lv_at hl 0 rfl) ?_
        refine va_get (D := G.1) (ci := 0) (v := .ref (ad 0 3)) (C := RX0) (T := TX0) (N := 13) hx hb hts in_X0 hown hK.1 hP 0 rfl rfl 7 (by decide) (hts _ q229) (fun _ h9 => h9) rfl dX0_letterIt_29 ?_
        refine lv_aload_n hx hb dX0_letterIt_32 rfl (lv_at hl 0 rfl) ?_
        refine va_get (D := G.1) (ci := 0) (v := .int ln) (C := RX0) (T := TX0) (N := 13) hx hb hts in_X0 hown hK.1 hP 0 rfl rfl 8 (by decide) (hts _ q231) (fun _ h9 => h9) rfl dX0_letterIt_33 ?_
        rw [show (ln : Int32) = nI lm from hln]
        refine lv_iload_n hx hb dX0_letterIt_36 rfl (lv_at hl 1 rfl) ?_
        refine lv_i2c (v := nI (ix c1)) hx hb dX0_letterIt_37 (i2c_k _ (by omega)) ?_
        refine x_castn (k := lm) hx hb hK.1 hP hD hS 3 2 rfl rfl (by omega) (by decide) (nar_c _ (by omega)) (g := upd lt lm (nI (ix c1))) rfl dX0_letterIt_38 (fun H locs hP hD hS => ?_)
        have hP : va_P G.1 vwCl (wX G ad ho rn ln dr ro (upd lt lm (nI (ix c1))) rf th sb ++ wR G (ad 1) kd r ++ wR G (ad 2) k1 r1 ++ wR G (ad 3) k2 r2 ++ wK (ad 4)) H := hP
        have hD : va_D A (wX G ad ho rn ln dr ro (upd lt lm (nI (ix c1))) rf th sb ++ wR G (ad 1) kd r ++ wR G (ad 2) k1 r1 ++ wR G (ad 3) k2 r2 ++ wK (ad 4)) := hD
        refine lv_aload_n hx hb dX0_letterIt_39 rfl (lv_at hl 0 rfl) ?_
        refine lv_dup hx hb dX0_letterIt_40 rfl ?_
        refine va_get (D := G.1) (ci := 0) (v := .int ln) (C := RX0) (T := TX0) (N := 13) hx hb hts in_X0 hown hK.1 hP 0 rfl rfl 8 (by decide) (hts _ q231) (fun _ h9 => h9) rfl dX0_letterIt_41 ?_
        rw [show (ln : Int32) = nI lm from hln]
        refine lv_iconst (v := 1) hx hb dX0_letterIt_44 (by decide) ?_
        refine x_iadd hx hb dX0_letterIt_45 (v := nI (lm + 1)) (nI_1 _) ?_
        refine va_put (D := G.1) (ci := 0) (v := .int (nI (lm + 1))) (ty := .int) (C := RX0) (T := TX0) (N := 13) hx hb hts in_X0 tyX0 tyX0_ok nmX0 hown hK.1 hP hD hS 0 rfl rfl 8 (by decide) (hts _ q231) (fun _ h9 => h9) rfl (by decide +kernel) rfl rfl (Nat.le_of_ble_eq_true rfl) dX0_letterIt_46 (fun H locs hP hD hS => ?_)
        have hP : va_P G.1 vwCl (wX G ad ho rn (nI (lm + 1)) dr ro (upd lt lm (nI (ix c1))) rf th sb ++ wR G (ad 1) kd r ++ wR G (ad 2) k1 r1 ++ wR G (ad 3) k2 r2 ++ wK (ad 4)) H := hP
        have hD : va_D A (wX G ad ho rn (nI (lm + 1)) dr ro (upd lt lm (nI (ix c1))) rf th sb ++ wR G (ad 1) kd r ++ wR G (ad 2) k1 r1 ++ wR G (ad 3) k2 r2 ++ wK (ad 4)) := hD
        refine lv_aload_n hx hb dX0_letterIt_49 rfl (lv_at hl 0 rfl) ?_
        refine va_get (D := G.1) (ci := 0) (v := .int (nI (lm + 1))) (C := RX0) (T := TX0) (N := 13) hx hb hts in_X0 hown hK.1 hP 0 rfl rfl 8 (by decide) (hts _ q231) (fun _ h9 => h9) rfl dX0_letterIt_50 ?_
        rw [← et_c1] at hP hD
        refine hret _ _ _ _ _ _ (nI (lm + 1)) () dX0_letterIt_53 ?_ hP hD hS (Nat.le_of_ble_eq_true rfl) (Nat.le_of_ble_eq_true rfl)
        refine ⟨by rw [eW_0 hw_1, eS_t hw_4], ?_⟩
        exact rfl

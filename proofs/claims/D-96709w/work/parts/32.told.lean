/-! what is told and done, by checks (printed by tools/told.py) -/
set_option maxHeartbeats 4000000 in
set_option maxRecDepth 100000 in
theorem m_pullIt (l : Launch) (hl0 : l.stackTraces = false) (G : xG) (ad : Nat → Nat → Nat) (kd k1 k2 : Nat → Option Nat) (r r1 r2 : Rw) (ho rn ln dr : Int32) (ro lt rf th sb : Nat → Int32) (hr : Ok r) (hp : r 5 3 = 0) (hk : kOk (ad 4) kd r) (t sp : Int32) : yCi l G yX0_pullIt cX0_pullIt 3 (some .int) ({ frames := 10, cells := 4, slots := 28, locals := 174 } : Room) [.ref (ad 0 0), .int t, .int sp] (wX G ad ho rn ln dr ro lt rf th sb ++ wR G (ad 1) kd r ++ wR G (ad 2) k1 r1 ++ wR G (ad 3) k2 r2 ++ wK (ad 4)) (S := Unit) (SX := Unit) (fun v _ => eS (tB r t) (-1) (eW (wBy sp.toInt 0 9) (eS (pSt r (ix t)) (-3) 0)) = 0 ∧ v = pPullN r (ix t) sp) (fun _ => (wX G ad ho rn ln dr ro lt rf th sb ++ wR G (ad 1) kd (pPull r (ix t) sp) ++ wR G (ad 2) k1 r1 ++ wR G (ad 3) k2 r2 ++ wK (ad 4))) (fun n _ => n = eS (tB r t) (-1) (eW (wBy sp.toInt 0 9) (eS (pSt r (ix t)) (-3) 0)) ∧ eS (tB r t) (-1) (eW (wBy sp.toInt 0 9) (eS (pSt r (ix t)) (-3) 0)) ≠ 0) (fun _ => (wX G ad ho rn ln dr ro lt rf th sb ++ wR G (ad 1) kd r ++ wR G (ad 2) k1 r1 ++ wR G (ad 3) k2 r2 ++ wK (ad 4))) := by
  refine y_openi (by decide) (Nat.le_of_ble_eq_true rfl) (fun _ _ _ => rfl) ?_
  intro p e s m args below meth c A Q ls C0 hK hZ hP hD hA hl hret hthr
  obtain ⟨hx, hb, hml, hown, hts⟩ := id C0
  have hS : va_S A s.heap s.heap [] := va_S.rf
  have hP : va_P G.1 vwCl (wX G ad ho rn ln dr ro lt rf th sb ++ wR G (ad 1) kd r ++ wR G (ad 2) k1 r1 ++ wR G (ad 3) k2 r2 ++ wK (ad 4)) s.heap := hP
  have hD : va_D A (wX G ad ho rn ln dr ro lt rf th sb ++ wR G (ad 1) kd r ++ wR G (ad 2) k1 r1 ++ wR G (ad 3) k2 r2 ++ wK (ad 4)) := hD
  have hl : lv_has ls 3 [(0, .ref (ad 0 0)), (1, .int t), (2, .int sp)] := hl
  have hr0 := hr.n
  have hN := hr.le
  refine lv_aload_n hx hb dX0_pullIt_0 rfl (lv_at hl 0 rfl) ?_
  refine lv_iload_n hx hb dX0_pullIt_1 rfl (lv_at hl 1 rfl) ?_
  refine y_Vv (wN := fun _ => (wX G ad ho rn ln dr ro lt rf th sb ++ wR G (ad 1) kd r ++ wR G (ad 2) k1 r1 ++ wR G (ad 3) k2 r2 ++ wK (ad 4))) (wNx := fun u9 => (wX G ad ho rn ln dr ro lt rf th sb ++ wR G (ad 1) kd r ++ wR G (ad 2) k1 r1 ++ wR G (ad 3) k2 r2 ++ wK (ad 4))) ⟨C0, hK, hP, hD, hS, hA⟩ hZ 0 rfl (ci := 0) rfl rfl ((m_mustBeThing l hl0 G ad kd k1 k2 r r1 r2 ho rn ln dr ro lt rf th sb hr hp hk t)) (cwV 1 hts (lw_V q699 q701 qs14 q86 q702) rfl rfl rfl (by decide +kernel) ⟨Nat.le_of_ble_eq_true rfl, Nat.le_of_ble_eq_true rfl⟩) [0, 1, 2, 3, 4, 5, 6, 7, 8, 9, 10, 11, 12, 13, 14, 15, 16, 17, 18, 19, 20, 21, 22, 23, 24, 25, 26, 27, 28, 29, 30] [1, 3, 5, 7, 9, 11, 13, 15, 17, 19, 21, 23, 25, 27, 29, 31, 33, 35, 37, 39, 41, 43, 45, 47, 49, 51, 53, 55, 57, 59, 61] [1, 3, 5, 7, 9, 11, 13, 15, 17, 19, 21, 23, 25, 27, 29, 31, 33, 35, 37, 39, 41, 43, 45, 47, 49, 51, 53, 55, 57, 59, 61, 63] rfl (fun _ => rfl) (fun _ _ _ => rfl) rfl rfl rfl hl.1 rfl (Nat.le_of_ble_eq_true rfl) dX0_pullIt_2 ⟨(Nat.le_of_ble_eq_true rfl), (Nat.le_of_ble_eq_true rfl)⟩ (fun q9 u9 ee H locs hw_1 hP hD hS => ?_) (fun u_1 H locs hw_1 hP hD hS => ?_)
  · skip
    refine hthr _ _ _ _ _ _ _ q9 () ee ?_ hP hD hS (Nat.le_of_ble_eq_true rfl) (Nat.le_of_ble_eq_true rfl)
    obtain ⟨h8, h9⟩ := hw_1
    have e9 : eS (tB r t) (-1) (eW (wBy sp.toInt 0 9) (eS (pSt r (ix t)) (-3) 0)) = ee.2.1 := by rw [eS_f h8]; exact h9.symm
    exact ⟨e9.symm, by rw [e9, h9]; decide⟩
  · skip
    refine W.widen (k := 1) (n := 7) (Nat.le_of_ble_eq_true rfl) (Nat.le_of_ble_eq_true rfl) ?_
    obtain ⟨hj_t, et_t⟩ := tB_ix hN hw_1
    rw [et_t] at hl
    refine lv_iload_n hx hb dX0_pullIt_5 rfl (lv_at hl 2 rfl) ?_
    refine y_Sv (wN := fun _ => (wX G ad ho rn ln dr ro lt rf th sb ++ wR G (ad 1) kd r ++ wR G (ad 2) k1 r1 ++ wR G (ad 3) k2 r2 ++ wK (ad 4))) (wNx := fun u9 => (wX G ad ho rn ln dr ro lt rf th sb ++ wR G (ad 1) kd r ++ wR G (ad 2) k1 r1 ++ wR G (ad 3) k2 r2 ++ wK (ad 4))) ⟨C0, hK, hP, hD, hS, hA⟩ hZ ((m_mustBeSpeed l hl0 G sp)) (va_cwS 1 hts (lw_S q736 q737 q86 q738) rfl rfl rfl (by decide +kernel) ⟨Nat.le_of_ble_eq_true rfl, Nat.le_of_ble_eq_true rfl⟩) [] [0, 2, 4, 6, 8, 10, 12, 14, 16, 18, 20, 22, 24, 26, 28, 30, 32, 34, 36, 38, 40, 42, 44, 46, 48, 50, 52, 54, 56, 58, 60] [0, 2, 4, 6, 8, 10, 12, 14, 16, 18, 20, 22, 24, 26, 28, 30, 32, 34, 36, 38, 40, 42, 44, 46, 48, 50, 52, 54, 56, 58, 60, 1] rfl (fun _ => rfl) (fun _ _ _ => rfl) rfl rfl rfl hl.1 rfl (Nat.le_of_ble_eq_true rfl) dX0_pullIt_6 ⟨(Nat.le_of_ble_eq_true rfl), (Nat.le_of_ble_eq_true rfl)⟩ (fun q9 u9 ee H locs hw_2 hP hD hS => ?_) (fun u_2 H locs hw_2 hP hD hS => ?_)
    · skip
      refine hthr _ _ _ _ _ _ _ q9 () ee ?_ hP hD hS (Nat.le_of_ble_eq_true rfl) (Nat.le_of_ble_eq_true rfl)
      obtain ⟨h8, h9⟩ := hw_2
      have e9 : eS (tB r t) (-1) (eW (wBy sp.toInt 0 9) (eS (pSt r (ix t)) (-3) 0)) = ee.2.1 := by rw [eS_t hw_1, eW_n h9]; exact h8.symm
      exact ⟨e9.symm, by rw [e9, h8]; exact h9⟩
    · skip
      refine W.widen (k := 3) (n := 21) (Nat.le_of_ble_eq_true rfl) (Nat.le_of_ble_eq_true rfl) ?_
      refine lv_aload_n hx hb dX0_pullIt_9 rfl (lv_at hl 0 rfl) ?_
      refine lv_iload_n hx hb dX0_pullIt_10 rfl (lv_at hl 1 rfl) ?_
      refine y_Vv (wN := fun _ => (wX G ad ho rn ln dr ro lt rf th sb ++ wR G (ad 1) kd r ++ wR G (ad 2) k1 r1 ++ wR G (ad 3) k2 r2 ++ wK (ad 4))) (wNx := fun u9 => (wX G ad ho rn ln dr ro lt rf th sb ++ wR G (ad 1) kd r ++ wR G (ad 2) k1 r1 ++ wR G (ad 3) k2 r2 ++ wK (ad 4))) ⟨C0, hK, hP, hD, hS, hA⟩ hZ 0 rfl (ci := 0) rfl rfl ((m_mustStandNow l hl0 G ad kd k1 k2 r r1 r2 ho rn ln dr ro lt rf th sb hr hp hk (ix t) (by omega))) (cwV 1 hts (lw_V q740 q742 qs16 q86 q743) rfl rfl rfl (by decide +kernel) ⟨Nat.le_of_ble_eq_true rfl, Nat.le_of_ble_eq_true rfl⟩) [0, 1, 2, 3, 4, 5, 6, 7, 8, 9, 10, 11, 12, 13, 14, 15, 16, 17, 18, 19, 20, 21, 22, 23, 24, 25, 26, 27, 28, 29, 30] [1, 3, 5, 7, 9, 11, 13, 15, 17, 19, 21, 23, 25, 27, 29, 31, 33, 35, 37, 39, 41, 43, 45, 47, 49, 51, 53, 55, 57, 59, 61] [1, 3, 5, 7, 9, 11, 13, 15, 17, 19, 21, 23, 25, 27, 29, 31, 33, 35, 37, 39, 41, 43, 45, 47, 49, 51, 53, 55, 57, 59, 61, 63] rfl (fun _ => rfl) (fun _ _ _ => rfl) rfl rfl rfl hl.1 rfl (Nat.le_of_ble_eq_true rfl) dX0_pullIt_11 ⟨(Nat.le_of_ble_eq_true rfl), (Nat.le_of_ble_eq_true rfl)⟩ (fun q9 u9 ee H locs hw_3 hP hD hS => ?_) (fun u_3 H locs hw_3 hP hD hS => ?_)
      · skip
        refine hthr _ _ _ _ _ _ _ q9 () ee ?_ hP hD hS (Nat.le_of_ble_eq_true rfl) (Nat.le_of_ble_eq_true rfl)
        obtain ⟨h8, h9⟩ := hw_3
        have e9 : eS (tB r t) (-1) (eW (wBy sp.toInt 0 9) (eS (pSt r (ix t)) (-3) 0)) = ee.2.1 := by rw [eS_t hw_1, eW_0 hw_2, eS_f h8]; exact h9.symm
        exact ⟨e9.symm, by rw [e9, h9]; decide⟩
      · skip
        refine W.widen (k := 4) (n := 28) (Nat.le_of_ble_eq_true rfl) (Nat.le_of_ble_eq_true rfl) ?_
        refine lv_aload_n hx hb dX0_pullIt_14 rfl (lv_at hl 0 rfl) ?_
        refine va_get (D := G.1) (ci := 0) (v := .ref ((ad 1) 0)) (C := RX0) (T := TX0) (N := 13) hx hb hts in_X0 hown hK.1 hP 0 rfl rfl 1 (by decide) (hts _ q222) (fun _ h9 => h9) rfl dX0_pullIt_15 ?_
        refine lv_iload_n hx hb dX0_pullIt_18 rfl (lv_at hl 1 rfl) ?_
        refine lv_iload_n hx hb dX0_pullIt_19 rfl (lv_at hl 2 rfl) ?_
        refine x_Vi (wN := fun _ => (wX G ad ho rn ln dr ro lt rf th sb ++ wR G (ad 1) kd (pPull r (ix t) sp) ++ wR G (ad 2) k1 r1 ++ wR G (ad 3) k2 r2 ++ wK (ad 4))) ⟨C0, hK, hP, hD, hS, hA⟩ 7 rfl (ci := 7) rfl rfl ((m_pull l G (ad 1) (ad 4) kd r hr hk (ix t) sp (by omega) hp)) (cwV 2 hts (lw_V q745 q683 q684 q94 q685) rfl rfl rfl (by decide +kernel) ⟨Nat.le_of_ble_eq_true rfl, Nat.le_of_ble_eq_true rfl⟩) [7, 8, 9, 10, 11, 12, 25, 26, 27, 28, 29, 30] [0, 2, 4, 6, 8, 10, 12, 1, 3, 5, 7, 9, 11, 26, 28, 30, 32, 34, 36, 38, 40, 42, 44, 46, 48, 13, 15, 17, 19, 21, 23] rfl (fun _ => rfl) rfl rfl hl.1 rfl (Nat.le_of_ble_eq_true rfl) dX0_pullIt_20 ⟨(Nat.le_of_ble_eq_true rfl), (Nat.le_of_ble_eq_true rfl)⟩ (fun r_4 u_4 H locs hw_4 hP hD hS => ?_)
        have hw_4 : (pPullN r (ix t) sp : Int32) = r_4 := hw_4.symm
        subst hw_4
        have hP : va_P G.1 vwCl (wX G ad ho rn ln dr ro lt rf th sb ++ wR G (ad 1) kd (pPull r (ix t) sp) ++ wR G (ad 2) k1 r1 ++ wR G (ad 3) k2 r2 ++ wK (ad 4)) H := hP
        have hD : va_D A (wX G ad ho rn ln dr ro lt rf th sb ++ wR G (ad 1) kd (pPull r (ix t) sp) ++ wR G (ad 2) k1 r1 ++ wR G (ad 3) k2 r2 ++ wK (ad 4)) := hD
        refine hret _ _ _ _ _ _ (pPullN r (ix t) sp) () dX0_pullIt_23 ?_ hP hD hS (Nat.le_of_ble_eq_true rfl) (Nat.le_of_ble_eq_true rfl)
        refine ⟨by rw [eS_t hw_1, eW_0 hw_2, eS_t hw_3], ?_⟩
        exact rfl
set_option maxHeartbeats 4000000 in
set_option maxRecDepth 100000 in
theorem m_slowestTold (l : Launch) (hl0 : l.stackTraces = false) (G : xG) (ad : Nat → Nat → Nat) (kd k1 k2 : Nat → Option Nat) (r r1 r2 : Rw) (ho rn ln dr : Int32) (ro lt rf th sb : Nat → Int32) (hr : Ok r) (hp : r 5 3 = 0) (hk : kOk (ad 4) kd r) (t : Int32) : yCi l G yX0_slowestTold cX0_slowestTold 2 (some .int) ({ frames := 10, cells := 2, slots := 14, locals := 171 } : Room) [.ref (ad 0 0), .int t] (wX G ad ho rn ln dr ro lt rf th sb ++ wR G (ad 1) kd r ++ wR G (ad 2) k1 r1 ++ wR G (ad 3) k2 r2 ++ wK (ad 4)) (S := ((Nat → Option Nat) × Rw)) (SX := Unit) (fun v _ => eS (tB r t) (-1) (eS (pSt r (ix t)) (-3) 0) = 0 ∧ v = pSlow r (ix t)) (fun u => (wX G ad ho rn ln dr ro lt rf th sb ++ wR G (ad 1) kd r ++ wR G (ad 2) u.1 u.2 ++ wR G (ad 3) k2 r2 ++ wK (ad 4))) (fun n _ => n = eS (tB r t) (-1) (eS (pSt r (ix t)) (-3) 0) ∧ eS (tB r t) (-1) (eS (pSt r (ix t)) (-3) 0) ≠ 0) (fun _ => (wX G ad ho rn ln dr ro lt rf th sb ++ wR G (ad 1) kd r ++ wR G (ad 2) k1 r1 ++ wR G (ad 3) k2 r2 ++ wK (ad 4))) := by
  refine y_openi (by decide) (Nat.le_of_ble_eq_true rfl) (fun _ _ _ => rfl) ?_
  intro p e s m args below meth c A Q ls C0 hK hZ hP hD hA hl hret hthr
  obtain ⟨hx, hb, hml, hown, hts⟩ := id C0
  have hS : va_S A s.heap s.heap [] := va_S.rf
  have hP : va_P G.1 vwCl (wX G ad ho rn ln dr ro lt rf th sb ++ wR G (ad 1) kd r ++ wR G (ad 2) k1 r1 ++ wR G (ad 3) k2 r2 ++ wK (ad 4)) s.heap := hP
  have hD : va_D A (wX G ad ho rn ln dr ro lt rf th sb ++ wR G (ad 1) kd r ++ wR G (ad 2) k1 r1 ++ wR G (ad 3) k2 r2 ++ wK (ad 4)) := hD
  have hl : lv_has ls 2 [(0, .ref (ad 0 0)), (1, .int t)] := hl
  have hr0 := hr.n
  have hN := hr.le
  refine lv_aload_n hx hb dX0_slowestTold_0 rfl (lv_at hl 0 rfl) ?_
  refine lv_iload_n hx hb dX0_slowestTold_1 rfl (lv_at hl 1 rfl) ?_
  refine y_Vv (wN := fun _ => (wX G ad ho rn ln dr ro lt rf th sb ++ wR G (ad 1) kd r ++ wR G (ad 2) k1 r1 ++ wR G (ad 3) k2 r2 ++ wK (ad 4))) (wNx := fun u9 => (wX G ad ho rn ln dr ro lt rf th sb ++ wR G (ad 1) kd r ++ wR G (ad 2) k1 r1 ++ wR G (ad 3) k2 r2 ++ wK (ad 4))) ⟨C0, hK, hP, hD, hS, hA⟩ hZ 0 rfl (ci := 0) rfl rfl ((m_mustBeThing l hl0 G ad kd k1 k2 r r1 r2 ho rn ln dr ro lt rf th sb hr hp hk t)) (cwV 1 hts (lw_V q699 q701 qs14 q86 q702) rfl rfl rfl (by decide +kernel) ⟨Nat.le_of_ble_eq_true rfl, Nat.le_of_ble_eq_true rfl⟩) [0, 1, 2, 3, 4, 5, 6, 7, 8, 9, 10, 11, 12, 13, 14, 15, 16, 17, 18, 19, 20, 21, 22, 23, 24, 25, 26, 27, 28, 29, 30] [1, 3, 5, 7, 9, 11, 13, 15, 17, 19, 21, 23, 25, 27, 29, 31, 33, 35, 37, 39, 41, 43, 45, 47, 49, 51, 53, 55, 57, 59, 61] [1, 3, 5, 7, 9, 11, 13, 15, 17, 19, 21, 23, 25, 27, 29, 31, 33, 35, 37, 39, 41, 43, 45, 47, 49, 51, 53, 55, 57, 59, 61, 63] rfl (fun _ => rfl) (fun _ _ _ => rfl) rfl rfl rfl hl.1 rfl (Nat.le_of_ble_eq_true rfl) dX0_slowestTold_2 ⟨(Nat.le_of_ble_eq_true rfl), (Nat.le_of_ble_eq_true rfl)⟩ (fun q9 u9 ee H locs hw_1 hP hD hS => ?_) (fun u_1 H locs hw_1 hP hD hS => ?_)
  · skip
    refine hthr _ _ _ _ _ _ _ q9 () ee ?_ hP hD hS (Nat.le_of_ble_eq_true rfl) (Nat.le_of_ble_eq_true rfl)
    obtain ⟨h8, h9⟩ := hw_1
    have e9 : eS (tB r t) (-1) (eS (pSt r (ix t)) (-3) 0) = ee.2.1 := by rw [eS_f h8]; exact h9.symm
    exact ⟨e9.symm, by rw [e9, h9]; decide⟩
  · skip
    refine W.widen (k := 1) (n := 7) (Nat.le_of_ble_eq_true rfl) (Nat.le_of_ble_eq_true rfl) ?_
    obtain ⟨hj_t, et_t⟩ := tB_ix hN hw_1
    rw [et_t] at hl
    refine lv_aload_n hx hb dX0_slowestTold_5 rfl (lv_at hl 0 rfl) ?_
    refine lv_iload_n hx hb dX0_slowestTold_6 rfl (lv_at hl 1 rfl) ?_
    refine y_Vv (wN := fun _ => (wX G ad ho rn ln dr ro lt rf th sb ++ wR G (ad 1) kd r ++ wR G (ad 2) k1 r1 ++ wR G (ad 3) k2 r2 ++ wK (ad 4))) (wNx := fun u9 => (wX G ad ho rn ln dr ro lt rf th sb ++ wR G (ad 1) kd r ++ wR G (ad 2) k1 r1 ++ wR G (ad 3) k2 r2 ++ wK (ad 4))) ⟨C0, hK, hP, hD, hS, hA⟩ hZ 0 rfl (ci := 0) rfl rfl ((m_mustStandNow l hl0 G ad kd k1 k2 r r1 r2 ho rn ln dr ro lt rf th sb hr hp hk (ix t) (by omega))) (cwV 1 hts (lw_V q740 q742 qs16 q86 q743) rfl rfl rfl (by decide +kernel) ⟨Nat.le_of_ble_eq_true rfl, Nat.le_of_ble_eq_true rfl⟩) [0, 1, 2, 3, 4, 5, 6, 7, 8, 9, 10, 11, 12, 13, 14, 15, 16, 17, 18, 19, 20, 21, 22, 23, 24, 25, 26, 27, 28, 29, 30] [1, 3, 5, 7, 9, 11, 13, 15, 17, 19, 21, 23, 25, 27, 29, 31, 33, 35, 37, 39, 41, 43, 45, 47, 49, 51, 53, 55, 57, 59, 61] [1, 3, 5, 7, 9, 11, 13, 15, 17, 19, 21, 23, 25, 27, 29, 31, 33, 35, 37, 39, 41, 43, 45, 47, 49, 51, 53, 55, 57, 59, 61, 63] rfl (fun _ => rfl) (fun _ _ _ => rfl) rfl rfl rfl hl.1 rfl (Nat.le_of_ble_eq_true rfl) dX0_slowestTold_7 ⟨(Nat.le_of_ble_eq_true rfl), (Nat.le_of_ble_eq_true rfl)⟩ (fun q9 u9 ee H locs hw_2 hP hD hS => ?_) (fun u_2 H locs hw_2 hP hD hS => ?_)
    · skip
      refine hthr _ _ _ _ _ _ _ q9 () ee ?_ hP hD hS (Nat.le_of_ble_eq_true rfl) (Nat.le_of_ble_eq_true rfl)
      obtain ⟨h8, h9⟩ := hw_2
      have e9 : eS (tB r t) (-1) (eS (pSt r (ix t)) (-3) 0) = ee.2.1 := by rw [eS_t hw_1, eS_f h8]; exact h9.symm
      exact ⟨e9.symm, by rw [e9, h9]; decide⟩
    · skip
      refine W.widen (k := 2) (n := 14) (Nat.le_of_ble_eq_true rfl) (Nat.le_of_ble_eq_true rfl) ?_
      refine lv_aload_n hx hb dX0_slowestTold_10 rfl (lv_at hl 0 rfl) ?_
      refine lv_iload_n hx hb dX0_slowestTold_11 rfl (lv_at hl 1 rfl) ?_
      refine x_Vi (wN := fun u_3 => (wX G ad ho rn ln dr ro lt rf th sb ++ wR G (ad 1) kd r ++ wR G (ad 2) u_3.1 u_3.2 ++ wR G (ad 3) k2 r2 ++ wK (ad 4))) ⟨C0, hK, hP, hD, hS, hA⟩ 0 rfl (ci := 0) rfl rfl ((m_slowest l G ad kd k1 k2 r r1 r2 ho rn ln dr ro lt rf th sb hr hp hk (ix t) (by omega))) (cwV 1 hts (lw_V q841 q843 qs32 q86 q844) rfl rfl rfl (by decide +kernel) ⟨Nat.le_of_ble_eq_true rfl, Nat.le_of_ble_eq_true rfl⟩) [0, 1, 2, 3, 4, 5, 6, 7, 8, 9, 10, 11, 12, 13, 14, 15, 16, 17, 18, 19, 20, 21, 22, 23, 24, 25, 26, 27, 28, 29, 30] [1, 3, 5, 7, 9, 11, 13, 15, 17, 19, 21, 23, 25, 27, 29, 31, 33, 35, 37, 39, 41, 43, 45, 47, 49, 51, 53, 55, 57, 59, 61] rfl (fun _ => rfl) rfl rfl hl.1 rfl (Nat.le_of_ble_eq_true rfl) dX0_slowestTold_12 ⟨(Nat.le_of_ble_eq_true rfl), (Nat.le_of_ble_eq_true rfl)⟩ (fun r_3 u_3 H locs hw_3 hP hD hS => ?_)
      have hw_3 : (pSlow r (ix t) : Int32) = r_3 := hw_3.symm
      subst hw_3
      have hP : va_P G.1 vwCl (wX G ad ho rn ln dr ro lt rf th sb ++ wR G (ad 1) kd r ++ wR G (ad 2) u_3.1 u_3.2 ++ wR G (ad 3) k2 r2 ++ wK (ad 4)) H := hP
      have hD : va_D A (wX G ad ho rn ln dr ro lt rf th sb ++ wR G (ad 1) kd r ++ wR G (ad 2) u_3.1 u_3.2 ++ wR G (ad 3) k2 r2 ++ wK (ad 4)) := hD
      refine hret _ _ _ _ _ _ (pSlow r (ix t)) (u_3.1, u_3.2) dX0_slowestTold_15 ?_ hP hD hS (Nat.le_of_ble_eq_true rfl) (Nat.le_of_ble_eq_true rfl)
      refine ⟨by rw [eS_t hw_1, eS_t hw_2], ?_⟩
      exact rfl
set_option maxHeartbeats 4000000 in
set_option maxRecDepth 100000 in
theorem m_onceTold (l : Launch) (hl0 : l.stackTraces = false) (G : xG) (ad : Nat → Nat → Nat) (kd k1 k2 : Nat → Option Nat) (r r1 r2 : Rw) (ho rn ln dr : Int32) (ro lt rf th sb : Nat → Int32) (hr : Ok r) (hp : r 5 3 = 0) (hk : kOk (ad 4) kd r) (t sp : Int32) : yCi l G yX0_onceTold cX0_onceTold 3 (some .int) ({ frames := 10, cells := 4, slots := 28, locals := 174 } : Room) [.ref (ad 0 0), .int t, .int sp] (wX G ad ho rn ln dr ro lt rf th sb ++ wR G (ad 1) kd r ++ wR G (ad 2) k1 r1 ++ wR G (ad 3) k2 r2 ++ wK (ad 4)) (S := ((Nat → Option Nat) × Rw)) (SX := Unit) (fun v _ => eS (tB r t) (-1) (eW (wBy sp.toInt 0 9) (eS (pSt r (ix t)) (-3) 0)) = 0 ∧ v = pFB r (ix t) sp) (fun u => (wX G ad ho rn ln dr ro lt rf th sb ++ wR G (ad 1) kd r ++ wR G (ad 2) u.1 u.2 ++ wR G (ad 3) k2 r2 ++ wK (ad 4))) (fun n _ => n = eS (tB r t) (-1) (eW (wBy sp.toInt 0 9) (eS (pSt r (ix t)) (-3) 0)) ∧ eS (tB r t) (-1) (eW (wBy sp.toInt 0 9) (eS (pSt r (ix t)) (-3) 0)) ≠ 0) (fun _ => (wX G ad ho rn ln dr ro lt rf th sb ++ wR G (ad 1) kd r ++ wR G (ad 2) k1 r1 ++ wR G (ad 3) k2 r2 ++ wK (ad 4))) := by
  refine y_openi (by decide) (Nat.le_of_ble_eq_true rfl) (fun _ _ _ => rfl) ?_
  intro p e s m args below meth c A Q ls C0 hK hZ hP hD hA hl hret hthr
  obtain ⟨hx, hb, hml, hown, hts⟩ := id C0
  have hS : va_S A s.heap s.heap [] := va_S.rf
  have hP : va_P G.1 vwCl (wX G ad ho rn ln dr ro lt rf th sb ++ wR G (ad 1) kd r ++ wR G (ad 2) k1 r1 ++ wR G (ad 3) k2 r2 ++ wK (ad 4)) s.heap := hP
  have hD : va_D A (wX G ad ho rn ln dr ro lt rf th sb ++ wR G (ad 1) kd r ++ wR G (ad 2) k1 r1 ++ wR G (ad 3) k2 r2 ++ wK (ad 4)) := hD
  have hl : lv_has ls 3 [(0, .ref (ad 0 0)), (1, .int t), (2, .int sp)] := hl
  have hr0 := hr.n
  have hN := hr.le
  refine lv_aload_n hx hb dX0_onceTold_0 rfl (lv_at hl 0 rfl) ?_
  refine lv_iload_n hx hb dX0_onceTold_1 rfl (lv_at hl 1 rfl) ?_
  refine y_Vv (wN := fun _ => (wX G ad ho rn ln dr ro lt rf th sb ++ wR G (ad 1) kd r ++ wR G (ad 2) k1 r1 ++ wR G (ad 3) k2 r2 ++ wK (ad 4))) (wNx := fun u9 => (wX G ad ho rn ln dr ro lt rf th sb ++ wR G (ad 1) kd r ++ wR G (ad 2) k1 r1 ++ wR G (ad 3) k2 r2 ++ wK (ad 4))) ⟨C0, hK, hP, hD, hS, hA⟩ hZ 0 rfl (ci := 0) rfl rfl ((m_mustBeThing l hl0 G ad kd k1 k2 r r1 r2 ho rn ln dr ro lt rf th sb hr hp hk t)) (cwV 1 hts (lw_V q699 q701 qs14 q86 q702) rfl rfl rfl (by decide +kernel) ⟨Nat.le_of_ble_eq_true rfl, Nat.le_of_ble_eq_true rfl⟩) [0, 1, 2, 3, 4, 5, 6, 7, 8, 9, 10, 11, 12, 13, 14, 15, 16, 17, 18, 19, 20, 21, 22, 23, 24, 25, 26, 27, 28, 29, 30] [1, 3, 5, 7, 9, 11, 13, 15, 17, 19, 21, 23, 25, 27, 29, 31, 33, 35, 37, 39, 41, 43, 45, 47, 49, 51, 53, 55, 57, 59, 61] [1, 3, 5, 7, 9, 11, 13, 15, 17, 19, 21, 23, 25, 27, 29, 31, 33, 35, 37, 39, 41, 43, 45, 47, 49, 51, 53, 55, 57, 59, 61, 63] rfl (fun _ => rfl) (fun _ _ _ => rfl) rfl rfl rfl hl.1 rfl (Nat.le_of_ble_eq_true rfl) dX0_onceTold_2 ⟨(Nat.le_of_ble_eq_true rfl), (Nat.le_of_ble_eq_true rfl)⟩ (fun q9 u9 ee H locs hw_1 hP hD hS => ?_) (fun u_1 H locs hw_1 hP hD hS => ?_)
  · skip
    refine hthr _ _ _ _ _ _ _ q9 () ee ?_ hP hD hS (Nat.le_of_ble_eq_true rfl) (Nat.le_of_ble_eq_true rfl)
    obtain ⟨h8, h9⟩ := hw_1
    have e9 : eS (tB r t) (-1) (eW (wBy sp.toInt 0 9) (eS (pSt r (ix t)) (-3) 0)) = ee.2.1 := by rw [eS_f h8]; exact h9.symm
    exact ⟨e9.symm, by rw [e9, h9]; decide⟩
  · skip
    refine W.widen (k := 1) (n := 7) (Nat.le_of_ble_eq_true rfl) (Nat.le_of_ble_eq_true rfl) ?_
    obtain ⟨hj_t, et_t⟩ := tB_ix hN hw_1
    rw [et_t] at hl
    refine lv_iload_n hx hb dX0_onceTold_5 rfl (lv_at hl 2 rfl) ?_
    refine y_Sv (wN := fun _ => (wX G ad ho rn ln dr ro lt rf th sb ++ wR G (ad 1) kd r ++ wR G (ad 2) k1 r1 ++ wR G (ad 3) k2 r2 ++ wK (ad 4))) (wNx := fun u9 => (wX G ad ho rn ln dr ro lt rf th sb ++ wR G (ad 1) kd r ++ wR G (ad 2) k1 r1 ++ wR G (ad 3) k2 r2 ++ wK (ad 4))) ⟨C0, hK, hP, hD, hS, hA⟩ hZ ((m_mustBeSpeed l hl0 G sp)) (va_cwS 1 hts (lw_S q736 q737 q86 q738) rfl rfl rfl (by decide +kernel) ⟨Nat.le_of_ble_eq_true rfl, Nat.le_of_ble_eq_true rfl⟩) [] [0, 2, 4, 6, 8, 10, 12, 14, 16, 18, 20, 22, 24, 26, 28, 30, 32, 34, 36, 38, 40, 42, 44, 46, 48, 50, 52, 54, 56, 58, 60] [0, 2, 4, 6, 8, 10, 12, 14, 16, 18, 20, 22, 24, 26, 28, 30, 32, 34, 36, 38, 40, 42, 44, 46, 48, 50, 52, 54, 56, 58, 60, 1] rfl (fun _ => rfl) (fun _ _ _ => rfl) rfl rfl rfl hl.1 rfl (Nat.le_of_ble_eq_true rfl) dX0_onceTold_6 ⟨(Nat.le_of_ble_eq_true rfl), (Nat.le_of_ble_eq_true rfl)⟩ (fun q9 u9 ee H locs hw_2 hP hD hS => ?_) (fun u_2 H locs hw_2 hP hD hS => ?_)
    · skip
      refine hthr _ _ _ _ _ _ _ q9 () ee ?_ hP hD hS (Nat.le_of_ble_eq_true rfl) (Nat.le_of_ble_eq_true rfl)
      obtain ⟨h8, h9⟩ := hw_2
      have e9 : eS (tB r t) (-1) (eW (wBy sp.toInt 0 9) (eS (pSt r (ix t)) (-3) 0)) = ee.2.1 := by rw [eS_t hw_1, eW_n h9]; exact h8.symm
      exact ⟨e9.symm, by rw [e9, h8]; exact h9⟩
    · skip
      refine W.widen (k := 3) (n := 21) (Nat.le_of_ble_eq_true rfl) (Nat.le_of_ble_eq_true rfl) ?_
      refine lv_aload_n hx hb dX0_onceTold_9 rfl (lv_at hl 0 rfl) ?_
      refine lv_iload_n hx hb dX0_onceTold_10 rfl (lv_at hl 1 rfl) ?_
      refine y_Vv (wN := fun _ => (wX G ad ho rn ln dr ro lt rf th sb ++ wR G (ad 1) kd r ++ wR G (ad 2) k1 r1 ++ wR G (ad 3) k2 r2 ++ wK (ad 4))) (wNx := fun u9 => (wX G ad ho rn ln dr ro lt rf th sb ++ wR G (ad 1) kd r ++ wR G (ad 2) k1 r1 ++ wR G (ad 3) k2 r2 ++ wK (ad 4))) ⟨C0, hK, hP, hD, hS, hA⟩ hZ 0 rfl (ci := 0) rfl rfl ((m_mustStandNow l hl0 G ad kd k1 k2 r r1 r2 ho rn ln dr ro lt rf th sb hr hp hk (ix t) (by omega))) (cwV 1 hts (lw_V q740 q742 qs16 q86 q743) rfl rfl rfl (by decide +kernel) ⟨Nat.le_of_ble_eq_true rfl, Nat.le_of_ble_eq_true rfl⟩) [0, 1, 2, 3, 4, 5, 6, 7, 8, 9, 10, 11, 12, 13, 14, 15, 16, 17, 18, 19, 20, 21, 22, 23, 24, 25, 26, 27, 28, 29, 30] [1, 3, 5, 7, 9, 11, 13, 15, 17, 19, 21, 23, 25, 27, 29, 31, 33, 35, 37, 39, 41, 43, 45, 47, 49, 51, 53, 55, 57, 59, 61] [1, 3, 5, 7, 9, 11, 13, 15, 17, 19, 21, 23, 25, 27, 29, 31, 33, 35, 37, 39, 41, 43, 45, 47, 49, 51, 53, 55, 57, 59, 61, 63] rfl (fun _ => rfl) (fun _ _ _ => rfl) rfl rfl rfl hl.1 rfl (Nat.le_of_ble_eq_true rfl) dX0_onceTold_11 ⟨(Nat.le_of_ble_eq_true rfl), (Nat.le_of_ble_eq_true rfl)⟩ (fun q9 u9 ee H locs hw_3 hP hD hS => ?_) (fun u_3 H locs hw_3 hP hD hS => ?_)
      · skip
        refine hthr _ _ _ _ _ _ _ q9 () ee ?_ hP hD hS (Nat.le_of_ble_eq_true rfl) (Nat.le_of_ble_eq_true rfl)
        obtain ⟨h8, h9⟩ := hw_3
        have e9 : eS (tB r t) (-1) (eW (wBy sp.toInt 0 9) (eS (pSt r (ix t)) (-3) 0)) = ee.2.1 := by rw [eS_t hw_1, eW_0 hw_2, eS_f h8]; exact h9.symm
        exact ⟨e9.symm, by rw [e9, h9]; decide⟩
      · skip
        refine W.widen (k := 4) (n := 28) (Nat.le_of_ble_eq_true rfl) (Nat.le_of_ble_eq_true rfl) ?_
        refine lv_aload_n hx hb dX0_onceTold_14 rfl (lv_at hl 0 rfl) ?_
        refine lv_iload_n hx hb dX0_onceTold_15 rfl (lv_at hl 1 rfl) ?_
        refine lv_iload_n hx hb dX0_onceTold_16 rfl (lv_at hl 2 rfl) ?_
        refine x_Vi (wN := fun u_4 => (wX G ad ho rn ln dr ro lt rf th sb ++ wR G (ad 1) kd r ++ wR G (ad 2) u_4.1 u_4.2 ++ wR G (ad 3) k2 r2 ++ wK (ad 4))) ⟨C0, hK, hP, hD, hS, hA⟩ 0 rfl (ci := 0) rfl rfl ((m_fallenBy l G ad kd k1 k2 r r1 r2 ho rn ln dr ro lt rf th sb hr hp hk (ix t) (by omega) sp)) (cwV 2 hts (lw_V q849 q851 qs34 q86 q852) rfl rfl rfl (by decide +kernel) ⟨Nat.le_of_ble_eq_true rfl, Nat.le_of_ble_eq_true rfl⟩) [0, 1, 2, 3, 4, 5, 6, 7, 8, 9, 10, 11, 12, 13, 14, 15, 16, 17, 18, 19, 20, 21, 22, 23, 24, 25, 26, 27, 28, 29, 30] [1, 3, 5, 7, 9, 11, 13, 15, 17, 19, 21, 23, 25, 27, 29, 31, 33, 35, 37, 39, 41, 43, 45, 47, 49, 51, 53, 55, 57, 59, 61] rfl (fun _ => rfl) rfl rfl hl.1 rfl (Nat.le_of_ble_eq_true rfl) dX0_onceTold_17 ⟨(Nat.le_of_ble_eq_true rfl), (Nat.le_of_ble_eq_true rfl)⟩ (fun r_4 u_4 H locs hw_4 hP hD hS => ?_)
        have hw_4 : (pFB r (ix t) sp : Int32) = r_4 := hw_4.symm
        subst hw_4
        have hP : va_P G.1 vwCl (wX G ad ho rn ln dr ro lt rf th sb ++ wR G (ad 1) kd r ++ wR G (ad 2) u_4.1 u_4.2 ++ wR G (ad 3) k2 r2 ++ wK (ad 4)) H := hP
        have hD : va_D A (wX G ad ho rn ln dr ro lt rf th sb ++ wR G (ad 1) kd r ++ wR G (ad 2) u_4.1 u_4.2 ++ wR G (ad 3) k2 r2 ++ wK (ad 4)) := hD
        refine hret _ _ _ _ _ _ (pFB r (ix t) sp) (u_4.1, u_4.2) dX0_onceTold_20 ?_ hP hD hS (Nat.le_of_ble_eq_true rfl) (Nat.le_of_ble_eq_true rfl)
        refine ⟨by rw [eS_t hw_1, eW_0 hw_2, eS_t hw_3], ?_⟩
        exact rfl
set_option maxHeartbeats 4000000 in
set_option maxRecDepth 100000 in
theorem m_fallsTold (l : Launch) (hl0 : l.stackTraces = false) (G : xG) (ad : Nat → Nat → Nat) (kd k1 k2 : Nat → Option Nat) (r r1 r2 : Rw) (ho rn ln dr : Int32) (ro lt rf th sb : Nat → Int32) (hr : Ok r) (hp : r 5 3 = 0) (hk : kOk (ad 4) kd r) (t : Int32) : yCi l G yX0_fallsTold cX0_fallsTold 3 (some .int) ({ frames := 10, cells := 1, slots := 7, locals := 171 } : Room) [.ref (ad 0 0), .int t] (wX G ad ho rn ln dr ro lt rf th sb ++ wR G (ad 1) kd r ++ wR G (ad 2) k1 r1 ++ wR G (ad 3) k2 r2 ++ wK (ad 4)) (S := ((Nat → Option Nat) × Rw)) (SX := Unit) (fun v _ => eS (tB r t) (-1) 0 = 0 ∧ v = pFls r (ix t)) (fun u => (wX G ad ho rn ln dr ro lt rf th sb ++ wR G (ad 1) kd r ++ wR G (ad 2) u.1 u.2 ++ wR G (ad 3) k2 r2 ++ wK (ad 4))) (fun n _ => n = eS (tB r t) (-1) 0 ∧ eS (tB r t) (-1) 0 ≠ 0) (fun _ => (wX G ad ho rn ln dr ro lt rf th sb ++ wR G (ad 1) kd r ++ wR G (ad 2) k1 r1 ++ wR G (ad 3) k2 r2 ++ wK (ad 4))) := by
  refine y_openi (by decide) (Nat.le_of_ble_eq_true rfl) (fun _ _ _ => rfl) ?_
  intro p e s m args below meth c A Q ls C0 hK hZ hP hD hA hl hret hthr
  obtain ⟨hx, hb, hml, hown, hts⟩ := id C0
  have hS : va_S A s.heap s.heap [] := va_S.rf
  have hP : va_P G.1 vwCl (wX G ad ho rn ln dr ro lt rf th sb ++ wR G (ad 1) kd r ++ wR G (ad 2) k1 r1 ++ wR G (ad 3) k2 r2 ++ wK (ad 4)) s.heap := hP
  have hD : va_D A (wX G ad ho rn ln dr ro lt rf th sb ++ wR G (ad 1) kd r ++ wR G (ad 2) k1 r1 ++ wR G (ad 3) k2 r2 ++ wK (ad 4)) := hD
  have hl : lv_has ls 3 [(0, .ref (ad 0 0)), (1, .int t)] := hl
  have hr0 := hr.n
  have hN := hr.le
  refine lv_aload_n hx hb dX0_fallsTold_0 rfl (lv_at hl 0 rfl) ?_
  refine lv_iload_n hx hb dX0_fallsTold_1 rfl (lv_at hl 1 rfl) ?_
  refine y_Vv (wN := fun _ => (wX G ad ho rn ln dr ro lt rf th sb ++ wR G (ad 1) kd r ++ wR G (ad 2) k1 r1 ++ wR G (ad 3) k2 r2 ++ wK (ad 4))) (wNx := fun u9 => (wX G ad ho rn ln dr ro lt rf th sb ++ wR G (ad 1) kd r ++ wR G (ad 2) k1 r1 ++ wR G (ad 3) k2 r2 ++ wK (ad 4))) ⟨C0, hK, hP, hD, hS, hA⟩ hZ 0 rfl (ci := 0) rfl rfl ((m_mustBeThing l hl0 G ad kd k1 k2 r r1 r2 ho rn ln dr ro lt rf th sb hr hp hk t)) (cwV 1 hts (lw_V q699 q701 qs14 q86 q702) rfl rfl rfl (by decide +kernel) ⟨Nat.le_of_ble_eq_true rfl, Nat.le_of_ble_eq_true rfl⟩) [0, 1, 2, 3, 4, 5, 6, 7, 8, 9, 10, 11, 12, 13, 14, 15, 16, 17, 18, 19, 20, 21, 22, 23, 24, 25, 26, 27, 28, 29, 30] [1, 3, 5, 7, 9, 11, 13, 15, 17, 19, 21, 23, 25, 27, 29, 31, 33, 35, 37, 39, 41, 43, 45, 47, 49, 51, 53, 55, 57, 59, 61] [1, 3, 5, 7, 9, 11, 13, 15, 17, 19, 21, 23, 25, 27, 29, 31, 33, 35, 37, 39, 41, 43, 45, 47, 49, 51, 53, 55, 57, 59, 61, 63] rfl (fun _ => rfl) (fun _ _ _ => rfl) rfl rfl rfl hl.1 rfl (Nat.le_of_ble_eq_true rfl) dX0_fallsTold_2 ⟨(Nat.le_of_ble_eq_true rfl), (Nat.le_of_ble_eq_true rfl)⟩ (fun q9 u9 ee H locs hw_1 hP hD hS => ?_) (fun u_1 H locs hw_1 hP hD hS => ?_)
  · skip
    refine hthr _ _ _ _ _ _ _ q9 () ee ?_ hP hD hS (Nat.le_of_ble_eq_true rfl) (Nat.le_of_ble_eq_true rfl)
    obtain ⟨h8, h9⟩ := hw_1
    have e9 : eS (tB r t) (-1) 0 = ee.2.1 := by rw [eS_f h8]; exact h9.symm
    exact ⟨e9.symm, by rw [e9, h9]; decide⟩
  · skip
    refine W.widen (k := 1) (n := 7) (Nat.le_of_ble_eq_true rfl) (Nat.le_of_ble_eq_true rfl) ?_
    obtain ⟨hj_t, et_t⟩ := tB_ix hN hw_1
    rw [et_t] at hl
    refine lv_aload_n hx hb dX0_fallsTold_5 rfl (lv_at hl 0 rfl) ?_
    refine lv_aload_n hx hb dX0_fallsTold_6 rfl (lv_at hl 0 rfl) ?_
    refine x_Vr (wN := fun _ => (wX G ad ho rn ln dr ro lt rf th sb ++ wR G (ad 1) kd r ++ wR G (ad 2) kd r ++ wR G (ad 3) k2 r2 ++ wK (ad 4))) ⟨C0, hK, hP, hD, hS, hA⟩ 0 rfl (ci := 0) rfl rfl ((m_openMind l G ad kd k1 k2 r r1 r2 ho rn ln dr ro lt rf th sb hr hp hk )) (cwV 0 hts (lw_V q795 q797 qs25 q86 q798) rfl rfl rfl (by decide +kernel) ⟨Nat.le_of_ble_eq_true rfl, Nat.le_of_ble_eq_true rfl⟩) [0, 1, 2, 3, 4, 5, 6, 7, 8, 9, 10, 11, 12, 13, 14, 15, 16, 17, 18, 19, 20, 21, 22, 23, 24, 25, 26, 27, 28, 29, 30] [1, 3, 5, 7, 9, 11, 13, 15, 17, 19, 21, 23, 25, 27, 29, 31, 33, 35, 37, 39, 41, 43, 45, 47, 49, 51, 53, 55, 57, 59, 61] rfl (fun _ => rfl) rfl rfl hl.1 rfl (Nat.le_of_ble_eq_true rfl) dX0_fallsTold_7 ⟨(Nat.le_of_ble_eq_true rfl), (Nat.le_of_ble_eq_true rfl)⟩ (fun u_2 H locs hw_2 hP hD hS => ?_)
    have hP : va_P G.1 vwCl (wX G ad ho rn ln dr ro lt rf th sb ++ wR G (ad 1) kd r ++ wR G (ad 2) kd r ++ wR G (ad 3) k2 r2 ++ wK (ad 4)) H := hP
    have hD : va_D A (wX G ad ho rn ln dr ro lt rf th sb ++ wR G (ad 1) kd r ++ wR G (ad 2) kd r ++ wR G (ad 3) k2 r2 ++ wK (ad 4)) := hD
    refine lv_iload_n hx hb dX0_fallsTold_10 rfl (lv_at hl 1 rfl) ?_
    refine x_Vi (wN := fun u_3 => (wX G ad ho rn ln dr ro lt rf th sb ++ wR G (ad 1) kd r ++ wR G (ad 2) u_3.1 u_3.2 ++ wR G (ad 3) k2 r2 ++ wK (ad 4))) ⟨C0, hK, hP, hD, hS, hA⟩ 0 rfl (ci := 0) rfl rfl ((m_fallIn l G ad kd kd k2 r r r2 ho rn ln dr ro lt rf th sb hr hp hk (ix t) (by omega))) (cwV 2 hts (lw_V q803 q805 qs27 q86 q806) rfl rfl rfl (by decide +kernel) ⟨Nat.le_of_ble_eq_true rfl, Nat.le_of_ble_eq_true rfl⟩) [0, 1, 2, 3, 4, 5, 6, 7, 8, 9, 10, 11, 12, 13, 14, 15, 16, 17, 18, 19, 20, 21, 22, 23, 24, 25, 26, 27, 28, 29, 30] [1, 3, 5, 7, 9, 11, 13, 15, 17, 19, 21, 23, 25, 27, 29, 31, 33, 35, 37, 39, 41, 43, 45, 47, 49, 51, 53, 55, 57, 59, 61] rfl (fun _ => rfl) rfl rfl hl.1 rfl (Nat.le_of_ble_eq_true rfl) dX0_fallsTold_11 ⟨(Nat.le_of_ble_eq_true rfl), (Nat.le_of_ble_eq_true rfl)⟩ (fun r_3 u_3 H locs hw_3 hP hD hS => ?_)
    have hw_3 : (nI (pFallIn r (ix t)) : Int32) = r_3 := hw_3.symm
    subst hw_3
    have hP : va_P G.1 vwCl (wX G ad ho rn ln dr ro lt rf th sb ++ wR G (ad 1) kd r ++ wR G (ad 2) u_3.1 u_3.2 ++ wR G (ad 3) k2 r2 ++ wK (ad 4)) H := hP
    have hD : va_D A (wX G ad ho rn ln dr ro lt rf th sb ++ wR G (ad 1) kd r ++ wR G (ad 2) u_3.1 u_3.2 ++ wR G (ad 3) k2 r2 ++ wK (ad 4)) := hD
    have hle := fs_le (fun n => decide (pMins r n 3 (ix t) = 1)) 100
    have hle : pFallIn r (ix t) ≤ 100 := hle
    refine lv_istore_n (lv' := [(2, .int (nI (pFallIn r (ix t)))), (0, .ref (ad 0 0)), (1, .int (nI (ix t)))]) hx hb dX0_fallsTold_14 rfl hl (by decide) rfl (fun ls hl => ?_)
    refine lv_iload_n hx hb dX0_fallsTold_15 rfl (lv_at hl 0 rfl) ?_
    refine lv_bipush (v := 100) hx hb dX0_fallsTold_16 (by decide) ?_
    refine lv_icmp_ne (tgt := 26) hx hb dX0_fallsTold_18 (by decide) (fun c_4 => ?_) (fun c_4 => ?_)
    · skip
      have g_4 := mt (nI_eq (by omega) (by omega)).mpr (show ¬ (nI (pFallIn r (ix t)) = nI 100) from c_4)
      refine lv_iload_n hx hb dX0_fallsTold_26 rfl (lv_at hl 0 rfl) ?_
      refine hret _ _ _ _ _ _ (nI (pFallIn r (ix t))) (u_3.1, u_3.2) dX0_fallsTold_27 ?_ hP hD hS (Nat.le_of_ble_eq_true rfl) (Nat.le_of_ble_eq_true rfl)
      refine ⟨by rw [eS_t hw_1], ?_⟩
      unfold pFls
      exact (if_neg (by omega)).symm
    · skip
      have g_4 := (nI_eq (by omega) (by omega)).mp (show nI (pFallIn r (ix t)) = nI 100 from c_4)
      refine lv_bipush (v := (-9)) hx hb dX0_fallsTold_21 (by decide) ?_
      refine lv_goto (tgt := 27) hx hb dX0_fallsTold_23 (by decide) ?_
      refine hret _ _ _ _ _ _ (-9) (u_3.1, u_3.2) dX0_fallsTold_27 ?_ hP hD hS (Nat.le_of_ble_eq_true rfl) (Nat.le_of_ble_eq_true rfl)
      refine ⟨by rw [eS_t hw_1], ?_⟩
      unfold pFls
      exact (if_pos (by omega)).symm
set_option maxHeartbeats 4000000 in
set_option maxRecDepth 100000 in
theorem m_towerTold (l : Launch) (hl0 : l.stackTraces = false) (G : xG) (ad : Nat → Nat → Nat) (kd k1 k2 : Nat → Option Nat) (r r1 r2 : Rw) (ho rn ln dr : Int32) (ro lt rf th sb : Nat → Int32) (hr : Ok r) (hp : r 5 3 = 0) (hk : kOk (ad 4) kd r) (t w : Int32) : yCi l G yX0_towerTold cX0_towerTold 3 (some .int) ({ frames := 10, cells := 2, slots := 14, locals := 171 } : Room) [.ref (ad 0 0), .int t, .int w] (wX G ad ho rn ln dr ro lt rf th sb ++ wR G (ad 1) kd r ++ wR G (ad 2) k1 r1 ++ wR G (ad 3) k2 r2 ++ wK (ad 4)) (S := Unit) (SX := Unit) (fun v _ => eS (tB r t) (-1) (eS (inR w 0 2) (-2) 0) = 0 ∧ v = pTow r (ix t) w) (fun _ => (wX G ad ho rn ln dr ro lt rf th sb ++ wR G (ad 1) kd r ++ wR G (ad 2) k1 r1 ++ wR G (ad 3) k2 r2 ++ wK (ad 4))) (fun n _ => n = eS (tB r t) (-1) (eS (inR w 0 2) (-2) 0) ∧ eS (tB r t) (-1) (eS (inR w 0 2) (-2) 0) ≠ 0) (fun _ => (wX G ad ho rn ln dr ro lt rf th sb ++ wR G (ad 1) kd r ++ wR G (ad 2) k1 r1 ++ wR G (ad 3) k2 r2 ++ wK (ad 4))) := by
  refine y_openi (by decide) (Nat.le_of_ble_eq_true rfl) (fun _ _ _ => rfl) ?_
  intro p e s m args below meth c A Q ls C0 hK hZ hP hD hA hl hret hthr
  obtain ⟨hx, hb, hml, hown, hts⟩ := id C0
  have hS : va_S A s.heap s.heap [] := va_S.rf
  have hP : va_P G.1 vwCl (wX G ad ho rn ln dr ro lt rf th sb ++ wR G (ad 1) kd r ++ wR G (ad 2) k1 r1 ++ wR G (ad 3) k2 r2 ++ wK (ad 4)) s.heap := hP
  have hD : va_D A (wX G ad ho rn ln dr ro lt rf th sb ++ wR G (ad 1) kd r ++ wR G (ad 2) k1 r1 ++ wR G (ad 3) k2 r2 ++ wK (ad 4)) := hD
  have hl : lv_has ls 3 [(0, .ref (ad 0 0)), (1, .int t), (2, .int w)] := hl
  have hr0 := hr.n
  have hN := hr.le
  refine lv_aload_n hx hb dX0_towerTold_0 rfl (lv_at hl 0 rfl) ?_
  refine lv_iload_n hx hb dX0_towerTold_1 rfl (lv_at hl 1 rfl) ?_
  refine y_Vv (wN := fun _ => (wX G ad ho rn ln dr ro lt rf th sb ++ wR G (ad 1) kd r ++ wR G (ad 2) k1 r1 ++ wR G (ad 3) k2 r2 ++ wK (ad 4))) (wNx := fun u9 => (wX G ad ho rn ln dr ro lt rf th sb ++ wR G (ad 1) kd r ++ wR G (ad 2) k1 r1 ++ wR G (ad 3) k2 r2 ++ wK (ad 4))) ⟨C0, hK, hP, hD, hS, hA⟩ hZ 0 rfl (ci := 0) rfl rfl ((m_mustBeThing l hl0 G ad kd k1 k2 r r1 r2 ho rn ln dr ro lt rf th sb hr hp hk t)) (cwV 1 hts (lw_V q699 q701 qs14 q86 q702) rfl rfl rfl (by decide +kernel) ⟨Nat.le_of_ble_eq_true rfl, Nat.le_of_ble_eq_true rfl⟩) [0, 1, 2, 3, 4, 5, 6, 7, 8, 9, 10, 11, 12, 13, 14, 15, 16, 17, 18, 19, 20, 21, 22, 23, 24, 25, 26, 27, 28, 29, 30] [1, 3, 5, 7, 9, 11, 13, 15, 17, 19, 21, 23, 25, 27, 29, 31, 33, 35, 37, 39, 41, 43, 45, 47, 49, 51, 53, 55, 57, 59, 61] [1, 3, 5, 7, 9, 11, 13, 15, 17, 19, 21, 23, 25, 27, 29, 31, 33, 35, 37, 39, 41, 43, 45, 47, 49, 51, 53, 55, 57, 59, 61, 63] rfl (fun _ => rfl) (fun _ _ _ => rfl) rfl rfl rfl hl.1 rfl (Nat.le_of_ble_eq_true rfl) dX0_towerTold_2 ⟨(Nat.le_of_ble_eq_true rfl), (Nat.le_of_ble_eq_true rfl)⟩ (fun q9 u9 ee H locs hw_1 hP hD hS => ?_) (fun u_1 H locs hw_1 hP hD hS => ?_)
  · skip
    refine hthr _ _ _ _ _ _ _ q9 () ee ?_ hP hD hS (Nat.le_of_ble_eq_true rfl) (Nat.le_of_ble_eq_true rfl)
    obtain ⟨h8, h9⟩ := hw_1
    have e9 : eS (tB r t) (-1) (eS (inR w 0 2) (-2) 0) = ee.2.1 := by rw [eS_f h8]; exact h9.symm
    exact ⟨e9.symm, by rw [e9, h9]; decide⟩
  · skip
    refine W.widen (k := 1) (n := 7) (Nat.le_of_ble_eq_true rfl) (Nat.le_of_ble_eq_true rfl) ?_
    obtain ⟨hj_t, et_t⟩ := tB_ix hN hw_1
    rw [et_t] at hl
    refine lv_iload_n hx hb dX0_towerTold_5 rfl (lv_at hl 2 rfl) ?_
    refine lv_i2l (v := w.toInt64) hx hb dX0_towerTold_6 rfl ?_
    refine lv_lconst (v := 0) hx hb dX0_towerTold_7 (by decide) ?_
    refine lv_ldc2 (v := 2) hx hb hown (hts _ q790) dX0_towerTold_8 ?_
    refine x_Si (wN := fun _ => (wX G ad ho rn ln dr ro lt rf th sb ++ wR G (ad 1) kd r ++ wR G (ad 2) k1 r1 ++ wR G (ad 3) k2 r2 ++ wK (ad 4))) ⟨C0, hK, hP, hD, hS, hA⟩ ((m_in l G w.toInt64 0 2)) (va_cwS 3 hts (lw_S q706 q427 q86 q428) rfl rfl rfl (by decide +kernel) ⟨Nat.le_of_ble_eq_true rfl, Nat.le_of_ble_eq_true rfl⟩) [] [0, 2, 4, 6, 8, 10, 12, 14, 16, 18, 20, 22, 24, 26, 28, 30, 32, 34, 36, 38, 40, 42, 44, 46, 48, 50, 52, 54, 56, 58, 60] rfl (fun _ => rfl) rfl rfl hl.1 rfl (Nat.le_of_ble_eq_true rfl) dX0_towerTold_11 ⟨(Nat.le_of_ble_eq_true rfl), (Nat.le_of_ble_eq_true rfl)⟩ (fun r_2 u_2 H locs hw_2 hP hD hS => ?_)
    have hw_2 : r_2 = bI (inR w 0 2) := hw_2.trans (congrArg bI (inL_inR rfl rfl))
    have hw_2 : (bI (inR w 0 2) : Int32) = r_2 := hw_2.symm
    subst hw_2
    refine lv_bipush (v := (-2)) hx hb dX0_towerTold_14 (by decide) ?_
    refine y_Sv (wN := fun _ => (wX G ad ho rn ln dr ro lt rf th sb ++ wR G (ad 1) kd r ++ wR G (ad 2) k1 r1 ++ wR G (ad 3) k2 r2 ++ wK (ad 4))) (wNx := fun u9 => (wX G ad ho rn ln dr ro lt rf th sb ++ wR G (ad 1) kd r ++ wR G (ad 2) k1 r1 ++ wR G (ad 3) k2 r2 ++ wK (ad 4))) ⟨C0, hK, hP, hD, hS, hA⟩ hZ ((m_must l hl0 G (inR w 0 2) (-2))) (va_cwS 2 hts (lw_S q286 q287 q86 q288) rfl rfl rfl (by decide +kernel) ⟨Nat.le_of_ble_eq_true rfl, Nat.le_of_ble_eq_true rfl⟩) [] [0, 2, 4, 6, 8, 10, 12, 14, 16, 18, 20, 22, 24, 26, 28, 30, 32, 34, 36, 38, 40, 42, 44, 46, 48, 50, 52, 54, 56, 58, 60] [0, 2, 4, 6, 8, 10, 12, 14, 16, 18, 20, 22, 24, 26, 28, 30, 32, 34, 36, 38, 40, 42, 44, 46, 48, 50, 52, 54, 56, 58, 60, 1] rfl (fun _ => rfl) (fun _ _ _ => rfl) rfl rfl rfl hl.1 rfl (Nat.le_of_ble_eq_true rfl) dX0_towerTold_16 ⟨(Nat.le_of_ble_eq_true rfl), (Nat.le_of_ble_eq_true rfl)⟩ (fun q9 u9 ee H locs hw_3 hP hD hS => ?_) (fun u_3 H locs hw_3 hP hD hS => ?_)
    · skip
      refine hthr _ _ _ _ _ _ _ q9 () ee ?_ hP hD hS (Nat.le_of_ble_eq_true rfl) (Nat.le_of_ble_eq_true rfl)
      obtain ⟨h8, h9⟩ := hw_3
      have e9 : eS (tB r t) (-1) (eS (inR w 0 2) (-2) 0) = ee.2.1 := by rw [eS_t hw_1, eS_f h8]; exact h9.symm
      exact ⟨e9.symm, by rw [e9, h9]; decide⟩
    · skip
      refine W.widen (k := 2) (n := 14) (Nat.le_of_ble_eq_true rfl) (Nat.le_of_ble_eq_true rfl) ?_
      refine lv_iload_n hx hb dX0_towerTold_19 rfl (lv_at hl 2 rfl) ?_
      refine lv_if_ne (tgt := 34) hx hb dX0_towerTold_20 (by decide) (fun c_4 => ?_) (fun c_4 => ?_)
      · skip
        refine lv_iload_n hx hb dX0_towerTold_34 rfl (lv_at hl 2 rfl) ?_
        refine lv_iconst (v := 1) hx hb dX0_towerTold_35 (by decide) ?_
        refine lv_icmp_ne (tgt := 50) hx hb dX0_towerTold_36 (by decide) (fun c_5 => ?_) (fun c_5 => ?_)
        · skip
          refine lv_aload_n hx hb dX0_towerTold_50 rfl (lv_at hl 0 rfl) ?_
          refine va_get (D := G.1) (ci := 0) (v := .ref ((ad 1) 0)) (C := RX0) (T := TX0) (N := 13) hx hb hts in_X0 hown hK.1 hP 0 rfl rfl 1 (by decide) (hts _ q222) (fun _ h9 => h9) rfl dX0_towerTold_51 ?_
          refine lv_iload_n hx hb dX0_towerTold_54 rfl (lv_at hl 1 rfl) ?_
          refine x_Vi (wN := fun _ => (wX G ad ho rn ln dr ro lt rf th sb ++ wR G (ad 1) kd r ++ wR G (ad 2) k1 r1 ++ wR G (ad 3) k2 r2 ++ wK (ad 4))) ⟨C0, hK, hP, hD, hS, hA⟩ 7 rfl (ci := 7) rfl rfl ((m_bottom l G (ad 1) (ad 4) kd r hr hk (ix t) (by omega))) (cwV 1 hts (lw_V q833 q834 q835 q94 q836) rfl rfl rfl (by decide +kernel) ⟨Nat.le_of_ble_eq_true rfl, Nat.le_of_ble_eq_true rfl⟩) [7, 8, 9, 10, 11, 12, 25, 26, 27, 28, 29, 30] [0, 2, 4, 6, 8, 10, 12, 1, 3, 5, 7, 9, 11, 26, 28, 30, 32, 34, 36, 38, 40, 42, 44, 46, 48, 13, 15, 17, 19, 21, 23] rfl (fun _ => rfl) rfl rfl hl.1 rfl (Nat.le_of_ble_eq_true rfl) dX0_towerTold_55 ⟨(Nat.le_of_ble_eq_true rfl), (Nat.le_of_ble_eq_true rfl)⟩ (fun r_6 u_6 H locs hw_6 hP hD hS => ?_)
          have hw_6 : (nI (pBot r 11 (ix t)) : Int32) = r_6 := hw_6.symm
          subst hw_6
          refine hret _ _ _ _ _ _ (nI (pBot r 11 (ix t))) () dX0_towerTold_58 ?_ hP hD hS (Nat.le_of_ble_eq_true rfl) (Nat.le_of_ble_eq_true rfl)
          refine ⟨by rw [eS_t hw_1, eS_t hw_3], ?_⟩
          unfold pTow
          rw [if_neg c_4]
          exact (if_neg c_5).symm
        · skip
          refine lv_aload_n hx hb dX0_towerTold_39 rfl (lv_at hl 0 rfl) ?_
          refine va_get (D := G.1) (ci := 0) (v := .ref ((ad 1) 0)) (C := RX0) (T := TX0) (N := 13) hx hb hts in_X0 hown hK.1 hP 0 rfl rfl 1 (by decide) (hts _ q222) (fun _ h9 => h9) rfl dX0_towerTold_40 ?_
          refine lv_iload_n hx hb dX0_towerTold_43 rfl (lv_at hl 1 rfl) ?_
          refine x_Vi (wN := fun _ => (wX G ad ho rn ln dr ro lt rf th sb ++ wR G (ad 1) kd r ++ wR G (ad 2) k1 r1 ++ wR G (ad 3) k2 r2 ++ wK (ad 4))) ⟨C0, hK, hP, hD, hS, hA⟩ 7 rfl (ci := 7) rfl rfl ((m_above l G (ad 1) (ad 4) kd r hr hk (ix t) (by omega))) (cwV 1 hts (lw_V q829 q830 q831 q94 q832) rfl rfl rfl (by decide +kernel) ⟨Nat.le_of_ble_eq_true rfl, Nat.le_of_ble_eq_true rfl⟩) [7, 8, 9, 10, 11, 12, 25, 26, 27, 28, 29, 30] [0, 2, 4, 6, 8, 10, 12, 1, 3, 5, 7, 9, 11, 26, 28, 30, 32, 34, 36, 38, 40, 42, 44, 46, 48, 13, 15, 17, 19, 21, 23] rfl (fun _ => rfl) rfl rfl hl.1 rfl (Nat.le_of_ble_eq_true rfl) dX0_towerTold_44 ⟨(Nat.le_of_ble_eq_true rfl), (Nat.le_of_ble_eq_true rfl)⟩ (fun r_7 u_7 H locs hw_7 hP hD hS => ?_)
          have hw_7 : (pAbv r (ix t) : Int32) = r_7 := hw_7.symm
          subst hw_7
          refine lv_goto (tgt := 58) hx hb dX0_towerTold_47 (by decide) ?_
          refine hret _ _ _ _ _ _ (pAbv r (ix t)) () dX0_towerTold_58 ?_ hP hD hS (Nat.le_of_ble_eq_true rfl) (Nat.le_of_ble_eq_true rfl)
          refine ⟨by rw [eS_t hw_1, eS_t hw_3], ?_⟩
          unfold pTow
          rw [if_neg c_4]
          exact (if_pos c_5).symm
      · skip
        refine lv_aload_n hx hb dX0_towerTold_23 rfl (lv_at hl 0 rfl) ?_
        refine va_get (D := G.1) (ci := 0) (v := .ref ((ad 1) 0)) (C := RX0) (T := TX0) (N := 13) hx hb hts in_X0 hown hK.1 hP 0 rfl rfl 1 (by decide) (hts _ q222) (fun _ h9 => h9) rfl dX0_towerTold_24 ?_
        refine lv_iload_n hx hb dX0_towerTold_27 rfl (lv_at hl 1 rfl) ?_
        refine x_Vi (wN := fun _ => (wX G ad ho rn ln dr ro lt rf th sb ++ wR G (ad 1) kd r ++ wR G (ad 2) k1 r1 ++ wR G (ad 3) k2 r2 ++ wK (ad 4))) ⟨C0, hK, hP, hD, hS, hA⟩ 7 rfl (ci := 7) rfl rfl ((m_height l G (ad 1) (ad 4) kd r hr hk (ix t) (by omega))) (cwV 1 hts (lw_V q825 q826 q827 q94 q828) rfl rfl rfl (by decide +kernel) ⟨Nat.le_of_ble_eq_true rfl, Nat.le_of_ble_eq_true rfl⟩) [7, 8, 9, 10, 11, 12, 25, 26, 27, 28, 29, 30] [0, 2, 4, 6, 8, 10, 12, 1, 3, 5, 7, 9, 11, 26, 28, 30, 32, 34, 36, 38, 40, 42, 44, 46, 48, 13, 15, 17, 19, 21, 23] rfl (fun _ => rfl) rfl rfl hl.1 rfl (Nat.le_of_ble_eq_true rfl) dX0_towerTold_28 ⟨(Nat.le_of_ble_eq_true rfl), (Nat.le_of_ble_eq_true rfl)⟩ (fun r_8 u_8 H locs hw_8 hP hD hS => ?_)
        have hw_8 : (nI (pHt r (ix t)) : Int32) = r_8 := hw_8.symm
        subst hw_8
        refine lv_goto (tgt := 58) hx hb dX0_towerTold_31 (by decide) ?_
        refine hret _ _ _ _ _ _ (nI (pHt r (ix t))) () dX0_towerTold_58 ?_ hP hD hS (Nat.le_of_ble_eq_true rfl) (Nat.le_of_ble_eq_true rfl)
        refine ⟨by rw [eS_t hw_1, eS_t hw_3], ?_⟩
        unfold pTow
        exact (if_pos c_4).symm
set_option maxHeartbeats 4000000 in
set_option maxRecDepth 100000 in
theorem m_behindTold (l : Launch) (hl0 : l.stackTraces = false) (G : xG) (ad : Nat → Nat → Nat) (kd k1 k2 : Nat → Option Nat) (r r1 r2 : Rw) (ho rn ln dr : Int32) (ro lt rf th sb : Nat → Int32) (hr : Ok r) (hp : r 5 3 = 0) (hk : kOk (ad 4) kd r) (t mi w : Int32) : yCi l G yX0_behindTold cX0_behindTold 5 (some .int) ({ frames := 10, cells := 4, slots := 28, locals := 174 } : Room) [.ref (ad 0 0), .int t, .int mi, .int w] (wX G ad ho rn ln dr ro lt rf th sb ++ wR G (ad 1) kd r ++ wR G (ad 2) k1 r1 ++ wR G (ad 3) k2 r2 ++ wK (ad 4)) (S := ((Nat → Option Nat) × Rw)) (SX := Unit) (fun v _ => eS (tB r t) (-1) (eW (wBy mi.toInt 0 99) (eS (inR w 0 2) (-2) 0)) = 0 ∧ v = pBeh r (ix t) (ix mi) w) (fun u => (wX G ad ho rn ln dr ro lt rf th sb ++ wR G (ad 1) kd r ++ wR G (ad 2) u.1 u.2 ++ wR G (ad 3) k2 r2 ++ wK (ad 4))) (fun n _ => n = eS (tB r t) (-1) (eW (wBy mi.toInt 0 99) (eS (inR w 0 2) (-2) 0)) ∧ eS (tB r t) (-1) (eW (wBy mi.toInt 0 99) (eS (inR w 0 2) (-2) 0)) ≠ 0) (fun _ => (wX G ad ho rn ln dr ro lt rf th sb ++ wR G (ad 1) kd r ++ wR G (ad 2) k1 r1 ++ wR G (ad 3) k2 r2 ++ wK (ad 4))) := by
  refine y_openi (by decide) (Nat.le_of_ble_eq_true rfl) (fun _ _ _ => rfl) ?_
  intro p e s m args below meth c A Q ls C0 hK hZ hP hD hA hl hret hthr
  obtain ⟨hx, hb, hml, hown, hts⟩ := id C0
  have hS : va_S A s.heap s.heap [] := va_S.rf
  have hP : va_P G.1 vwCl (wX G ad ho rn ln dr ro lt rf th sb ++ wR G (ad 1) kd r ++ wR G (ad 2) k1 r1 ++ wR G (ad 3) k2 r2 ++ wK (ad 4)) s.heap := hP
  have hD : va_D A (wX G ad ho rn ln dr ro lt rf th sb ++ wR G (ad 1) kd r ++ wR G (ad 2) k1 r1 ++ wR G (ad 3) k2 r2 ++ wK (ad 4)) := hD
  have hl : lv_has ls 5 [(0, .ref (ad 0 0)), (1, .int t), (2, .int mi), (3, .int w)] := hl
  have hr0 := hr.n
  have hN := hr.le
  refine lv_aload_n hx hb dX0_behindTold_0 rfl (lv_at hl 0 rfl) ?_
  refine lv_iload_n hx hb dX0_behindTold_1 rfl (lv_at hl 1 rfl) ?_
  refine y_Vv (wN := fun _ => (wX G ad ho rn ln dr ro lt rf th sb ++ wR G (ad 1) kd r ++ wR G (ad 2) k1 r1 ++ wR G (ad 3) k2 r2 ++ wK (ad 4))) (wNx := fun u9 => (wX G ad ho rn ln dr ro lt rf th sb ++ wR G (ad 1) kd r ++ wR G (ad 2) k1 r1 ++ wR G (ad 3) k2 r2 ++ wK (ad 4))) ⟨C0, hK, hP, hD, hS, hA⟩ hZ 0 rfl (ci := 0) rfl rfl ((m_mustBeThing l hl0 G ad kd k1 k2 r r1 r2 ho rn ln dr ro lt rf th sb hr hp hk t)) (cwV 1 hts (lw_V q699 q701 qs14 q86 q702) rfl rfl rfl (by decide +kernel) ⟨Nat.le_of_ble_eq_true rfl, Nat.le_of_ble_eq_true rfl⟩) [0, 1, 2, 3, 4, 5, 6, 7, 8, 9, 10, 11, 12, 13, 14, 15, 16, 17, 18, 19, 20, 21, 22, 23, 24, 25, 26, 27, 28, 29, 30] [1, 3, 5, 7, 9, 11, 13, 15, 17, 19, 21, 23, 25, 27, 29, 31, 33, 35, 37, 39, 41, 43, 45, 47, 49, 51, 53, 55, 57, 59, 61] [1, 3, 5, 7, 9, 11, 13, 15, 17, 19, 21, 23, 25, 27, 29, 31, 33, 35, 37, 39, 41, 43, 45, 47, 49, 51, 53, 55, 57, 59, 61, 63] rfl (fun _ => rfl) (fun _ _ _ => rfl) rfl rfl rfl hl.1 rfl (Nat.le_of_ble_eq_true rfl) dX0_behindTold_2 ⟨(Nat.le_of_ble_eq_true rfl), (Nat.le_of_ble_eq_true rfl)⟩ (fun q9 u9 ee H locs hw_1 hP hD hS => ?_) (fun u_1 H locs hw_1 hP hD hS => ?_)
  · skip
    refine hthr _ _ _ _ _ _ _ q9 () ee ?_ hP hD hS (Nat.le_of_ble_eq_true rfl) (Nat.le_of_ble_eq_true rfl)
    obtain ⟨h8, h9⟩ := hw_1
    have e9 : eS (tB r t) (-1) (eW (wBy mi.toInt 0 99) (eS (inR w 0 2) (-2) 0)) = ee.2.1 := by rw [eS_f h8]; exact h9.symm
    exact ⟨e9.symm, by rw [e9, h9]; decide⟩
  · skip
    refine W.widen (k := 1) (n := 7) (Nat.le_of_ble_eq_true rfl) (Nat.le_of_ble_eq_true rfl) ?_
    obtain ⟨hj_t, et_t⟩ := tB_ix hN hw_1
    rw [et_t] at hl
    refine lv_iload_n hx hb dX0_behindTold_5 rfl (lv_at hl 2 rfl) ?_
    refine y_Sv (wN := fun _ => (wX G ad ho rn ln dr ro lt rf th sb ++ wR G (ad 1) kd r ++ wR G (ad 2) k1 r1 ++ wR G (ad 3) k2 r2 ++ wK (ad 4))) (wNx := fun u9 => (wX G ad ho rn ln dr ro lt rf th sb ++ wR G (ad 1) kd r ++ wR G (ad 2) k1 r1 ++ wR G (ad 3) k2 r2 ++ wK (ad 4))) ⟨C0, hK, hP, hD, hS, hA⟩ hZ ((m_mustBeMinutes l hl0 G mi)) (va_cwS 1 hts (lw_S q786 q787 q86 q788) rfl rfl rfl (by decide +kernel) ⟨Nat.le_of_ble_eq_true rfl, Nat.le_of_ble_eq_true rfl⟩) [] [0, 2, 4, 6, 8, 10, 12, 14, 16, 18, 20, 22, 24, 26, 28, 30, 32, 34, 36, 38, 40, 42, 44, 46, 48, 50, 52, 54, 56, 58, 60] [0, 2, 4, 6, 8, 10, 12, 14, 16, 18, 20, 22, 24, 26, 28, 30, 32, 34, 36, 38, 40, 42, 44, 46, 48, 50, 52, 54, 56, 58, 60, 1] rfl (fun _ => rfl) (fun _ _ _ => rfl) rfl rfl rfl hl.1 rfl (Nat.le_of_ble_eq_true rfl) dX0_behindTold_6 ⟨(Nat.le_of_ble_eq_true rfl), (Nat.le_of_ble_eq_true rfl)⟩ (fun q9 u9 ee H locs hw_2 hP hD hS => ?_) (fun u_2 H locs hw_2 hP hD hS => ?_)
    · skip
      refine hthr _ _ _ _ _ _ _ q9 () ee ?_ hP hD hS (Nat.le_of_ble_eq_true rfl) (Nat.le_of_ble_eq_true rfl)
      obtain ⟨h8, h9⟩ := hw_2
      have e9 : eS (tB r t) (-1) (eW (wBy mi.toInt 0 99) (eS (inR w 0 2) (-2) 0)) = ee.2.1 := by rw [eS_t hw_1, eW_n h9]; exact h8.symm
      exact ⟨e9.symm, by rw [e9, h8]; exact h9⟩
    · skip
      refine W.widen (k := 3) (n := 21) (Nat.le_of_ble_eq_true rfl) (Nat.le_of_ble_eq_true rfl) ?_
      obtain ⟨hj_mi, et_mi⟩ := wB_ix (n := 99) (by omega) hw_2
      rw [et_mi] at hl
      refine lv_iload_n hx hb dX0_behindTold_9 rfl (lv_at hl 3 rfl) ?_
      refine lv_i2l (v := w.toInt64) hx hb dX0_behindTold_10 rfl ?_
      refine lv_lconst (v := 0) hx hb dX0_behindTold_11 (by decide) ?_
      refine lv_ldc2 (v := 2) hx hb hown (hts _ q790) dX0_behindTold_12 ?_
      refine x_Si (wN := fun _ => (wX G ad ho rn ln dr ro lt rf th sb ++ wR G (ad 1) kd r ++ wR G (ad 2) k1 r1 ++ wR G (ad 3) k2 r2 ++ wK (ad 4))) ⟨C0, hK, hP, hD, hS, hA⟩ ((m_in l G w.toInt64 0 2)) (va_cwS 3 hts (lw_S q706 q427 q86 q428) rfl rfl rfl (by decide +kernel) ⟨Nat.le_of_ble_eq_true rfl, Nat.le_of_ble_eq_true rfl⟩) [] [0, 2, 4, 6, 8, 10, 12, 14, 16, 18, 20, 22, 24, 26, 28, 30, 32, 34, 36, 38, 40, 42, 44, 46, 48, 50, 52, 54, 56, 58, 60] rfl (fun _ => rfl) rfl rfl hl.1 rfl (Nat.le_of_ble_eq_true rfl) dX0_behindTold_15 ⟨(Nat.le_of_ble_eq_true rfl), (Nat.le_of_ble_eq_true rfl)⟩ (fun r_3 u_3 H locs hw_3 hP hD hS => ?_)
      have hw_3 : r_3 = bI (inR w 0 2) := hw_3.trans (congrArg bI (inL_inR rfl rfl))
      have hw_3 : (bI (inR w 0 2) : Int32) = r_3 := hw_3.symm
      subst hw_3
      refine lv_bipush (v := (-2)) hx hb dX0_behindTold_18 (by decide) ?_
      refine y_Sv (wN := fun _ => (wX G ad ho rn ln dr ro lt rf th sb ++ wR G (ad 1) kd r ++ wR G (ad 2) k1 r1 ++ wR G (ad 3) k2 r2 ++ wK (ad 4))) (wNx := fun u9 => (wX G ad ho rn ln dr ro lt rf th sb ++ wR G (ad 1) kd r ++ wR G (ad 2) k1 r1 ++ wR G (ad 3) k2 r2 ++ wK (ad 4))) ⟨C0, hK, hP, hD, hS, hA⟩ hZ ((m_must l hl0 G (inR w 0 2) (-2))) (va_cwS 2 hts (lw_S q286 q287 q86 q288) rfl rfl rfl (by decide +kernel) ⟨Nat.le_of_ble_eq_true rfl, Nat.le_of_ble_eq_true rfl⟩) [] [0, 2, 4, 6, 8, 10, 12, 14, 16, 18, 20, 22, 24, 26, 28, 30, 32, 34, 36, 38, 40, 42, 44, 46, 48, 50, 52, 54, 56, 58, 60] [0, 2, 4, 6, 8, 10, 12, 14, 16, 18, 20, 22, 24, 26, 28, 30, 32, 34, 36, 38, 40, 42, 44, 46, 48, 50, 52, 54, 56, 58, 60, 1] rfl (fun _ => rfl) (fun _ _ _ => rfl) rfl rfl rfl hl.1 rfl (Nat.le_of_ble_eq_true rfl) dX0_behindTold_20 ⟨(Nat.le_of_ble_eq_true rfl), (Nat.le_of_ble_eq_true rfl)⟩ (fun q9 u9 ee H locs hw_4 hP hD hS => ?_) (fun u_4 H locs hw_4 hP hD hS => ?_)
      · skip
        refine hthr _ _ _ _ _ _ _ q9 () ee ?_ hP hD hS (Nat.le_of_ble_eq_true rfl) (Nat.le_of_ble_eq_true rfl)
        obtain ⟨h8, h9⟩ := hw_4
        have e9 : eS (tB r t) (-1) (eW (wBy mi.toInt 0 99) (eS (inR w 0 2) (-2) 0)) = ee.2.1 := by rw [eS_t hw_1, eW_0 hw_2, eS_f h8]; exact h9.symm
        exact ⟨e9.symm, by rw [e9, h9]; decide⟩
      · skip
        refine W.widen (k := 4) (n := 28) (Nat.le_of_ble_eq_true rfl) (Nat.le_of_ble_eq_true rfl) ?_
        refine lv_aload_n hx hb dX0_behindTold_23 rfl (lv_at hl 0 rfl) ?_
        refine lv_iload_n hx hb dX0_behindTold_24 rfl (lv_at hl 2 rfl) ?_
        refine x_Vr (wN := fun _ => (wX G ad ho rn ln dr ro lt rf th sb ++ wR G (ad 1) kd r ++ wR G (ad 2) kd (pMins r (ix mi)) ++ wR G (ad 3) k2 r2 ++ wK (ad 4))) ⟨C0, hK, hP, hD, hS, hA⟩ 0 rfl (ci := 0) rfl rfl ((m_ahead l G ad kd k1 k2 r r1 r2 ho rn ln dr ro lt rf th sb hr hp hk (ix mi) (by omega))) (cwV 1 hts (lw_V q791 q793 qs24 q86 q794) rfl rfl rfl (by decide +kernel) ⟨Nat.le_of_ble_eq_true rfl, Nat.le_of_ble_eq_true rfl⟩) [0, 1, 2, 3, 4, 5, 6, 7, 8, 9, 10, 11, 12, 13, 14, 15, 16, 17, 18, 19, 20, 21, 22, 23, 24, 25, 26, 27, 28, 29, 30] [1, 3, 5, 7, 9, 11, 13, 15, 17, 19, 21, 23, 25, 27, 29, 31, 33, 35, 37, 39, 41, 43, 45, 47, 49, 51, 53, 55, 57, 59, 61] rfl (fun _ => rfl) rfl rfl hl.1 rfl (Nat.le_of_ble_eq_true rfl) dX0_behindTold_25 ⟨(Nat.le_of_ble_eq_true rfl), (Nat.le_of_ble_eq_true rfl)⟩ (fun u_5 H locs hw_5 hP hD hS => ?_)
        have hP : va_P G.1 vwCl (wX G ad ho rn ln dr ro lt rf th sb ++ wR G (ad 1) kd r ++ wR G (ad 2) kd (pMins r (ix mi)) ++ wR G (ad 3) k2 r2 ++ wK (ad 4)) H := hP
        have hD : va_D A (wX G ad ho rn ln dr ro lt rf th sb ++ wR G (ad 1) kd r ++ wR G (ad 2) kd (pMins r (ix mi)) ++ wR G (ad 3) k2 r2 ++ wK (ad 4)) := hD
        refine lv_astore (lv' := [(4, .ref ((ad 2) 0)), (0, .ref (ad 0 0)), (1, .int (nI (ix t))), (2, .int (nI (ix mi))), (3, .int w)]) hx hb dX0_behindTold_28 hl (by decide) rfl (fun ls hl => ?_)
        refine lv_iload_n hx hb dX0_behindTold_30 rfl (lv_at hl 4 rfl) ?_
        refine lv_if_ne (tgt := 44) hx hb dX0_behindTold_31 (by decide) (fun c_6 => ?_) (fun c_6 => ?_)
        · skip
          refine lv_iload_n hx hb dX0_behindTold_44 rfl (lv_at hl 4 rfl) ?_
          refine lv_iconst (v := 1) hx hb dX0_behindTold_45 (by decide) ?_
          refine lv_icmp_ne (tgt := 59) hx hb dX0_behindTold_46 (by decide) (fun c_7 => ?_) (fun c_7 => ?_)
          · skip
            refine lv_aload hx hb dX0_behindTold_59 (lv_at hl 0 rfl) ?_
            refine x_Vi (wN := fun _ => (wX G ad ho rn ln dr ro lt rf th sb ++ wR G (ad 1) kd r ++ wR G (ad 2) kd (pMins r (ix mi)) ++ wR G (ad 3) k2 r2 ++ wK (ad 4))) ⟨C0, hK, hP, hD, hS, hA⟩ 13 rfl (ci := 7) rfl rfl ((m_standing l G (ad 2) (ad 4) kd (pMins r (ix mi)) (Ok.mins hr) (kOk.mins hk))) (cwV 0 hts (lw_V q771 q772 q773 q94 q774) rfl rfl rfl (by decide +kernel) ⟨Nat.le_of_ble_eq_true rfl, Nat.le_of_ble_eq_true rfl⟩) [13, 14, 15, 16, 17, 18, 25, 26, 27, 28, 29, 30] [0, 2, 4, 6, 8, 10, 12, 14, 16, 18, 20, 22, 24, 1, 3, 5, 7, 9, 11, 38, 40, 42, 44, 46, 48, 13, 15, 17, 19, 21, 23] rfl (fun _ => rfl) rfl rfl hl.1 rfl (Nat.le_of_ble_eq_true rfl) dX0_behindTold_61 ⟨(Nat.le_of_ble_eq_true rfl), (Nat.le_of_ble_eq_true rfl)⟩ (fun r_8 u_8 H locs hw_8 hP hD hS => ?_)
            have hw_8 : (pStN (pMins r (ix mi)) : Int32) = r_8 := hw_8.symm
            subst hw_8
            refine hret _ _ _ _ _ _ (pStN (pMins r (ix mi))) (kd, (pMins r (ix mi))) dX0_behindTold_64 ?_ hP hD hS (Nat.le_of_ble_eq_true rfl) (Nat.le_of_ble_eq_true rfl)
            refine ⟨by rw [eS_t hw_1, eW_0 hw_2, eS_t hw_4], ?_⟩
            unfold pBeh
            rw [if_neg c_6]
            exact (if_neg c_7).symm
          · skip
            refine lv_aload hx hb dX0_behindTold_49 (lv_at hl 0 rfl) ?_
            refine va_getN (D := G.1) (ci := 7) (v := .ref ((ad 2) 5)) (C := RX8) (T := TX8) (N := 9) hx hb hts in_X8 hown hK.1 hP 13 rfl rfl 5 (by decide) (va_Nw.use rfl (hK.2.F 10 rfl)) (fun _ h9 => h9) rfl dX0_behindTold_51 ?_
            refine lv_iload_n hx hb dX0_behindTold_54 rfl (lv_at hl 2 rfl) ?_
            refine x_ialdn (k := (ix t)) hx hb hK.1 hP 18 0 rfl rfl (by omega) (by decide) (v := ((pMins r (ix mi)) 4) (ix t)) rfl dX0_behindTold_55 ?_
            refine lv_goto (tgt := 64) hx hb dX0_behindTold_56 (by decide) ?_
            refine hret _ _ _ _ _ _ (((pMins r (ix mi)) 4) (ix t)) (kd, (pMins r (ix mi))) dX0_behindTold_64 ?_ hP hD hS (Nat.le_of_ble_eq_true rfl) (Nat.le_of_ble_eq_true rfl)
            refine ⟨by rw [eS_t hw_1, eW_0 hw_2, eS_t hw_4], ?_⟩
            unfold pBeh
            rw [if_neg c_6]
            exact (if_pos c_7).symm
        · skip
          refine lv_aload hx hb dX0_behindTold_34 (lv_at hl 0 rfl) ?_
          refine va_getN (D := G.1) (ci := 7) (v := .ref ((ad 2) 4)) (C := RX8) (T := TX8) (N := 9) hx hb hts in_X8 hown hK.1 hP 13 rfl rfl 4 (by decide) (va_Nw.use rfl (hK.2.F 9 rfl)) (fun _ h9 => h9) rfl dX0_behindTold_36 ?_
          refine lv_iload_n hx hb dX0_behindTold_39 rfl (lv_at hl 2 rfl) ?_
          refine x_ialdn (k := (ix t)) hx hb hK.1 hP 17 0 rfl rfl (by omega) (by decide) (v := ((pMins r (ix mi)) 3) (ix t)) rfl dX0_behindTold_40 ?_
          refine lv_goto (tgt := 64) hx hb dX0_behindTold_41 (by decide) ?_
          refine hret _ _ _ _ _ _ (((pMins r (ix mi)) 3) (ix t)) (kd, (pMins r (ix mi))) dX0_behindTold_64 ?_ hP hD hS (Nat.le_of_ble_eq_true rfl) (Nat.le_of_ble_eq_true rfl)
          refine ⟨by rw [eS_t hw_1, eW_0 hw_2, eS_t hw_4], ?_⟩
          unfold pBeh
          exact (if_pos c_6).symm
set_option maxHeartbeats 4000000 in
set_option maxRecDepth 100000 in
theorem m_mostTold (l : Launch) (hl0 : l.stackTraces = false) (G : xG) (ad : Nat → Nat → Nat) (kd k1 k2 : Nat → Option Nat) (r r1 r2 : Rw) (ho rn ln dr : Int32) (ro lt rf th sb : Nat → Int32) (hr : Ok r) (hp : r 5 3 = 0) (hk : kOk (ad 4) kd r) (t mi w : Int32) : yCi l G yX0_mostTold cX0_mostTold 4 (some .int) ({ frames := 10, cells := 4, slots := 28, locals := 185 } : Room) [.ref (ad 0 0), .int t, .int mi, .int w] (wX G ad ho rn ln dr ro lt rf th sb ++ wR G (ad 1) kd r ++ wR G (ad 2) k1 r1 ++ wR G (ad 3) k2 r2 ++ wK (ad 4)) (S := ((Nat → Option Nat) × Rw)) (SX := Unit) (fun v _ => eS (tB r t) (-1) (eW (wBy mi.toInt 0 30) (eS (inR w 0 1) (-2) 0)) = 0 ∧ v = pMost r (ix t) (ix mi) w) (fun u => (wX G ad ho rn ln dr ro lt rf th sb ++ wR G (ad 1) kd r ++ wR G (ad 2) u.1 u.2 ++ wR G (ad 3) k2 r2 ++ wK (ad 4))) (fun n _ => n = eS (tB r t) (-1) (eW (wBy mi.toInt 0 30) (eS (inR w 0 1) (-2) 0)) ∧ eS (tB r t) (-1) (eW (wBy mi.toInt 0 30) (eS (inR w 0 1) (-2) 0)) ≠ 0) (fun _ => (wX G ad ho rn ln dr ro lt rf th sb ++ wR G (ad 1) kd r ++ wR G (ad 2) k1 r1 ++ wR G (ad 3) k2 r2 ++ wK (ad 4))) := by
  refine y_openi (by decide) (Nat.le_of_ble_eq_true rfl) (fun _ _ _ => rfl) ?_
  intro p e s m args below meth c A Q ls C0 hK hZ hP hD hA hl hret hthr
  obtain ⟨hx, hb, hml, hown, hts⟩ := id C0
  have hS : va_S A s.heap s.heap [] := va_S.rf
  have hP : va_P G.1 vwCl (wX G ad ho rn ln dr ro lt rf th sb ++ wR G (ad 1) kd r ++ wR G (ad 2) k1 r1 ++ wR G (ad 3) k2 r2 ++ wK (ad 4)) s.heap := hP
  have hD : va_D A (wX G ad ho rn ln dr ro lt rf th sb ++ wR G (ad 1) kd r ++ wR G (ad 2) k1 r1 ++ wR G (ad 3) k2 r2 ++ wK (ad 4)) := hD
  have hl : lv_has ls 4 [(0, .ref (ad 0 0)), (1, .int t), (2, .int mi), (3, .int w)] := hl
  have hr0 := hr.n
  have hN := hr.le
  refine lv_aload_n hx hb dX0_mostTold_0 rfl (lv_at hl 0 rfl) ?_
  refine lv_iload_n hx hb dX0_mostTold_1 rfl (lv_at hl 1 rfl) ?_
  refine y_Vv (wN := fun _ => (wX G ad ho rn ln dr ro lt rf th sb ++ wR G (ad 1) kd r ++ wR G (ad 2) k1 r1 ++ wR G (ad 3) k2 r2 ++ wK (ad 4))) (wNx := fun u9 => (wX G ad ho rn ln dr ro lt rf th sb ++ wR G (ad 1) kd r ++ wR G (ad 2) k1 r1 ++ wR G (ad 3) k2 r2 ++ wK (ad 4))) ⟨C0, hK, hP, hD, hS, hA⟩ hZ 0 rfl (ci := 0) rfl rfl ((m_mustBeThing l hl0 G ad kd k1 k2 r r1 r2 ho rn ln dr ro lt rf th sb hr hp hk t)) (cwV 1 hts (lw_V q699 q701 qs14 q86 q702) rfl rfl rfl (by decide +kernel) ⟨Nat.le_of_ble_eq_true rfl, Nat.le_of_ble_eq_true rfl⟩) [0, 1, 2, 3, 4, 5, 6, 7, 8, 9, 10, 11, 12, 13, 14, 15, 16, 17, 18, 19, 20, 21, 22, 23, 24, 25, 26, 27, 28, 29, 30] [1, 3, 5, 7, 9, 11, 13, 15, 17, 19, 21, 23, 25, 27, 29, 31, 33, 35, 37, 39, 41, 43, 45, 47, 49, 51, 53, 55, 57, 59, 61] [1, 3, 5, 7, 9, 11, 13, 15, 17, 19, 21, 23, 25, 27, 29, 31, 33, 35, 37, 39, 41, 43, 45, 47, 49, 51, 53, 55, 57, 59, 61, 63] rfl (fun _ => rfl) (fun _ _ _ => rfl) rfl rfl rfl hl.1 rfl (Nat.le_of_ble_eq_true rfl) dX0_mostTold_2 ⟨(Nat.le_of_ble_eq_true rfl), (Nat.le_of_ble_eq_true rfl)⟩ (fun q9 u9 ee H locs hw_1 hP hD hS => ?_) (fun u_1 H locs hw_1 hP hD hS => ?_)
  · skip
    refine hthr _ _ _ _ _ _ _ q9 () ee ?_ hP hD hS (Nat.le_of_ble_eq_true rfl) (Nat.le_of_ble_eq_true rfl)
    obtain ⟨h8, h9⟩ := hw_1
    have e9 : eS (tB r t) (-1) (eW (wBy mi.toInt 0 30) (eS (inR w 0 1) (-2) 0)) = ee.2.1 := by rw [eS_f h8]; exact h9.symm
    exact ⟨e9.symm, by rw [e9, h9]; decide⟩
  · skip
    refine W.widen (k := 1) (n := 7) (Nat.le_of_ble_eq_true rfl) (Nat.le_of_ble_eq_true rfl) ?_
    obtain ⟨hj_t, et_t⟩ := tB_ix hN hw_1
    rw [et_t] at hl
    refine lv_iload_n hx hb dX0_mostTold_5 rfl (lv_at hl 2 rfl) ?_
    refine lv_i2l (v := mi.toInt64) hx hb dX0_mostTold_6 rfl ?_
    refine lv_lconst (v := 0) hx hb dX0_mostTold_7 (by decide) ?_
    refine lv_ldc2 (v := 30) hx hb hown (hts _ q865) dX0_mostTold_8 ?_
    refine y_Sv (wN := fun _ => (wX G ad ho rn ln dr ro lt rf th sb ++ wR G (ad 1) kd r ++ wR G (ad 2) k1 r1 ++ wR G (ad 3) k2 r2 ++ wK (ad 4))) (wNx := fun u9 => (wX G ad ho rn ln dr ro lt rf th sb ++ wR G (ad 1) kd r ++ wR G (ad 2) k1 r1 ++ wR G (ad 3) k2 r2 ++ wK (ad 4))) ⟨C0, hK, hP, hD, hS, hA⟩ hZ ((m_within l hl0 G mi.toInt64 0 30)) (va_cwS 3 hts (lw_S q283 q284 q86 q285) rfl rfl rfl (by decide +kernel) ⟨Nat.le_of_ble_eq_true rfl, Nat.le_of_ble_eq_true rfl⟩) [] [0, 2, 4, 6, 8, 10, 12, 14, 16, 18, 20, 22, 24, 26, 28, 30, 32, 34, 36, 38, 40, 42, 44, 46, 48, 50, 52, 54, 56, 58, 60] [0, 2, 4, 6, 8, 10, 12, 14, 16, 18, 20, 22, 24, 26, 28, 30, 32, 34, 36, 38, 40, 42, 44, 46, 48, 50, 52, 54, 56, 58, 60, 1] rfl (fun _ => rfl) (fun _ _ _ => rfl) rfl rfl rfl hl.1 rfl (Nat.le_of_ble_eq_true rfl) dX0_mostTold_11 ⟨(Nat.le_of_ble_eq_true rfl), (Nat.le_of_ble_eq_true rfl)⟩ (fun q9 u9 ee H locs hw_2 hP hD hS => ?_) (fun u_2 H locs hw_2 hP hD hS => ?_)
    · skip
      refine hthr _ _ _ _ _ _ _ q9 () ee ?_ hP hD hS (Nat.le_of_ble_eq_true rfl) (Nat.le_of_ble_eq_true rfl)
      obtain ⟨h8, h9⟩ := hw_2
      rw [i2l_toInt] at h8 h9
      have h8 : ee.2.1 = wBy _ 0 30 := h8
      have h9 : wBy _ 0 30 ≠ 0 := h9
      have e9 : eS (tB r t) (-1) (eW (wBy mi.toInt 0 30) (eS (inR w 0 1) (-2) 0)) = ee.2.1 := by rw [eS_t hw_1, eW_n h9]; exact h8.symm
      exact ⟨e9.symm, by rw [e9, h8]; exact h9⟩
    · skip
      refine W.widen (k := 3) (n := 21) (Nat.le_of_ble_eq_true rfl) (Nat.le_of_ble_eq_true rfl) ?_
      rw [i2l_toInt] at hw_2
      have hw_2 : wBy _ 0 30 = 0 := hw_2
      obtain ⟨hj_mi, et_mi⟩ := wB_ix (n := 30) (by omega) hw_2
      rw [et_mi] at hl
      refine lv_iload_n hx hb dX0_mostTold_14 rfl (lv_at hl 3 rfl) ?_
      refine y_Sv (wN := fun _ => (wX G ad ho rn ln dr ro lt rf th sb ++ wR G (ad 1) kd r ++ wR G (ad 2) k1 r1 ++ wR G (ad 3) k2 r2 ++ wK (ad 4))) (wNx := fun u9 => (wX G ad ho rn ln dr ro lt rf th sb ++ wR G (ad 1) kd r ++ wR G (ad 2) k1 r1 ++ wR G (ad 3) k2 r2 ++ wK (ad 4))) ⟨C0, hK, hP, hD, hS, hA⟩ hZ ((m_mustBeBit l hl0 G w)) (va_cwS 1 hts (lw_S q808 q809 q86 q810) rfl rfl rfl (by decide +kernel) ⟨Nat.le_of_ble_eq_true rfl, Nat.le_of_ble_eq_true rfl⟩) [] [0, 2, 4, 6, 8, 10, 12, 14, 16, 18, 20, 22, 24, 26, 28, 30, 32, 34, 36, 38, 40, 42, 44, 46, 48, 50, 52, 54, 56, 58, 60] [0, 2, 4, 6, 8, 10, 12, 14, 16, 18, 20, 22, 24, 26, 28, 30, 32, 34, 36, 38, 40, 42, 44, 46, 48, 50, 52, 54, 56, 58, 60, 1] rfl (fun _ => rfl) (fun _ _ _ => rfl) rfl rfl rfl hl.1 rfl (Nat.le_of_ble_eq_true rfl) dX0_mostTold_15 ⟨(Nat.le_of_ble_eq_true rfl), (Nat.le_of_ble_eq_true rfl)⟩ (fun q9 u9 ee H locs hw_3 hP hD hS => ?_) (fun u_3 H locs hw_3 hP hD hS => ?_)
      · skip
        refine hthr _ _ _ _ _ _ _ q9 () ee ?_ hP hD hS (Nat.le_of_ble_eq_true rfl) (Nat.le_of_ble_eq_true rfl)
        obtain ⟨h8, h9⟩ := hw_3
        have e9 : eS (tB r t) (-1) (eW (wBy mi.toInt 0 30) (eS (inR w 0 1) (-2) 0)) = ee.2.1 := by rw [eS_t hw_1, eW_0 hw_2, eS_f h8]; exact h9.symm
        exact ⟨e9.symm, by rw [e9, h9]; decide⟩
      · skip
        refine W.widen (k := 4) (n := 28) (Nat.le_of_ble_eq_true rfl) (Nat.le_of_ble_eq_true rfl) ?_
        refine lv_aload_n hx hb dX0_mostTold_18 rfl (lv_at hl 0 rfl) ?_
        refine lv_iload_n hx hb dX0_mostTold_19 rfl (lv_at hl 1 rfl) ?_
        refine lv_iload_n hx hb dX0_mostTold_20 rfl (lv_at hl 2 rfl) ?_
        refine lv_iload_n hx hb dX0_mostTold_21 rfl (lv_at hl 3 rfl) ?_
        refine x_Vi (wN := fun u_4 => (wX G ad ho rn ln dr ro lt rf th sb ++ wR G (ad 1) kd r ++ wR G (ad 2) u_4.1 u_4.2 ++ wR G (ad 3) k2 r2 ++ wK (ad 4))) ⟨C0, hK, hP, hD, hS, hA⟩ 0 rfl (ci := 0) rfl rfl ((m_mostPulled l G ad kd k1 k2 r r1 r2 ho rn ln dr ro lt rf th sb hr hp hk (ix t) (ix mi) (by omega) (by omega) w)) (cwV 3 hts (lw_V q866 q868 qs38 q86 q869) rfl rfl rfl (by decide +kernel) ⟨Nat.le_of_ble_eq_true rfl, Nat.le_of_ble_eq_true rfl⟩) [0, 1, 2, 3, 4, 5, 6, 7, 8, 9, 10, 11, 12, 13, 14, 15, 16, 17, 18, 19, 20, 21, 22, 23, 24, 25, 26, 27, 28, 29, 30] [1, 3, 5, 7, 9, 11, 13, 15, 17, 19, 21, 23, 25, 27, 29, 31, 33, 35, 37, 39, 41, 43, 45, 47, 49, 51, 53, 55, 57, 59, 61] rfl (fun _ => rfl) rfl rfl hl.1 rfl (Nat.le_of_ble_eq_true rfl) dX0_mostTold_22 ⟨(Nat.le_of_ble_eq_true rfl), (Nat.le_of_ble_eq_true rfl)⟩ (fun r_4 u_4 H locs hw_4 hP hD hS => ?_)
        have hw_4 : (pMost r (ix t) (ix mi) w : Int32) = r_4 := hw_4.symm
        subst hw_4
        have hP : va_P G.1 vwCl (wX G ad ho rn ln dr ro lt rf th sb ++ wR G (ad 1) kd r ++ wR G (ad 2) u_4.1 u_4.2 ++ wR G (ad 3) k2 r2 ++ wK (ad 4)) H := hP
        have hD : va_D A (wX G ad ho rn ln dr ro lt rf th sb ++ wR G (ad 1) kd r ++ wR G (ad 2) u_4.1 u_4.2 ++ wR G (ad 3) k2 r2 ++ wK (ad 4)) := hD
        refine hret _ _ _ _ _ _ (pMost r (ix t) (ix mi) w) (u_4.1, u_4.2) dX0_mostTold_25 ?_ hP hD hS (Nat.le_of_ble_eq_true rfl) (Nat.le_of_ble_eq_true rfl)
        refine ⟨by rw [eS_t hw_1, eW_0 hw_2, eS_t hw_3], ?_⟩
        exact rfl

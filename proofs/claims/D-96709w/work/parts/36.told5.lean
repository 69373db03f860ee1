/-! what is told and done, by checks, 5 (printed by tools/told5.py) -/
set_option maxHeartbeats 4000000 in
set_option maxRecDepth 100000 in
theorem m_orderTold (l : Launch) (hl0 : l.stackTraces = false) (G : xG) (ad : Nat → Nat → Nat) (kd k1 k2 : Nat → Option Nat) (r r1 r2 : Rw) (ho rn ln dr : Int32) (ro lt rf th sb : Nat → Int32) (hr : Ok r) (hp : r 5 3 = 0) (hk : kOk (ad 4) kd r) (x1 x2 x3 sp w : Int32) : yCi l G yX0_orderTold cX0_orderTold 6 (some .int) ({ frames := 10, cells := 7, slots := 49, locals := 183 } : Room) [.ref (ad 0 0), .int x1, .int x2, .int x3, .int sp, .int w] (wX G ad ho rn ln dr ro lt rf th sb ++ wR G (ad 1) kd r ++ wR G (ad 2) k1 r1 ++ wR G (ad 3) k2 r2 ++ wK (ad 4)) (S := ((Nat → Option Nat) × Rw)) (SX := Unit) (fun v _ => eS (tB r x1) (-1) (eS (tB r x2) (-1) (eS (tB r x3) (-1) (eS (decide (x1 ≠ x2 ∧ x1 ≠ x3 ∧ x2 ≠ x3)) (-1) (eW (wBy sp.toInt 0 9) (eS (inR w 0 1) (-2) 0))))) = 0 ∧ v = pOrd r (x3f x1 x2 x3) sp w) (fun u => (wX G ad ho rn ln dr ro lt rf (upd (upd (upd th 0 x1) 1 x2) 2 x3) sb ++ wR G (ad 1) kd r ++ wR G (ad 2) u.1 u.2 ++ wR G (ad 3) k2 r2 ++ wK (ad 4))) (fun n _ => n = eS (tB r x1) (-1) (eS (tB r x2) (-1) (eS (tB r x3) (-1) (eS (decide (x1 ≠ x2 ∧ x1 ≠ x3 ∧ x2 ≠ x3)) (-1) (eW (wBy sp.toInt 0 9) (eS (inR w 0 1) (-2) 0))))) ∧ eS (tB r x1) (-1) (eS (tB r x2) (-1) (eS (tB r x3) (-1) (eS (decide (x1 ≠ x2 ∧ x1 ≠ x3 ∧ x2 ≠ x3)) (-1) (eW (wBy sp.toInt 0 9) (eS (inR w 0 1) (-2) 0))))) ≠ 0) (fun _ => (wX G ad ho rn ln dr ro lt rf th sb ++ wR G (ad 1) kd r ++ wR G (ad 2) k1 r1 ++ wR G (ad 3) k2 r2 ++ wK (ad 4))) := by
  refine y_openi (by decide) (Nat.le_of_ble_eq_true rfl) (fun _ _ _ => rfl) ?_
  intro p e s m args below meth c A Q ls C0 hK hZ hP hD hA hl hret hthr
  obtain ⟨hx, hb, hml, hown, hts⟩ := id C0
  have hS : va_S A s.heap s.heap [] := va_S.rf
  have hP : va_P G.1 vwCl (wX G ad ho rn ln dr ro lt rf th sb ++ wR G (ad 1) kd r ++ wR G (ad 2) k1 r1 ++ wR G (ad 3) k2 r2 ++ wK (ad 4)) s.heap := hP
  have hD : va_D A (wX G ad ho rn ln dr ro lt rf th sb ++ wR G (ad 1) kd r ++ wR G (ad 2) k1 r1 ++ wR G (ad 3) k2 r2 ++ wK (ad 4)) := hD
  have hl : lv_has ls 6 [(0, .ref (ad 0 0)), (1, .int x1), (2, .int x2), (3, .int x3), (4, .int sp), (5, .int w)] := hl
  have hr0 := hr.n
  have hN := hr.le
  refine lv_aload_n hx hb dX0_orderTold_0 rfl (lv_at hl 0 rfl) ?_
  refine lv_iload_n hx hb dX0_orderTold_1 rfl (lv_at hl 1 rfl) ?_
  refine y_Vv (wN := fun _ => (wX G ad ho rn ln dr ro lt rf th sb ++ wR G (ad 1) kd r ++ wR G (ad 2) k1 r1 ++ wR G (ad 3) k2 r2 ++ wK (ad 4))) (wNx := fun u9 => (wX G ad ho rn ln dr ro lt rf th sb ++ wR G (ad 1) kd r ++ wR G (ad 2) k1 r1 ++ wR G (ad 3) k2 r2 ++ wK (ad 4))) ⟨C0, hK, hP, hD, hS, hA⟩ hZ 0 rfl (ci := 0) rfl rfl ((m_mustBeThing l hl0 G ad kd k1 k2 r r1 r2 ho rn ln dr ro lt rf th sb hr hp hk x1)) (cwV 1 hts (lw_V q699 q701 qs14 q86 q702) rfl rfl rfl (by decide +kernel) ⟨Nat.le_of_ble_eq_true rfl, Nat.le_of_ble_eq_true rfl⟩) [0, 1, 2, 3, 4, 5, 6, 7, 8, 9, 10, 11, 12, 13, 14, 15, 16, 17, 18, 19, 20, 21, 22, 23, 24, 25, 26, 27, 28, 29, 30] [1, 3, 5, 7, 9, 11, 13, 15, 17, 19, 21, 23, 25, 27, 29, 31, 33, 35, 37, 39, 41, 43, 45, 47, 49, 51, 53, 55, 57, 59, 61] [1, 3, 5, 7, 9, 11, 13, 15, 17, 19, 21, 23, 25, 27, 29, 31, 33, 35, 37, 39, 41, 43, 45, 47, 49, 51, 53, 55, 57, 59, 61, 63] rfl (fun _ => rfl) (fun _ _ _ => rfl) rfl rfl rfl hl.1 rfl (Nat.le_of_ble_eq_true rfl) dX0_orderTold_2 ⟨(Nat.le_of_ble_eq_true rfl), (Nat.le_of_ble_eq_true rfl)⟩ (fun q9 u9 ee H locs hw_1 hP hD hS => ?_) (fun u_1 H locs hw_1 hP hD hS => ?_)
  · skip
    refine hthr _ _ _ _ _ _ _ q9 () ee ?_ hP hD hS (Nat.le_of_ble_eq_true rfl) (Nat.le_of_ble_eq_true rfl)
    obtain ⟨h8, h9⟩ := hw_1
    have e9 : eS (tB r x1) (-1) (eS (tB r x2) (-1) (eS (tB r x3) (-1) (eS (decide (x1 ≠ x2 ∧ x1 ≠ x3 ∧ x2 ≠ x3)) (-1) (eW (wBy sp.toInt 0 9) (eS (inR w 0 1) (-2) 0))))) = ee.2.1 := by rw [eS_f h8]; exact h9.symm
    exact ⟨e9.symm, by rw [e9, h9]; decide⟩
  · skip
    refine W.widen (k := 1) (n := 7) (Nat.le_of_ble_eq_true rfl) (Nat.le_of_ble_eq_true rfl) ?_
    refine lv_aload_n hx hb dX0_orderTold_5 rfl (lv_at hl 0 rfl) ?_
    refine lv_iload_n hx hb dX0_orderTold_6 rfl (lv_at hl 2 rfl) ?_
    refine y_Vv (wN := fun _ => (wX G ad ho rn ln dr ro lt rf th sb ++ wR G (ad 1) kd r ++ wR G (ad 2) k1 r1 ++ wR G (ad 3) k2 r2 ++ wK (ad 4))) (wNx := fun u9 => (wX G ad ho rn ln dr ro lt rf th sb ++ wR G (ad 1) kd r ++ wR G (ad 2) k1 r1 ++ wR G (ad 3) k2 r2 ++ wK (ad 4))) ⟨C0, hK, hP, hD, hS, hA⟩ hZ 0 rfl (ci := 0) rfl rfl ((m_mustBeThing l hl0 G ad kd k1 k2 r r1 r2 ho rn ln dr ro lt rf th sb hr hp hk x2)) (cwV 1 hts (lw_V q699 q701 qs14 q86 q702) rfl rfl rfl (by decide +kernel) ⟨Nat.le_of_ble_eq_true rfl, Nat.le_of_ble_eq_true rfl⟩) [0, 1, 2, 3, 4, 5, 6, 7, 8, 9, 10, 11, 12, 13, 14, 15, 16, 17, 18, 19, 20, 21, 22, 23, 24, 25, 26, 27, 28, 29, 30] [1, 3, 5, 7, 9, 11, 13, 15, 17, 19, 21, 23, 25, 27, 29, 31, 33, 35, 37, 39, 41, 43, 45, 47, 49, 51, 53, 55, 57, 59, 61] [1, 3, 5, 7, 9, 11, 13, 15, 17, 19, 21, 23, 25, 27, 29, 31, 33, 35, 37, 39, 41, 43, 45, 47, 49, 51, 53, 55, 57, 59, 61, 63] rfl (fun _ => rfl) (fun _ _ _ => rfl) rfl rfl rfl hl.1 rfl (Nat.le_of_ble_eq_true rfl) dX0_orderTold_7 ⟨(Nat.le_of_ble_eq_true rfl), (Nat.le_of_ble_eq_true rfl)⟩ (fun q9 u9 ee H locs hw_2 hP hD hS => ?_) (fun u_2 H locs hw_2 hP hD hS => ?_)
    · skip
      refine hthr _ _ _ _ _ _ _ q9 () ee ?_ hP hD hS (Nat.le_of_ble_eq_true rfl) (Nat.le_of_ble_eq_true rfl)
      obtain ⟨h8, h9⟩ := hw_2
      have e9 : eS (tB r x1) (-1) (eS (tB r x2) (-1) (eS (tB r x3) (-1) (eS (decide (x1 ≠ x2 ∧ x1 ≠ x3 ∧ x2 ≠ x3)) (-1) (eW (wBy sp.toInt 0 9) (eS (inR w 0 1) (-2) 0))))) = ee.2.1 := by rw [eS_t hw_1, eS_f h8]; exact h9.symm
      exact ⟨e9.symm, by rw [e9, h9]; decide⟩
    · skip
      refine W.widen (k := 2) (n := 14) (Nat.le_of_ble_eq_true rfl) (Nat.le_of_ble_eq_true rfl) ?_
      refine lv_aload_n hx hb dX0_orderTold_10 rfl (lv_at hl 0 rfl) ?_
      refine lv_iload_n hx hb dX0_orderTold_11 rfl (lv_at hl 3 rfl) ?_
      refine y_Vv (wN := fun _ => (wX G ad ho rn ln dr ro lt rf th sb ++ wR G (ad 1) kd r ++ wR G (ad 2) k1 r1 ++ wR G (ad 3) k2 r2 ++ wK (ad 4))) (wNx := fun u9 => (wX G ad ho rn ln dr ro lt rf th sb ++ wR G (ad 1) kd r ++ wR G (ad 2) k1 r1 ++ wR G (ad 3) k2 r2 ++ wK (ad 4))) ⟨C0, hK, hP, hD, hS, hA⟩ hZ 0 rfl (ci := 0) rfl rfl ((m_mustBeThing l hl0 G ad kd k1 k2 r r1 r2 ho rn ln dr ro lt rf th sb hr hp hk x3)) (cwV 1 hts (lw_V q699 q701 qs14 q86 q702) rfl rfl rfl (by decide +kernel) ⟨Nat.le_of_ble_eq_true rfl, Nat.le_of_ble_eq_true rfl⟩) [0, 1, 2, 3, 4, 5, 6, 7, 8, 9, 10, 11, 12, 13, 14, 15, 16, 17, 18, 19, 20, 21, 22, 23, 24, 25, 26, 27, 28, 29, 30] [1, 3, 5, 7, 9, 11, 13, 15, 17, 19, 21, 23, 25, 27, 29, 31, 33, 35, 37, 39, 41, 43, 45, 47, 49, 51, 53, 55, 57, 59, 61] [1, 3, 5, 7, 9, 11, 13, 15, 17, 19, 21, 23, 25, 27, 29, 31, 33, 35, 37, 39, 41, 43, 45, 47, 49, 51, 53, 55, 57, 59, 61, 63] rfl (fun _ => rfl) (fun _ _ _ => rfl) rfl rfl rfl hl.1 rfl (Nat.le_of_ble_eq_true rfl) dX0_orderTold_12 ⟨(Nat.le_of_ble_eq_true rfl), (Nat.le_of_ble_eq_true rfl)⟩ (fun q9 u9 ee H locs hw_3 hP hD hS => ?_) (fun u_3 H locs hw_3 hP hD hS => ?_)
      · skip
        refine hthr _ _ _ _ _ _ _ q9 () ee ?_ hP hD hS (Nat.le_of_ble_eq_true rfl) (Nat.le_of_ble_eq_true rfl)
        obtain ⟨h8, h9⟩ := hw_3
        have e9 : eS (tB r x1) (-1) (eS (tB r x2) (-1) (eS (tB r x3) (-1) (eS (decide (x1 ≠ x2 ∧ x1 ≠ x3 ∧ x2 ≠ x3)) (-1) (eW (wBy sp.toInt 0 9) (eS (inR w 0 1) (-2) 0))))) = ee.2.1 := by rw [eS_t hw_1, eS_t hw_2, eS_f h8]; exact h9.symm
        exact ⟨e9.symm, by rw [e9, h9]; decide⟩
      · skip
        refine W.widen (k := 3) (n := 21) (Nat.le_of_ble_eq_true rfl) (Nat.le_of_ble_eq_true rfl) ?_
        refine lv_iload_n hx hb dX0_orderTold_15 rfl (lv_at hl 1 rfl) ?_
        refine lv_iload_n hx hb dX0_orderTold_16 rfl (lv_at hl 2 rfl) ?_
        refine lv_icmp_eq (tgt := 34) hx hb dX0_orderTold_17 (by decide) (fun c_4 => ?_) (fun c_4 => ?_)
        · skip
          refine lv_iconst (v := 0) hx hb dX0_orderTold_34 (by decide) ?_
          have eb_35 : (0 : Int32) = bI (decide (x1 ≠ x2 ∧ x1 ≠ x3 ∧ x2 ≠ x3)) := bI_F (decide_eq_false (fun z => z.1 c_4))
          rw [eb_35]
          have ef_35 : (decide (x1 ≠ x2 ∧ x1 ≠ x3 ∧ x2 ≠ x3)) = false := bI_0.mp eb_35.symm
          refine lv_iconst (v := (-1)) hx hb dX0_orderTold_35 (by decide) ?_
          refine y_Sv (wN := fun _ => (wX G ad ho rn ln dr ro lt rf th sb ++ wR G (ad 1) kd r ++ wR G (ad 2) k1 r1 ++ wR G (ad 3) k2 r2 ++ wK (ad 4))) (wNx := fun u9 => (wX G ad ho rn ln dr ro lt rf th sb ++ wR G (ad 1) kd r ++ wR G (ad 2) k1 r1 ++ wR G (ad 3) k2 r2 ++ wK (ad 4))) ⟨C0, hK, hP, hD, hS, hA⟩ hZ ((m_must l hl0 G (decide (x1 ≠ x2 ∧ x1 ≠ x3 ∧ x2 ≠ x3)) (-1))) (va_cwS 2 hts (lw_S q286 q287 q86 q288) rfl rfl rfl (by decide +kernel) ⟨Nat.le_of_ble_eq_true rfl, Nat.le_of_ble_eq_true rfl⟩) [] [0, 2, 4, 6, 8, 10, 12, 14, 16, 18, 20, 22, 24, 26, 28, 30, 32, 34, 36, 38, 40, 42, 44, 46, 48, 50, 52, 54, 56, 58, 60] [0, 2, 4, 6, 8, 10, 12, 14, 16, 18, 20, 22, 24, 26, 28, 30, 32, 34, 36, 38, 40, 42, 44, 46, 48, 50, 52, 54, 56, 58, 60, 1] rfl (fun _ => rfl) (fun _ _ _ => rfl) rfl rfl rfl hl.1 rfl (Nat.le_of_ble_eq_true rfl) dX0_orderTold_36 ⟨(Nat.le_of_ble_eq_true rfl), (Nat.le_of_ble_eq_true rfl)⟩ (fun q9 u9 ee H locs hw_5 hP hD hS => ?_) (fun u_5 H locs hw_5 hP hD hS => ?_)
          · skip
            refine hthr _ _ _ _ _ _ _ q9 () ee ?_ hP hD hS (Nat.le_of_ble_eq_true rfl) (Nat.le_of_ble_eq_true rfl)
            obtain ⟨h8, h9⟩ := hw_5
            have e9 : eS (tB r x1) (-1) (eS (tB r x2) (-1) (eS (tB r x3) (-1) (eS (decide (x1 ≠ x2 ∧ x1 ≠ x3 ∧ x2 ≠ x3)) (-1) (eW (wBy sp.toInt 0 9) (eS (inR w 0 1) (-2) 0))))) = ee.2.1 := by rw [eS_t hw_1, eS_t hw_2, eS_t hw_3, eS_f h8]; exact h9.symm
            exact ⟨e9.symm, by rw [e9, h9]; decide⟩
          · skip
            refine W.widen (k := 4) (n := 28) (Nat.le_of_ble_eq_true rfl) (Nat.le_of_ble_eq_true rfl) ?_
            exact absurd hw_5 (by rw [ef_35]; decide)
        · skip
          refine lv_iload_n hx hb dX0_orderTold_20 rfl (lv_at hl 1 rfl) ?_
          refine lv_iload_n hx hb dX0_orderTold_21 rfl (lv_at hl 3 rfl) ?_
          refine lv_icmp_eq (tgt := 34) hx hb dX0_orderTold_22 (by decide) (fun c_6 => ?_) (fun c_6 => ?_)
          · skip
            refine lv_iconst (v := 0) hx hb dX0_orderTold_34 (by decide) ?_
            have eb_35 : (0 : Int32) = bI (decide (x1 ≠ x2 ∧ x1 ≠ x3 ∧ x2 ≠ x3)) := bI_F (decide_eq_false (fun z => z.2.1 c_6))
            rw [eb_35]
            have ef_35 : (decide (x1 ≠ x2 ∧ x1 ≠ x3 ∧ x2 ≠ x3)) = false := bI_0.mp eb_35.symm
            refine lv_iconst (v := (-1)) hx hb dX0_orderTold_35 (by decide) ?_
            refine y_Sv (wN := fun _ => (wX G ad ho rn ln dr ro lt rf th sb ++ wR G (ad 1) kd r ++ wR G (ad 2) k1 r1 ++ wR G (ad 3) k2 r2 ++ wK (ad 4))) (wNx := fun u9 => (wX G ad ho rn ln dr ro lt rf th sb ++ wR G (ad 1) kd r ++ wR G (ad 2) k1 r1 ++ wR G (ad 3) k2 r2 ++ wK (ad 4))) ⟨C0, hK, hP, hD, hS, hA⟩ hZ ((m_must l hl0 G (decide (x1 ≠ x2 ∧ x1 ≠ x3 ∧ x2 ≠ x3)) (-1))) (va_cwS 2 hts (lw_S q286 q287 q86 q288) rfl rfl rfl (by decide +kernel) ⟨Nat.le_of_ble_eq_true rfl, Nat.le_of_ble_eq_true rfl⟩) [] [0, 2, 4, 6, 8, 10, 12, 14, 16, 18, 20, 22, 24, 26, 28, 30, 32, 34, 36, 38, 40, 42, 44, 46, 48, 50, 52, 54, 56, 58, 60] [0, 2, 4, 6, 8, 10, 12, 14, 16, 18, 20, 22, 24, 26, 28, 30, 32, 34, 36, 38, 40, 42, 44, 46, 48, 50, 52, 54, 56, 58, 60, 1] rfl (fun _ => rfl) (fun _ _ _ => rfl) rfl rfl rfl hl.1 rfl (Nat.le_of_ble_eq_true rfl) dX0_orderTold_36 ⟨(Nat.le_of_ble_eq_true rfl), (Nat.le_of_ble_eq_true rfl)⟩ (fun q9 u9 ee H locs hw_7 hP hD hS => ?_) (fun u_7 H locs hw_7 hP hD hS => ?_)
            · skip
              refine hthr _ _ _ _ _ _ _ q9 () ee ?_ hP hD hS (Nat.le_of_ble_eq_true rfl) (Nat.le_of_ble_eq_true rfl)
              obtain ⟨h8, h9⟩ := hw_7
              have e9 : eS (tB r x1) (-1) (eS (tB r x2) (-1) (eS (tB r x3) (-1) (eS (decide (x1 ≠ x2 ∧ x1 ≠ x3 ∧ x2 ≠ x3)) (-1) (eW (wBy sp.toInt 0 9) (eS (inR w 0 1) (-2) 0))))) = ee.2.1 := by rw [eS_t hw_1, eS_t hw_2, eS_t hw_3, eS_f h8]; exact h9.symm
              exact ⟨e9.symm, by rw [e9, h9]; decide⟩
            · skip
              refine W.widen (k := 4) (n := 28) (Nat.le_of_ble_eq_true rfl) (Nat.le_of_ble_eq_true rfl) ?_
              exact absurd hw_7 (by rw [ef_35]; decide)
          · skip
            refine lv_iload_n hx hb dX0_orderTold_25 rfl (lv_at hl 2 rfl) ?_
            refine lv_iload_n hx hb dX0_orderTold_26 rfl (lv_at hl 3 rfl) ?_
            refine lv_icmp_eq (tgt := 34) hx hb dX0_orderTold_27 (by decide) (fun c_8 => ?_) (fun c_8 => ?_)
            · skip
              refine lv_iconst (v := 0) hx hb dX0_orderTold_34 (by decide) ?_
              have eb_35 : (0 : Int32) = bI (decide (x1 ≠ x2 ∧ x1 ≠ x3 ∧ x2 ≠ x3)) := bI_F (decide_eq_false (fun z => z.2.2 c_8))
              rw [eb_35]
              have ef_35 : (decide (x1 ≠ x2 ∧ x1 ≠ x3 ∧ x2 ≠ x3)) = false := bI_0.mp eb_35.symm
              refine lv_iconst (v := (-1)) hx hb dX0_orderTold_35 (by decide) ?_
              refine y_Sv (wN := fun _ => (wX G ad ho rn ln dr ro lt rf th sb ++ wR G (ad 1) kd r ++ wR G (ad 2) k1 r1 ++ wR G (ad 3) k2 r2 ++ wK (ad 4))) (wNx := fun u9 => (wX G ad ho rn ln dr ro lt rf th sb ++ wR G (ad 1) kd r ++ wR G (ad 2) k1 r1 ++ wR G (ad 3) k2 r2 ++ wK (ad 4))) ⟨C0, hK, hP, hD, hS, hA⟩ hZ ((m_must l hl0 G (decide (x1 ≠ x2 ∧ x1 ≠ x3 ∧ x2 ≠ x3)) (-1))) (va_cwS 2 hts (lw_S q286 q287 q86 q288) rfl rfl rfl (by decide +kernel) ⟨Nat.le_of_ble_eq_true rfl, Nat.le_of_ble_eq_true rfl⟩) [] [0, 2, 4, 6, 8, 10, 12, 14, 16, 18, 20, 22, 24, 26, 28, 30, 32, 34, 36, 38, 40, 42, 44, 46, 48, 50, 52, 54, 56, 58, 60] [0, 2, 4, 6, 8, 10, 12, 14, 16, 18, 20, 22, 24, 26, 28, 30, 32, 34, 36, 38, 40, 42, 44, 46, 48, 50, 52, 54, 56, 58, 60, 1] rfl (fun _ => rfl) (fun _ _ _ => rfl) rfl rfl rfl hl.1 rfl (Nat.le_of_ble_eq_true rfl) dX0_orderTold_36 ⟨(Nat.le_of_ble_eq_true rfl), (Nat.le_of_ble_eq_true rfl)⟩ (fun q9 u9 ee H locs hw_9 hP hD hS => ?_) (fun u_9 H locs hw_9 hP hD hS => ?_)
              · skip
                refine hthr _ _ _ _ _ _ _ q9 () ee ?_ hP hD hS (Nat.le_of_ble_eq_true rfl) (Nat.le_of_ble_eq_true rfl)
                obtain ⟨h8, h9⟩ := hw_9
                have e9 : eS (tB r x1) (-1) (eS (tB r x2) (-1) (eS (tB r x3) (-1) (eS (decide (x1 ≠ x2 ∧ x1 ≠ x3 ∧ x2 ≠ x3)) (-1) (eW (wBy sp.toInt 0 9) (eS (inR w 0 1) (-2) 0))))) = ee.2.1 := by rw [eS_t hw_1, eS_t hw_2, eS_t hw_3, eS_f h8]; exact h9.symm
                exact ⟨e9.symm, by rw [e9, h9]; decide⟩
              · skip
                refine W.widen (k := 4) (n := 28) (Nat.le_of_ble_eq_true rfl) (Nat.le_of_ble_eq_true rfl) ?_
                exact absurd hw_9 (by rw [ef_35]; decide)
            · skip
              refine lv_iconst (v := 1) hx hb dX0_orderTold_30 (by decide) ?_
              refine lv_goto (tgt := 35) hx hb dX0_orderTold_31 (by decide) ?_
              have eb_35 : (1 : Int32) = bI (decide (x1 ≠ x2 ∧ x1 ≠ x3 ∧ x2 ≠ x3)) := bI_T (decide_eq_true (⟨c_4, c_6, c_8⟩))
              rw [eb_35]
              refine lv_iconst (v := (-1)) hx hb dX0_orderTold_35 (by decide) ?_
              refine y_Sv (wN := fun _ => (wX G ad ho rn ln dr ro lt rf th sb ++ wR G (ad 1) kd r ++ wR G (ad 2) k1 r1 ++ wR G (ad 3) k2 r2 ++ wK (ad 4))) (wNx := fun u9 => (wX G ad ho rn ln dr ro lt rf th sb ++ wR G (ad 1) kd r ++ wR G (ad 2) k1 r1 ++ wR G (ad 3) k2 r2 ++ wK (ad 4))) ⟨C0, hK, hP, hD, hS, hA⟩ hZ ((m_must l hl0 G (decide (x1 ≠ x2 ∧ x1 ≠ x3 ∧ x2 ≠ x3)) (-1))) (va_cwS 2 hts (lw_S q286 q287 q86 q288) rfl rfl rfl (by decide +kernel) ⟨Nat.le_of_ble_eq_true rfl, Nat.le_of_ble_eq_true rfl⟩) [] [0, 2, 4, 6, 8, 10, 12, 14, 16, 18, 20, 22, 24, 26, 28, 30, 32, 34, 36, 38, 40, 42, 44, 46, 48, 50, 52, 54, 56, 58, 60] [0, 2, 4, 6, 8, 10, 12, 14, 16, 18, 20, 22, 24, 26, 28, 30, 32, 34, 36, 38, 40, 42, 44, 46, 48, 50, 52, 54, 56, 58, 60, 1] rfl (fun _ => rfl) (fun _ _ _ => rfl) rfl rfl rfl hl.1 rfl (Nat.le_of_ble_eq_true rfl) dX0_orderTold_36 ⟨(Nat.le_of_ble_eq_true rfl), (Nat.le_of_ble_eq_true rfl)⟩ (fun q9 u9 ee H locs hw_10 hP hD hS => ?_) (fun u_10 H locs hw_10 hP hD hS => ?_)
              · skip
                refine hthr _ _ _ _ _ _ _ q9 () ee ?_ hP hD hS (Nat.le_of_ble_eq_true rfl) (Nat.le_of_ble_eq_true rfl)
                obtain ⟨h8, h9⟩ := hw_10
                have e9 : eS (tB r x1) (-1) (eS (tB r x2) (-1) (eS (tB r x3) (-1) (eS (decide (x1 ≠ x2 ∧ x1 ≠ x3 ∧ x2 ≠ x3)) (-1) (eW (wBy sp.toInt 0 9) (eS (inR w 0 1) (-2) 0))))) = ee.2.1 := by rw [eS_t hw_1, eS_t hw_2, eS_t hw_3, eS_f h8]; exact h9.symm
                exact ⟨e9.symm, by rw [e9, h9]; decide⟩
              · skip
                refine W.widen (k := 4) (n := 28) (Nat.le_of_ble_eq_true rfl) (Nat.le_of_ble_eq_true rfl) ?_
                refine lv_iload hx hb dX0_orderTold_39 (lv_at hl 4 rfl) ?_
                refine y_Sv (wN := fun _ => (wX G ad ho rn ln dr ro lt rf th sb ++ wR G (ad 1) kd r ++ wR G (ad 2) k1 r1 ++ wR G (ad 3) k2 r2 ++ wK (ad 4))) (wNx := fun u9 => (wX G ad ho rn ln dr ro lt rf th sb ++ wR G (ad 1) kd r ++ wR G (ad 2) k1 r1 ++ wR G (ad 3) k2 r2 ++ wK (ad 4))) ⟨C0, hK, hP, hD, hS, hA⟩ hZ ((m_mustBeSpeed l hl0 G sp)) (va_cwS 1 hts (lw_S q736 q737 q86 q738) rfl rfl rfl (by decide +kernel) ⟨Nat.le_of_ble_eq_true rfl, Nat.le_of_ble_eq_true rfl⟩) [] [0, 2, 4, 6, 8, 10, 12, 14, 16, 18, 20, 22, 24, 26, 28, 30, 32, 34, 36, 38, 40, 42, 44, 46, 48, 50, 52, 54, 56, 58, 60] [0, 2, 4, 6, 8, 10, 12, 14, 16, 18, 20, 22, 24, 26, 28, 30, 32, 34, 36, 38, 40, 42, 44, 46, 48, 50, 52, 54, 56, 58, 60, 1] rfl (fun _ => rfl) (fun _ _ _ => rfl) rfl rfl rfl hl.1 rfl (Nat.le_of_ble_eq_true rfl) dX0_orderTold_41 ⟨(Nat.le_of_ble_eq_true rfl), (Nat.le_of_ble_eq_true rfl)⟩ (fun q9 u9 ee H locs hw_11 hP hD hS => ?_) (fun u_11 H locs hw_11 hP hD hS => ?_)
                · skip
                  refine hthr _ _ _ _ _ _ _ q9 () ee ?_ hP hD hS (Nat.le_of_ble_eq_true rfl) (Nat.le_of_ble_eq_true rfl)
                  obtain ⟨h8, h9⟩ := hw_11
                  have e9 : eS (tB r x1) (-1) (eS (tB r x2) (-1) (eS (tB r x3) (-1) (eS (decide (x1 ≠ x2 ∧ x1 ≠ x3 ∧ x2 ≠ x3)) (-1) (eW (wBy sp.toInt 0 9) (eS (inR w 0 1) (-2) 0))))) = ee.2.1 := by rw [eS_t hw_1, eS_t hw_2, eS_t hw_3, eS_t hw_10, eW_n h9]; exact h8.symm
                  exact ⟨e9.symm, by rw [e9, h8]; exact h9⟩
                · skip
                  refine W.widen (k := 6) (n := 42) (Nat.le_of_ble_eq_true rfl) (Nat.le_of_ble_eq_true rfl) ?_
                  refine lv_iload hx hb dX0_orderTold_44 (lv_at hl 5 rfl) ?_
                  refine y_Sv (wN := fun _ => (wX G ad ho rn ln dr ro lt rf th sb ++ wR G (ad 1) kd r ++ wR G (ad 2) k1 r1 ++ wR G (ad 3) k2 r2 ++ wK (ad 4))) (wNx := fun u9 => (wX G ad ho rn ln dr ro lt rf th sb ++ wR G (ad 1) kd r ++ wR G (ad 2) k1 r1 ++ wR G (ad 3) k2 r2 ++ wK (ad 4))) ⟨C0, hK, hP, hD, hS, hA⟩ hZ ((m_mustBeBit l hl0 G w)) (va_cwS 1 hts (lw_S q808 q809 q86 q810) rfl rfl rfl (by decide +kernel) ⟨Nat.le_of_ble_eq_true rfl, Nat.le_of_ble_eq_true rfl⟩) [] [0, 2, 4, 6, 8, 10, 12, 14, 16, 18, 20, 22, 24, 26, 28, 30, 32, 34, 36, 38, 40, 42, 44, 46, 48, 50, 52, 54, 56, 58, 60] [0, 2, 4, 6, 8, 10, 12, 14, 16, 18, 20, 22, 24, 26, 28, 30, 32, 34, 36, 38, 40, 42, 44, 46, 48, 50, 52, 54, 56, 58, 60, 1] rfl (fun _ => rfl) (fun _ _ _ => rfl) rfl rfl rfl hl.1 rfl (Nat.le_of_ble_eq_true rfl) dX0_orderTold_46 ⟨(Nat.le_of_ble_eq_true rfl), (Nat.le_of_ble_eq_true rfl)⟩ (fun q9 u9 ee H locs hw_12 hP hD hS => ?_) (fun u_12 H locs hw_12 hP hD hS => ?_)
                  · skip
                    refine hthr _ _ _ _ _ _ _ q9 () ee ?_ hP hD hS (Nat.le_of_ble_eq_true rfl) (Nat.le_of_ble_eq_true rfl)
                    obtain ⟨h8, h9⟩ := hw_12
                    have e9 : eS (tB r x1) (-1) (eS (tB r x2) (-1) (eS (tB r x3) (-1) (eS (decide (x1 ≠ x2 ∧ x1 ≠ x3 ∧ x2 ≠ x3)) (-1) (eW (wBy sp.toInt 0 9) (eS (inR w 0 1) (-2) 0))))) = ee.2.1 := by rw [eS_t hw_1, eS_t hw_2, eS_t hw_3, eS_t hw_10, eW_0 hw_11, eS_f h8]; exact h9.symm
                    exact ⟨e9.symm, by rw [e9, h9]; decide⟩
                  · skip
                    refine W.widen (k := 7) (n := 49) (Nat.le_of_ble_eq_true rfl) (Nat.le_of_ble_eq_true rfl) ?_
                    obtain ⟨hj_x1, et_x1⟩ := tB_ix hN hw_1
                    obtain ⟨hj_x2, et_x2⟩ := tB_ix hN hw_2
                    obtain ⟨hj_x3, et_x3⟩ := tB_ix hN hw_3
                    refine lv_aload_n hx hb dX0_orderTold_49 rfl (lv_at hl 0 rfl) ?_
                    refine va_get (D := G.1) (ci := 0) (v := .ref (ad 0 5)) (C := RX0) (T := TX0) (N := 13) hx hb hts in_X0 hown hK.1 hP 0 rfl rfl 10 (by decide) (hts _ q233) (fun _ h9 => h9) rfl dX0_orderTold_50 ?_
                    refine lv_iconst (v := 0) hx hb dX0_orderTold_53 (by decide) ?_
                    refine lv_iload_n hx hb dX0_orderTold_54 rfl (lv_at hl 1 rfl) ?_
                    refine x_iastn (k := 0) hx hb hK.1 hP hD hS 5 0 rfl rfl (by decide) (by decide) (g := upd th 0 x1) rfl dX0_orderTold_55 (fun H locs hP hD hS => ?_)
                    have hP : va_P G.1 vwCl (wX G ad ho rn ln dr ro lt rf (upd th 0 x1) sb ++ wR G (ad 1) kd r ++ wR G (ad 2) k1 r1 ++ wR G (ad 3) k2 r2 ++ wK (ad 4)) H := hP
                    have hD : va_D A (wX G ad ho rn ln dr ro lt rf (upd th 0 x1) sb ++ wR G (ad 1) kd r ++ wR G (ad 2) k1 r1 ++ wR G (ad 3) k2 r2 ++ wK (ad 4)) := hD
                    refine lv_aload_n hx hb dX0_orderTold_56 rfl (lv_at hl 0 rfl) ?_
                    refine va_get (D := G.1) (ci := 0) (v := .ref (ad 0 5)) (C := RX0) (T := TX0) (N := 13) hx hb hts in_X0 hown hK.1 hP 0 rfl rfl 10 (by decide) (hts _ q233) (fun _ h9 => h9) rfl dX0_orderTold_57 ?_
                    refine lv_iconst (v := 1) hx hb dX0_orderTold_60 (by decide) ?_
                    refine lv_iload_n hx hb dX0_orderTold_61 rfl (lv_at hl 2 rfl) ?_
                    refine x_iastn (k := 1) hx hb hK.1 hP hD hS 5 0 rfl rfl (by decide) (by decide) (g := upd (upd th 0 x1) 1 x2) rfl dX0_orderTold_62 (fun H locs hP hD hS => ?_)
                    have hP : va_P G.1 vwCl (wX G ad ho rn ln dr ro lt rf (upd (upd th 0 x1) 1 x2) sb ++ wR G (ad 1) kd r ++ wR G (ad 2) k1 r1 ++ wR G (ad 3) k2 r2 ++ wK (ad 4)) H := hP
                    have hD : va_D A (wX G ad ho rn ln dr ro lt rf (upd (upd th 0 x1) 1 x2) sb ++ wR G (ad 1) kd r ++ wR G (ad 2) k1 r1 ++ wR G (ad 3) k2 r2 ++ wK (ad 4)) := hD
                    refine lv_aload_n hx hb dX0_orderTold_63 rfl (lv_at hl 0 rfl) ?_
                    refine va_get (D := G.1) (ci := 0) (v := .ref (ad 0 5)) (C := RX0) (T := TX0) (N := 13) hx hb hts in_X0 hown hK.1 hP 0 rfl rfl 10 (by decide) (hts _ q233) (fun _ h9 => h9) rfl dX0_orderTold_64 ?_
                    refine lv_iconst (v := 2) hx hb dX0_orderTold_67 (by decide) ?_
                    refine lv_iload_n hx hb dX0_orderTold_68 rfl (lv_at hl 3 rfl) ?_
                    refine x_iastn (k := 2) hx hb hK.1 hP hD hS 5 0 rfl rfl (by decide) (by decide) (g := upd (upd (upd th 0 x1) 1 x2) 2 x3) rfl dX0_orderTold_69 (fun H locs hP hD hS => ?_)
                    have hP : va_P G.1 vwCl (wX G ad ho rn ln dr ro lt rf (upd (upd (upd th 0 x1) 1 x2) 2 x3) sb ++ wR G (ad 1) kd r ++ wR G (ad 2) k1 r1 ++ wR G (ad 3) k2 r2 ++ wK (ad 4)) H := hP
                    have hD : va_D A (wX G ad ho rn ln dr ro lt rf (upd (upd (upd th 0 x1) 1 x2) 2 x3) sb ++ wR G (ad 1) kd r ++ wR G (ad 2) k1 r1 ++ wR G (ad 3) k2 r2 ++ wK (ad 4)) := hD
                    refine lv_aload_n hx hb dX0_orderTold_70 rfl (lv_at hl 0 rfl) ?_
                    refine lv_iload hx hb dX0_orderTold_71 (lv_at hl 4 rfl) ?_
                    refine lv_iload hx hb dX0_orderTold_73 (lv_at hl 5 rfl) ?_
                    refine x_Vi (wN := fun u_13 => (wX G ad ho rn ln dr ro lt rf (upd (upd (upd th 0 x1) 1 x2) 2 x3) sb ++ wR G (ad 1) kd r ++ wR G (ad 2) u_13.1 u_13.2 ++ wR G (ad 3) k2 r2 ++ wK (ad 4))) ⟨C0, hK, hP, hD, hS, hA⟩ 0 rfl (ci := 0) rfl rfl ((m_bestOrder l G ad kd k1 k2 r r1 r2 ho rn ln dr ro lt rf (upd (upd (upd th 0 x1) 1 x2) 2 x3) sb hr hp hk sp w (x3f x1 x2 x3) (fun j hj => by rcases (show j = 0 ∨ j = 1 ∨ j = 2 by omega) with rfl | rfl | rfl <;> first | exact ⟨et_x1, hj_x1⟩ | exact ⟨et_x2, hj_x2⟩ | exact ⟨et_x3, hj_x3⟩))) (cwV 2 hts (lw_V q894 q896 qs44 q86 q897) rfl rfl rfl (by decide +kernel) ⟨Nat.le_of_ble_eq_true rfl, Nat.le_of_ble_eq_true rfl⟩) [0, 1, 2, 3, 4, 5, 6, 7, 8, 9, 10, 11, 12, 13, 14, 15, 16, 17, 18, 19, 20, 21, 22, 23, 24, 25, 26, 27, 28, 29, 30] [1, 3, 5, 7, 9, 11, 13, 15, 17, 19, 21, 23, 25, 27, 29, 31, 33, 35, 37, 39, 41, 43, 45, 47, 49, 51, 53, 55, 57, 59, 61] rfl (fun _ => rfl) rfl rfl hl.1 rfl (Nat.le_of_ble_eq_true rfl) dX0_orderTold_75 ⟨(Nat.le_of_ble_eq_true rfl), (Nat.le_of_ble_eq_true rfl)⟩ (fun r_13 u_13 H locs hw_13 hP hD hS => ?_)
                    have hw_13 : (pOrd r (x3f x1 x2 x3) sp w : Int32) = r_13 := hw_13.symm
                    subst hw_13
                    have hP : va_P G.1 vwCl (wX G ad ho rn ln dr ro lt rf (upd (upd (upd th 0 x1) 1 x2) 2 x3) sb ++ wR G (ad 1) kd r ++ wR G (ad 2) u_13.1 u_13.2 ++ wR G (ad 3) k2 r2 ++ wK (ad 4)) H := hP
                    have hD : va_D A (wX G ad ho rn ln dr ro lt rf (upd (upd (upd th 0 x1) 1 x2) 2 x3) sb ++ wR G (ad 1) kd r ++ wR G (ad 2) u_13.1 u_13.2 ++ wR G (ad 3) k2 r2 ++ wK (ad 4)) := hD
                    refine hret _ _ _ _ _ _ (pOrd r (x3f x1 x2 x3) sp w) (u_13.1, u_13.2) dX0_orderTold_78 ?_ hP hD hS (Nat.le_of_ble_eq_true rfl) (Nat.le_of_ble_eq_true rfl)
                    refine ⟨by rw [eS_t hw_1, eS_t hw_2, eS_t hw_3, eS_t hw_10, eW_0 hw_11, eS_t hw_12], ?_⟩
                    exact rfl

/-! what is told and done, by checks, 2 (printed by tools/told2.py) -/
theorem nn_ix {x : Int32} (h : ¬ x < 0) (h2 : x ≤ 99) : ix x ≤ 99 ∧ x = nI (ix x) := by
  obtain ⟨j, hj, rfl⟩ := nI_of2 (n := 99) (by decide) h h2
  rw [ix_nI (by omega)]
  exact ⟨hj, rfl⟩
set_option maxHeartbeats 4000000 in
set_option maxRecDepth 100000 in
theorem m_laterTold (l : Launch) (hl0 : l.stackTraces = false) (G : xG) (ad : Nat → Nat → Nat) (kd k1 k2 : Nat → Option Nat) (r r1 r2 : Rw) (ho rn ln dr : Int32) (ro lt rf th sb : Nat → Int32) (hr : Ok r) (hp : r 5 3 = 0) (hk : kOk (ad 4) kd r) (t sp mi : Int32) : yCi l G yX0_laterTold cX0_laterTold 4 (some .int) ({ frames := 10, cells := 4, slots := 28, locals := 180 } : Room) [.ref (ad 0 0), .int t, .int sp, .int mi] (wX G ad ho rn ln dr ro lt rf th sb ++ wR G (ad 1) kd r ++ wR G (ad 2) k1 r1 ++ wR G (ad 3) k2 r2 ++ wK (ad 4)) (S := ((Nat → Option Nat) × Rw)) (SX := Unit) (fun v _ => eS (tB r t) (-1) (eS (decide (¬ sp < 0 ∧ ¬ mi < 0)) (-4) (eS (decide (sp ≤ 9 ∧ mi ≤ 99)) (-6) (eS (pSt r (ix t)) (-3) 0))) = 0 ∧ v = pFL r (ix t) sp (ix mi)) (fun u => (wX G ad ho rn ln dr ro lt rf th sb ++ wR G (ad 1) kd r ++ wR G (ad 2) u.1 u.2 ++ wR G (ad 3) k2 r2 ++ wK (ad 4))) (fun n _ => n = eS (tB r t) (-1) (eS (decide (¬ sp < 0 ∧ ¬ mi < 0)) (-4) (eS (decide (sp ≤ 9 ∧ mi ≤ 99)) (-6) (eS (pSt r (ix t)) (-3) 0))) ∧ eS (tB r t) (-1) (eS (decide (¬ sp < 0 ∧ ¬ mi < 0)) (-4) (eS (decide (sp ≤ 9 ∧ mi ≤ 99)) (-6) (eS (pSt r (ix t)) (-3) 0))) ≠ 0) (fun _ => (wX G ad ho rn ln dr ro lt rf th sb ++ wR G (ad 1) kd r ++ wR G (ad 2) k1 r1 ++ wR G (ad 3) k2 r2 ++ wK (ad 4))) := by
  refine y_openi (by decide) (Nat.le_of_ble_eq_true rfl) (fun _ _ _ => rfl) ?_
  intro p e s m args below meth c A Q ls C0 hK hZ hP hD hA hl hret hthr
  obtain ⟨hx, hb, hml, hown, hts⟩ := id C0
  have hS : va_S A s.heap s.heap [] := va_S.rf
  have hP : va_P G.1 vwCl (wX G ad ho rn ln dr ro lt rf th sb ++ wR G (ad 1) kd r ++ wR G (ad 2) k1 r1 ++ wR G (ad 3) k2 r2 ++ wK (ad 4)) s.heap := hP
  have hD : va_D A (wX G ad ho rn ln dr ro lt rf th sb ++ wR G (ad 1) kd r ++ wR G (ad 2) k1 r1 ++ wR G (ad 3) k2 r2 ++ wK (ad 4)) := hD
  have hl : lv_has ls 4 [(0, .ref (ad 0 0)), (1, .int t), (2, .int sp), (3, .int mi)] := hl
  have hr0 := hr.n
  have hN := hr.le
  refine lv_aload_n hx hb dX0_laterTold_0 rfl (lv_at hl 0 rfl) ?_
  refine lv_iload_n hx hb dX0_laterTold_1 rfl (lv_at hl 1 rfl) ?_
  refine y_Vv (wN := fun _ => (wX G ad ho rn ln dr ro lt rf th sb ++ wR G (ad 1) kd r ++ wR G (ad 2) k1 r1 ++ wR G (ad 3) k2 r2 ++ wK (ad 4))) (wNx := fun u9 => (wX G ad ho rn ln dr ro lt rf th sb ++ wR G (ad 1) kd r ++ wR G (ad 2) k1 r1 ++ wR G (ad 3) k2 r2 ++ wK (ad 4))) ⟨C0, hK, hP, hD, hS, hA⟩ hZ 0 rfl (ci := 0) rfl rfl ((m_mustBeThing l hl0 G ad kd k1 k2 r r1 r2 ho rn ln dr ro lt rf th sb hr hp hk t)) (cwV 1 hts (lw_V q699 q701 qs14 q86 q702) rfl rfl rfl (by decide +kernel) ⟨Nat.le_of_ble_eq_true rfl, Nat.le_of_ble_eq_true rfl⟩) [0, 1, 2, 3, 4, 5, 6, 7, 8, 9, 10, 11, 12, 13, 14, 15, 16, 17, 18, 19, 20, 21, 22, 23, 24, 25, 26, 27, 28, 29, 30] [1, 3, 5, 7, 9, 11, 13, 15, 17, 19, 21, 23, 25, 27, 29, 31, 33, 35, 37, 39, 41, 43, 45, 47, 49, 51, 53, 55, 57, 59, 61] [1, 3, 5, 7, 9, 11, 13, 15, 17, 19, 21, 23, 25, 27, 29, 31, 33, 35, 37, 39, 41, 43, 45, 47, 49, 51, 53, 55, 57, 59, 61, 63] rfl (fun _ => rfl) (fun _ _ _ => rfl) rfl rfl rfl hl.1 rfl (Nat.le_of_ble_eq_true rfl) dX0_laterTold_2 ⟨(Nat.le_of_ble_eq_true rfl), (Nat.le_of_ble_eq_true rfl)⟩ (fun q9 u9 ee H locs hw_1 hP hD hS => ?_) (fun u_1 H locs hw_1 hP hD hS => ?_)
  · skip
    refine hthr _ _ _ _ _ _ _ q9 () ee ?_ hP hD hS (Nat.le_of_ble_eq_true rfl) (Nat.le_of_ble_eq_true rfl)
    obtain ⟨h8, h9⟩ := hw_1
    have e9 : eS (tB r t) (-1) (eS (decide (¬ sp < 0 ∧ ¬ mi < 0)) (-4) (eS (decide (sp ≤ 9 ∧ mi ≤ 99)) (-6) (eS (pSt r (ix t)) (-3) 0))) = ee.2.1 := by rw [eS_f h8]; exact h9.symm
    exact ⟨e9.symm, by rw [e9, h9]; decide⟩
  · skip
    refine W.widen (k := 1) (n := 7) (Nat.le_of_ble_eq_true rfl) (Nat.le_of_ble_eq_true rfl) ?_
    obtain ⟨hj_t, et_t⟩ := tB_ix hN hw_1
    rw [et_t] at hl
    refine lv_iload_n hx hb dX0_laterTold_5 rfl (lv_at hl 2 rfl) ?_
    refine lv_if_lt (tgt := 17) hx hb dX0_laterTold_6 (by decide) (fun c_2 => ?_) (fun c_2 => ?_)
    · skip
      refine lv_iconst (v := 0) hx hb dX0_laterTold_17 (by decide) ?_
      have eb_18 : (0 : Int32) = bI (decide (¬ sp < 0 ∧ ¬ mi < 0)) := bI_F (decide_eq_false (fun z => z.1 c_2))
      rw [eb_18]
      refine lv_bipush (v := (-4)) hx hb dX0_laterTold_18 (by decide) ?_
      refine y_Sv (wN := fun _ => (wX G ad ho rn ln dr ro lt rf th sb ++ wR G (ad 1) kd r ++ wR G (ad 2) k1 r1 ++ wR G (ad 3) k2 r2 ++ wK (ad 4))) (wNx := fun u9 => (wX G ad ho rn ln dr ro lt rf th sb ++ wR G (ad 1) kd r ++ wR G (ad 2) k1 r1 ++ wR G (ad 3) k2 r2 ++ wK (ad 4))) ⟨C0, hK, hP, hD, hS, hA⟩ hZ ((m_must l hl0 G (decide (¬ sp < 0 ∧ ¬ mi < 0)) (-4))) (va_cwS 2 hts (lw_S q286 q287 q86 q288) rfl rfl rfl (by decide +kernel) ⟨Nat.le_of_ble_eq_true rfl, Nat.le_of_ble_eq_true rfl⟩) [] [0, 2, 4, 6, 8, 10, 12, 14, 16, 18, 20, 22, 24, 26, 28, 30, 32, 34, 36, 38, 40, 42, 44, 46, 48, 50, 52, 54, 56, 58, 60] [0, 2, 4, 6, 8, 10, 12, 14, 16, 18, 20, 22, 24, 26, 28, 30, 32, 34, 36, 38, 40, 42, 44, 46, 48, 50, 52, 54, 56, 58, 60, 1] rfl (fun _ => rfl) (fun _ _ _ => rfl) rfl rfl rfl hl.1 rfl (Nat.le_of_ble_eq_true rfl) dX0_laterTold_20 ⟨(Nat.le_of_ble_eq_true rfl), (Nat.le_of_ble_eq_true rfl)⟩ (fun q9 u9 ee H locs hw_3 hP hD hS => ?_) (fun u_3 H locs hw_3 hP hD hS => ?_)
      · skip
        refine hthr _ _ _ _ _ _ _ q9 () ee ?_ hP hD hS (Nat.le_of_ble_eq_true rfl) (Nat.le_of_ble_eq_true rfl)
        obtain ⟨h8, h9⟩ := hw_3
        have e9 : eS (tB r t) (-1) (eS (decide (¬ sp < 0 ∧ ¬ mi < 0)) (-4) (eS (decide (sp ≤ 9 ∧ mi ≤ 99)) (-6) (eS (pSt r (ix t)) (-3) 0))) = ee.2.1 := by rw [eS_t hw_1, eS_f h8]; exact h9.symm
        exact ⟨e9.symm, by rw [e9, h9]; decide⟩
      · skip
        refine W.widen (k := 2) (n := 14) (Nat.le_of_ble_eq_true rfl) (Nat.le_of_ble_eq_true rfl) ?_
        have hz1 := hw_3
        refine lv_iload_n hx hb dX0_laterTold_23 rfl (lv_at hl 2 rfl) ?_
        refine lv_bipush (v := 9) hx hb dX0_laterTold_24 (by decide) ?_
        refine lv_icmp_gt (tgt := 39) hx hb dX0_laterTold_26 (by decide) (fun c_4 => ?_) (fun c_4 => ?_)
        · skip
          refine lv_iconst (v := 0) hx hb dX0_laterTold_39 (by decide) ?_
          have eb_40 : (0 : Int32) = bI (decide (sp ≤ 9 ∧ mi ≤ 99)) := bI_F (decide_eq_false (fun z => absurd c_4 (Int32.not_lt.mpr z.1)))
          rw [eb_40]
          refine lv_bipush (v := (-6)) hx hb dX0_laterTold_40 (by decide) ?_
          refine y_Sv (wN := fun _ => (wX G ad ho rn ln dr ro lt rf th sb ++ wR G (ad 1) kd r ++ wR G (ad 2) k1 r1 ++ wR G (ad 3) k2 r2 ++ wK (ad 4))) (wNx := fun u9 => (wX G ad ho rn ln dr ro lt rf th sb ++ wR G (ad 1) kd r ++ wR G (ad 2) k1 r1 ++ wR G (ad 3) k2 r2 ++ wK (ad 4))) ⟨C0, hK, hP, hD, hS, hA⟩ hZ ((m_must l hl0 G (decide (sp ≤ 9 ∧ mi ≤ 99)) (-6))) (va_cwS 2 hts (lw_S q286 q287 q86 q288) rfl rfl rfl (by decide +kernel) ⟨Nat.le_of_ble_eq_true rfl, Nat.le_of_ble_eq_true rfl⟩) [] [0, 2, 4, 6, 8, 10, 12, 14, 16, 18, 20, 22, 24, 26, 28, 30, 32, 34, 36, 38, 40, 42, 44, 46, 48, 50, 52, 54, 56, 58, 60] [0, 2, 4, 6, 8, 10, 12, 14, 16, 18, 20, 22, 24, 26, 28, 30, 32, 34, 36, 38, 40, 42, 44, 46, 48, 50, 52, 54, 56, 58, 60, 1] rfl (fun _ => rfl) (fun _ _ _ => rfl) rfl rfl rfl hl.1 rfl (Nat.le_of_ble_eq_true rfl) dX0_laterTold_42 ⟨(Nat.le_of_ble_eq_true rfl), (Nat.le_of_ble_eq_true rfl)⟩ (fun q9 u9 ee H locs hw_5 hP hD hS => ?_) (fun u_5 H locs hw_5 hP hD hS => ?_)
          · skip
            refine hthr _ _ _ _ _ _ _ q9 () ee ?_ hP hD hS (Nat.le_of_ble_eq_true rfl) (Nat.le_of_ble_eq_true rfl)
            obtain ⟨h8, h9⟩ := hw_5
            have e9 : eS (tB r t) (-1) (eS (decide (¬ sp < 0 ∧ ¬ mi < 0)) (-4) (eS (decide (sp ≤ 9 ∧ mi ≤ 99)) (-6) (eS (pSt r (ix t)) (-3) 0))) = ee.2.1 := by rw [eS_t hw_1, eS_t hw_3, eS_f h8]; exact h9.symm
            exact ⟨e9.symm, by rw [e9, h9]; decide⟩
          · skip
            refine W.widen (k := 3) (n := 21) (Nat.le_of_ble_eq_true rfl) (Nat.le_of_ble_eq_true rfl) ?_
            have hq1 := of_decide_eq_true hz1
            have hq2 := of_decide_eq_true hw_5
            obtain ⟨hj_mi, et_mi⟩ := nn_ix hq1.2 hq2.2
            rw [et_mi] at hl
            refine lv_aload_n hx hb dX0_laterTold_45 rfl (lv_at hl 0 rfl) ?_
            refine lv_iload_n hx hb dX0_laterTold_46 rfl (lv_at hl 1 rfl) ?_
            refine y_Vv (wN := fun _ => (wX G ad ho rn ln dr ro lt rf th sb ++ wR G (ad 1) kd r ++ wR G (ad 2) k1 r1 ++ wR G (ad 3) k2 r2 ++ wK (ad 4))) (wNx := fun u9 => (wX G ad ho rn ln dr ro lt rf th sb ++ wR G (ad 1) kd r ++ wR G (ad 2) k1 r1 ++ wR G (ad 3) k2 r2 ++ wK (ad 4))) ⟨C0, hK, hP, hD, hS, hA⟩ hZ 0 rfl (ci := 0) rfl rfl ((m_mustStandNow l hl0 G ad kd k1 k2 r r1 r2 ho rn ln dr ro lt rf th sb hr hp hk (ix t) (by omega))) (cwV 1 hts (lw_V q740 q742 qs16 q86 q743) rfl rfl rfl (by decide +kernel) ⟨Nat.le_of_ble_eq_true rfl, Nat.le_of_ble_eq_true rfl⟩) [0, 1, 2, 3, 4, 5, 6, 7, 8, 9, 10, 11, 12, 13, 14, 15, 16, 17, 18, 19, 20, 21, 22, 23, 24, 25, 26, 27, 28, 29, 30] [1, 3, 5, 7, 9, 11, 13, 15, 17, 19, 21, 23, 25, 27, 29, 31, 33, 35, 37, 39, 41, 43, 45, 47, 49, 51, 53, 55, 57, 59, 61] [1, 3, 5, 7, 9, 11, 13, 15, 17, 19, 21, 23, 25, 27, 29, 31, 33, 35, 37, 39, 41, 43, 45, 47, 49, 51, 53, 55, 57, 59, 61, 63] rfl (fun _ => rfl) (fun _ _ _ => rfl) rfl rfl rfl hl.1 rfl (Nat.le_of_ble_eq_true rfl) dX0_laterTold_47 ⟨(Nat.le_of_ble_eq_true rfl), (Nat.le_of_ble_eq_true rfl)⟩ (fun q9 u9 ee H locs hw_6 hP hD hS => ?_) (fun u_6 H locs hw_6 hP hD hS => ?_)
            · skip
              refine hthr _ _ _ _ _ _ _ q9 () ee ?_ hP hD hS (Nat.le_of_ble_eq_true rfl) (Nat.le_of_ble_eq_true rfl)
              obtain ⟨h8, h9⟩ := hw_6
              have e9 : eS (tB r t) (-1) (eS (decide (¬ sp < 0 ∧ ¬ mi < 0)) (-4) (eS (decide (sp ≤ 9 ∧ mi ≤ 99)) (-6) (eS (pSt r (ix t)) (-3) 0))) = ee.2.1 := by rw [eS_t hw_1, eS_t hw_3, eS_t hw_5, eS_f h8]; exact h9.symm
              exact ⟨e9.symm, by rw [e9, h9]; decide⟩
            · skip
              refine W.widen (k := 4) (n := 28) (Nat.le_of_ble_eq_true rfl) (Nat.le_of_ble_eq_true rfl) ?_
              refine lv_aload_n hx hb dX0_laterTold_50 rfl (lv_at hl 0 rfl) ?_
              refine lv_iload_n hx hb dX0_laterTold_51 rfl (lv_at hl 1 rfl) ?_
              refine lv_iload_n hx hb dX0_laterTold_52 rfl (lv_at hl 2 rfl) ?_
              refine lv_iload_n hx hb dX0_laterTold_53 rfl (lv_at hl 3 rfl) ?_
              refine x_Vi (wN := fun u_7 => (wX G ad ho rn ln dr ro lt rf th sb ++ wR G (ad 1) kd r ++ wR G (ad 2) u_7.1 u_7.2 ++ wR G (ad 3) k2 r2 ++ wK (ad 4))) ⟨C0, hK, hP, hD, hS, hA⟩ 0 rfl (ci := 0) rfl rfl ((m_fallenLater l G ad kd k1 k2 r r1 r2 ho rn ln dr ro lt rf th sb hr hp hk (ix t) (ix mi) (by omega) (by omega) sp)) (cwV 3 hts (lw_V q857 q859 qs36 q86 q860) rfl rfl rfl (by decide +kernel) ⟨Nat.le_of_ble_eq_true rfl, Nat.le_of_ble_eq_true rfl⟩) [0, 1, 2, 3, 4, 5, 6, 7, 8, 9, 10, 11, 12, 13, 14, 15, 16, 17, 18, 19, 20, 21, 22, 23, 24, 25, 26, 27, 28, 29, 30] [1, 3, 5, 7, 9, 11, 13, 15, 17, 19, 21, 23, 25, 27, 29, 31, 33, 35, 37, 39, 41, 43, 45, 47, 49, 51, 53, 55, 57, 59, 61] rfl (fun _ => rfl) rfl rfl hl.1 rfl (Nat.le_of_ble_eq_true rfl) dX0_laterTold_54 ⟨(Nat.le_of_ble_eq_true rfl), (Nat.le_of_ble_eq_true rfl)⟩ (fun r_7 u_7 H locs hw_7 hP hD hS => ?_)
              have hw_7 : (pFL r (ix t) sp (ix mi) : Int32) = r_7 := hw_7.symm
              subst hw_7
              have hP : va_P G.1 vwCl (wX G ad ho rn ln dr ro lt rf th sb ++ wR G (ad 1) kd r ++ wR G (ad 2) u_7.1 u_7.2 ++ wR G (ad 3) k2 r2 ++ wK (ad 4)) H := hP
              have hD : va_D A (wX G ad ho rn ln dr ro lt rf th sb ++ wR G (ad 1) kd r ++ wR G (ad 2) u_7.1 u_7.2 ++ wR G (ad 3) k2 r2 ++ wK (ad 4)) := hD
              refine hret _ _ _ _ _ _ (pFL r (ix t) sp (ix mi)) (u_7.1, u_7.2) dX0_laterTold_57 ?_ hP hD hS (Nat.le_of_ble_eq_true rfl) (Nat.le_of_ble_eq_true rfl)
              refine ⟨by rw [eS_t hw_1, eS_t hw_3, eS_t hw_5, eS_t hw_6], ?_⟩
              exact rfl
        · skip
          refine lv_iload_n hx hb dX0_laterTold_29 rfl (lv_at hl 3 rfl) ?_
          refine lv_bipush (v := 99) hx hb dX0_laterTold_30 (by decide) ?_
          refine lv_icmp_gt (tgt := 39) hx hb dX0_laterTold_32 (by decide) (fun c_8 => ?_) (fun c_8 => ?_)
          · skip
            refine lv_iconst (v := 0) hx hb dX0_laterTold_39 (by decide) ?_
            have eb_40 : (0 : Int32) = bI (decide (sp ≤ 9 ∧ mi ≤ 99)) := bI_F (decide_eq_false (fun z => absurd c_8 (Int32.not_lt.mpr z.2)))
            rw [eb_40]
            refine lv_bipush (v := (-6)) hx hb dX0_laterTold_40 (by decide) ?_
            refine y_Sv (wN := fun _ => (wX G ad ho rn ln dr ro lt rf th sb ++ wR G (ad 1) kd r ++ wR G (ad 2) k1 r1 ++ wR G (ad 3) k2 r2 ++ wK (ad 4))) (wNx := fun u9 => (wX G ad ho rn ln dr ro lt rf th sb ++ wR G (ad 1) kd r ++ wR G (ad 2) k1 r1 ++ wR G (ad 3) k2 r2 ++ wK (ad 4))) ⟨C0, hK, hP, hD, hS, hA⟩ hZ ((m_must l hl0 G (decide (sp ≤ 9 ∧ mi ≤ 99)) (-6))) (va_cwS 2 hts (lw_S q286 q287 q86 q288) rfl rfl rfl (by decide +kernel) ⟨Nat.le_of_ble_eq_true rfl, Nat.le_of_ble_eq_true rfl⟩) [] [0, 2, 4, 6, 8, 10, 12, 14, 16, 18, 20, 22, 24, 26, 28, 30, 32, 34, 36, 38, 40, 42, 44, 46, 48, 50, 52, 54, 56, 58, 60] [0, 2, 4, 6, 8, 10, 12, 14, 16, 18, 20, 22, 24, 26, 28, 30, 32, 34, 36, 38, 40, 42, 44, 46, 48, 50, 52, 54, 56, 58, 60, 1] rfl (fun _ => rfl) (fun _ _ _ => rfl) rfl rfl rfl hl.1 rfl (Nat.le_of_ble_eq_true rfl) dX0_laterTold_42 ⟨(Nat.le_of_ble_eq_true rfl), (Nat.le_of_ble_eq_true rfl)⟩ (fun q9 u9 ee H locs hw_9 hP hD hS => ?_) (fun u_9 H locs hw_9 hP hD hS => ?_)
            · skip
              refine hthr _ _ _ _ _ _ _ q9 () ee ?_ hP hD hS (Nat.le_of_ble_eq_true rfl) (Nat.le_of_ble_eq_true rfl)
              obtain ⟨h8, h9⟩ := hw_9
              have e9 : eS (tB r t) (-1) (eS (decide (¬ sp < 0 ∧ ¬ mi < 0)) (-4) (eS (decide (sp ≤ 9 ∧ mi ≤ 99)) (-6) (eS (pSt r (ix t)) (-3) 0))) = ee.2.1 := by rw [eS_t hw_1, eS_t hw_3, eS_f h8]; exact h9.symm
              exact ⟨e9.symm, by rw [e9, h9]; decide⟩
            · skip
              refine W.widen (k := 3) (n := 21) (Nat.le_of_ble_eq_true rfl) (Nat.le_of_ble_eq_true rfl) ?_
              have hq1 := of_decide_eq_true hz1
              have hq2 := of_decide_eq_true hw_9
              obtain ⟨hj_mi, et_mi⟩ := nn_ix hq1.2 hq2.2
              rw [et_mi] at hl
              refine lv_aload_n hx hb dX0_laterTold_45 rfl (lv_at hl 0 rfl) ?_
              refine lv_iload_n hx hb dX0_laterTold_46 rfl (lv_at hl 1 rfl) ?_
              refine y_Vv (wN := fun _ => (wX G ad ho rn ln dr ro lt rf th sb ++ wR G (ad 1) kd r ++ wR G (ad 2) k1 r1 ++ wR G (ad 3) k2 r2 ++ wK (ad 4))) (wNx := fun u9 => (wX G ad ho rn ln dr ro lt rf th sb ++ wR G (ad 1) kd r ++ wR G (ad 2) k1 r1 ++ wR G (ad 3) k2 r2 ++ wK (ad 4))) ⟨C0, hK, hP, hD, hS, hA⟩ hZ 0 rfl (ci := 0) rfl rfl ((m_mustStandNow l hl0 G ad kd k1 k2 r r1 r2 ho rn ln dr ro lt rf th sb hr hp hk (ix t) (by omega))) (cwV 1 hts (lw_V q740 q742 qs16 q86 q743) rfl rfl rfl (by decide +kernel) ⟨Nat.le_of_ble_eq_true rfl, Nat.le_of_ble_eq_true rfl⟩) [0, 1, 2, 3, 4, 5, 6, 7, 8, 9, 10, 11, 12, 13, 14, 15, 16, 17, 18, 19, 20, 21, 22, 23, 24, 25, 26, 27, 28, 29, 30] [1, 3, 5, 7, 9, 11, 13, 15, 17, 19, 21, 23, 25, 27, 29, 31, 33, 35, 37, 39, 41, 43, 45, 47, 49, 51, 53, 55, 57, 59, 61] [1, 3, 5, 7, 9, 11, 13, 15, 17, 19, 21, 23, 25, 27, 29, 31, 33, 35, 37, 39, 41, 43, 45, 47, 49, 51, 53, 55, 57, 59, 61, 63] rfl (fun _ => rfl) (fun _ _ _ => rfl) rfl rfl rfl hl.1 rfl (Nat.le_of_ble_eq_true rfl) dX0_laterTold_47 ⟨(Nat.le_of_ble_eq_true rfl), (Nat.le_of_ble_eq_true rfl)⟩ (fun q9 u9 ee H locs hw_10 hP hD hS => ?_) (fun u_10 H locs hw_10 hP hD hS => ?_)
              · skip
                refine hthr _ _ _ _ _ _ _ q9 () ee ?_ hP hD hS (Nat.le_of_ble_eq_true rfl) (Nat.le_of_ble_eq_true rfl)
                obtain ⟨h8, h9⟩ := hw_10
                have e9 : eS (tB r t) (-1) (eS (decide (¬ sp < 0 ∧ ¬ mi < 0)) (-4) (eS (decide (sp ≤ 9 ∧ mi ≤ 99)) (-6) (eS (pSt r (ix t)) (-3) 0))) = ee.2.1 := by rw [eS_t hw_1, eS_t hw_3, eS_t hw_9, eS_f h8]; exact h9.symm
                exact ⟨e9.symm, by rw [e9, h9]; decide⟩
              · skip
                refine W.widen (k := 4) (n := 28) (Nat.le_of_ble_eq_true rfl) (Nat.le_of_ble_eq_true rfl) ?_
                refine lv_aload_n hx hb dX0_laterTold_50 rfl (lv_at hl 0 rfl) ?_
                refine lv_iload_n hx hb dX0_laterTold_51 rfl (lv_at hl 1 rfl) ?_
                refine lv_iload_n hx hb dX0_laterTold_52 rfl (lv_at hl 2 rfl) ?_
                refine lv_iload_n hx hb dX0_laterTold_53 rfl (lv_at hl 3 rfl) ?_
                refine x_Vi (wN := fun u_11 => (wX G ad ho rn ln dr ro lt rf th sb ++ wR G (ad 1) kd r ++ wR G (ad 2) u_11.1 u_11.2 ++ wR G (ad 3) k2 r2 ++ wK (ad 4))) ⟨C0, hK, hP, hD, hS, hA⟩ 0 rfl (ci := 0) rfl rfl ((m_fallenLater l G ad kd k1 k2 r r1 r2 ho rn ln dr ro lt rf th sb hr hp hk (ix t) (ix mi) (by omega) (by omega) sp)) (cwV 3 hts (lw_V q857 q859 qs36 q86 q860) rfl rfl rfl (by decide +kernel) ⟨Nat.le_of_ble_eq_true rfl, Nat.le_of_ble_eq_true rfl⟩) [0, 1, 2, 3, 4, 5, 6, 7, 8, 9, 10, 11, 12, 13, 14, 15, 16, 17, 18, 19, 20, 21, 22, 23, 24, 25, 26, 27, 28, 29, 30] [1, 3, 5, 7, 9, 11, 13, 15, 17, 19, 21, 23, 25, 27, 29, 31, 33, 35, 37, 39, 41, 43, 45, 47, 49, 51, 53, 55, 57, 59, 61] rfl (fun _ => rfl) rfl rfl hl.1 rfl (Nat.le_of_ble_eq_true rfl) dX0_laterTold_54 ⟨(Nat.le_of_ble_eq_true rfl), (Nat.le_of_ble_eq_true rfl)⟩ (fun r_11 u_11 H locs hw_11 hP hD hS => ?_)
                have hw_11 : (pFL r (ix t) sp (ix mi) : Int32) = r_11 := hw_11.symm
                subst hw_11
                have hP : va_P G.1 vwCl (wX G ad ho rn ln dr ro lt rf th sb ++ wR G (ad 1) kd r ++ wR G (ad 2) u_11.1 u_11.2 ++ wR G (ad 3) k2 r2 ++ wK (ad 4)) H := hP
                have hD : va_D A (wX G ad ho rn ln dr ro lt rf th sb ++ wR G (ad 1) kd r ++ wR G (ad 2) u_11.1 u_11.2 ++ wR G (ad 3) k2 r2 ++ wK (ad 4)) := hD
                refine hret _ _ _ _ _ _ (pFL r (ix t) sp (ix mi)) (u_11.1, u_11.2) dX0_laterTold_57 ?_ hP hD hS (Nat.le_of_ble_eq_true rfl) (Nat.le_of_ble_eq_true rfl)
                refine ⟨by rw [eS_t hw_1, eS_t hw_3, eS_t hw_9, eS_t hw_10], ?_⟩
                exact rfl
          · skip
            refine lv_iconst (v := 1) hx hb dX0_laterTold_35 (by decide) ?_
            refine lv_goto (tgt := 40) hx hb dX0_laterTold_36 (by decide) ?_
            have eb_40 : (1 : Int32) = bI (decide (sp ≤ 9 ∧ mi ≤ 99)) := bI_T (decide_eq_true (⟨Int32.not_lt.mp c_4, Int32.not_lt.mp c_8⟩))
            rw [eb_40]
            refine lv_bipush (v := (-6)) hx hb dX0_laterTold_40 (by decide) ?_
            refine y_Sv (wN := fun _ => (wX G ad ho rn ln dr ro lt rf th sb ++ wR G (ad 1) kd r ++ wR G (ad 2) k1 r1 ++ wR G (ad 3) k2 r2 ++ wK (ad 4))) (wNx := fun u9 => (wX G ad ho rn ln dr ro lt rf th sb ++ wR G (ad 1) kd r ++ wR G (ad 2) k1 r1 ++ wR G (ad 3) k2 r2 ++ wK (ad 4))) ⟨C0, hK, hP, hD, hS, hA⟩ hZ ((m_must l hl0 G (decide (sp ≤ 9 ∧ mi ≤ 99)) (-6))) (va_cwS 2 hts (lw_S q286 q287 q86 q288) rfl rfl rfl (by decide +kernel) ⟨Nat.le_of_ble_eq_true rfl, Nat.le_of_ble_eq_true rfl⟩) [] [0, 2, 4, 6, 8, 10, 12, 14, 16, 18, 20, 22, 24, 26, 28, 30, 32, 34, 36, 38, 40, 42, 44, 46, 48, 50, 52, 54, 56, 58, 60] [0, 2, 4, 6, 8, 10, 12, 14, 16, 18, 20, 22, 24, 26, 28, 30, 32, 34, 36, 38, 40, 42, 44, 46, 48, 50, 52, 54, 56, 58, 60, 1] rfl (fun _ => rfl) (fun _ _ _ => rfl) rfl rfl rfl hl.1 rfl (Nat.le_of_ble_eq_true rfl) dX0_laterTold_42 ⟨(Nat.le_of_ble_eq_true rfl), (Nat.le_of_ble_eq_true rfl)⟩ (fun q9 u9 ee H locs hw_12 hP hD hS => ?_) (fun u_12 H locs hw_12 hP hD hS => ?_)
            · skip
              refine hthr _ _ _ _ _ _ _ q9 () ee ?_ hP hD hS (Nat.le_of_ble_eq_true rfl) (Nat.le_of_ble_eq_true rfl)
              obtain ⟨h8, h9⟩ := hw_12
              have e9 : eS (tB r t) (-1) (eS (decide (¬ sp < 0 ∧ ¬ mi < 0)) (-4) (eS (decide (sp ≤ 9 ∧ mi ≤ 99)) (-6) (eS (pSt r (ix t)) (-3) 0))) = ee.2.1 := by rw [eS_t hw_1, eS_t hw_3, eS_f h8]; exact h9.symm
              exact ⟨e9.symm, by rw [e9, h9]; decide⟩
            · skip
              refine W.widen (k := 3) (n := 21) (Nat.le_of_ble_eq_true rfl) (Nat.le_of_ble_eq_true rfl) ?_
              have hq1 := of_decide_eq_true hz1
              have hq2 := of_decide_eq_true hw_12
              obtain ⟨hj_mi, et_mi⟩ := nn_ix hq1.2 hq2.2
              rw [et_mi] at hl
              refine lv_aload_n hx hb dX0_laterTold_45 rfl (lv_at hl 0 rfl) ?_
              refine lv_iload_n hx hb dX0_laterTold_46 rfl (lv_at hl 1 rfl) ?_
              refine y_Vv (wN := fun _ => (wX G ad ho rn ln dr ro lt rf th sb ++ wR G (ad 1) kd r ++ wR G (ad 2) k1 r1 ++ wR G (ad 3) k2 r2 ++ wK (ad 4))) (wNx := fun u9 => (wX G ad ho rn ln dr ro lt rf th sb ++ wR G (ad 1) kd r ++ wR G (ad 2) k1 r1 ++ wR G (ad 3) k2 r2 ++ wK (ad 4))) ⟨C0, hK, hP, hD, hS, hA⟩ hZ 0 rfl (ci := 0) rfl rfl ((m_mustStandNow l hl0 G ad kd k1 k2 r r1 r2 ho rn ln dr ro lt rf th sb hr hp hk (ix t) (by omega))) (cwV 1 hts (lw_V q740 q742 qs16 q86 q743) rfl rfl rfl (by decide +kernel) ⟨Nat.le_of_ble_eq_true rfl, Nat.le_of_ble_eq_true rfl⟩) [0, 1, 2, 3, 4, 5, 6, 7, 8, 9, 10, 11, 12, 13, 14, 15, 16, 17, 18, 19, 20, 21, 22, 23, 24, 25, 26, 27, 28, 29, 30] [1, 3, 5, 7, 9, 11, 13, 15, 17, 19, 21, 23, 25, 27, 29, 31, 33, 35, 37, 39, 41, 43, 45, 47, 49, 51, 53, 55, 57, 59, 61] [1, 3, 5, 7, 9, 11, 13, 15, 17, 19, 21, 23, 25, 27, 29, 31, 33, 35, 37, 39, 41, 43, 45, 47, 49, 51, 53, 55, 57, 59, 61, 63] rfl (fun _ => rfl) (fun _ _ _ => rfl) rfl rfl rfl hl.1 rfl (Nat.le_of_ble_eq_true rfl) dX0_laterTold_47 ⟨(Nat.le_of_ble_eq_true rfl), (Nat.le_of_ble_eq_true rfl)⟩ (fun q9 u9 ee H locs hw_13 hP hD hS => ?_) (fun u_13 H locs hw_13 hP hD hS => ?_)
              · skip
                refine hthr _ _ _ _ _ _ _ q9 () ee ?_ hP hD hS (Nat.le_of_ble_eq_true rfl) (Nat.le_of_ble_eq_true rfl)
                obtain ⟨h8, h9⟩ := hw_13
                have e9 : eS (tB r t) (-1) (eS (decide (¬ sp < 0 ∧ ¬ mi < 0)) (-4) (eS (decide (sp ≤ 9 ∧ mi ≤ 99)) (-6) (eS (pSt r (ix t)) (-3) 0))) = ee.2.1 := by rw [eS_t hw_1, eS_t hw_3, eS_t hw_12, eS_f h8]; exact h9.symm
                exact ⟨e9.symm, by rw [e9, h9]; decide⟩
              · skip
                refine W.widen (k := 4) (n := 28) (Nat.le_of_ble_eq_true rfl) (Nat.le_of_ble_eq_true rfl) ?_
                refine lv_aload_n hx hb dX0_laterTold_50 rfl (lv_at hl 0 rfl) ?_
                refine lv_iload_n hx hb dX0_laterTold_51 rfl (lv_at hl 1 rfl) ?_
                refine lv_iload_n hx hb dX0_laterTold_52 rfl (lv_at hl 2 rfl) ?_
                refine lv_iload_n hx hb dX0_laterTold_53 rfl (lv_at hl 3 rfl) ?_
                refine x_Vi (wN := fun u_14 => (wX G ad ho rn ln dr ro lt rf th sb ++ wR G (ad 1) kd r ++ wR G (ad 2) u_14.1 u_14.2 ++ wR G (ad 3) k2 r2 ++ wK (ad 4))) ⟨C0, hK, hP, hD, hS, hA⟩ 0 rfl (ci := 0) rfl rfl ((m_fallenLater l G ad kd k1 k2 r r1 r2 ho rn ln dr ro lt rf th sb hr hp hk (ix t) (ix mi) (by omega) (by omega) sp)) (cwV 3 hts (lw_V q857 q859 qs36 q86 q860) rfl rfl rfl (by decide +kernel) ⟨Nat.le_of_ble_eq_true rfl, Nat.le_of_ble_eq_true rfl⟩) [0, 1, 2, 3, 4, 5, 6, 7, 8, 9, 10, 11, 12, 13, 14, 15, 16, 17, 18, 19, 20, 21, 22, 23, 24, 25, 26, 27, 28, 29, 30] [1, 3, 5, 7, 9, 11, 13, 15, 17, 19, 21, 23, 25, 27, 29, 31, 33, 35, 37, 39, 41, 43, 45, 47, 49, 51, 53, 55, 57, 59, 61] rfl (fun _ => rfl) rfl rfl hl.1 rfl (Nat.le_of_ble_eq_true rfl) dX0_laterTold_54 ⟨(Nat.le_of_ble_eq_true rfl), (Nat.le_of_ble_eq_true rfl)⟩ (fun r_14 u_14 H locs hw_14 hP hD hS => ?_)
                have hw_14 : (pFL r (ix t) sp (ix mi) : Int32) = r_14 := hw_14.symm
                subst hw_14
                have hP : va_P G.1 vwCl (wX G ad ho rn ln dr ro lt rf th sb ++ wR G (ad 1) kd r ++ wR G (ad 2) u_14.1 u_14.2 ++ wR G (ad 3) k2 r2 ++ wK (ad 4)) H := hP
                have hD : va_D A (wX G ad ho rn ln dr ro lt rf th sb ++ wR G (ad 1) kd r ++ wR G (ad 2) u_14.1 u_14.2 ++ wR G (ad 3) k2 r2 ++ wK (ad 4)) := hD
                refine hret _ _ _ _ _ _ (pFL r (ix t) sp (ix mi)) (u_14.1, u_14.2) dX0_laterTold_57 ?_ hP hD hS (Nat.le_of_ble_eq_true rfl) (Nat.le_of_ble_eq_true rfl)
                refine ⟨by rw [eS_t hw_1, eS_t hw_3, eS_t hw_12, eS_t hw_13], ?_⟩
                exact rfl
    · skip
      refine lv_iload_n hx hb dX0_laterTold_9 rfl (lv_at hl 3 rfl) ?_
      refine lv_if_lt (tgt := 17) hx hb dX0_laterTold_10 (by decide) (fun c_15 => ?_) (fun c_15 => ?_)
      · skip
        refine lv_iconst (v := 0) hx hb dX0_laterTold_17 (by decide) ?_
        have eb_18 : (0 : Int32) = bI (decide (¬ sp < 0 ∧ ¬ mi < 0)) := bI_F (decide_eq_false (fun z => z.2 c_15))
        rw [eb_18]
        refine lv_bipush (v := (-4)) hx hb dX0_laterTold_18 (by decide) ?_
        refine y_Sv (wN := fun _ => (wX G ad ho rn ln dr ro lt rf th sb ++ wR G (ad 1) kd r ++ wR G (ad 2) k1 r1 ++ wR G (ad 3) k2 r2 ++ wK (ad 4))) (wNx := fun u9 => (wX G ad ho rn ln dr ro lt rf th sb ++ wR G (ad 1) kd r ++ wR G (ad 2) k1 r1 ++ wR G (ad 3) k2 r2 ++ wK (ad 4))) ⟨C0, hK, hP, hD, hS, hA⟩ hZ ((m_must l hl0 G (decide (¬ sp < 0 ∧ ¬ mi < 0)) (-4))) (va_cwS 2 hts (lw_S q286 q287 q86 q288) rfl rfl rfl (by decide +kernel) ⟨Nat.le_of_ble_eq_true rfl, Nat.le_of_ble_eq_true rfl⟩) [] [0, 2, 4, 6, 8, 10, 12, 14, 16, 18, 20, 22, 24, 26, 28, 30, 32, 34, 36, 38, 40, 42, 44, 46, 48, 50, 52, 54, 56, 58, 60] [0, 2, 4, 6, 8, 10, 12, 14, 16, 18, 20, 22, 24, 26, 28, 30, 32, 34, 36, 38, 40, 42, 44, 46, 48, 50, 52, 54, 56, 58, 60, 1] rfl (fun _ => rfl) (fun _ _ _ => rfl) rfl rfl rfl hl.1 rfl (Nat.le_of_ble_eq_true rfl) dX0_laterTold_20 ⟨(Nat.le_of_ble_eq_true rfl), (Nat.le_of_ble_eq_true rfl)⟩ (fun q9 u9 ee H locs hw_16 hP hD hS => ?_) (fun u_16 H locs hw_16 hP hD hS => ?_)
        · skip
          refine hthr _ _ _ _ _ _ _ q9 () ee ?_ hP hD hS (Nat.le_of_ble_eq_true rfl) (Nat.le_of_ble_eq_true rfl)
          obtain ⟨h8, h9⟩ := hw_16
          have e9 : eS (tB r t) (-1) (eS (decide (¬ sp < 0 ∧ ¬ mi < 0)) (-4) (eS (decide (sp ≤ 9 ∧ mi ≤ 99)) (-6) (eS (pSt r (ix t)) (-3) 0))) = ee.2.1 := by rw [eS_t hw_1, eS_f h8]; exact h9.symm
          exact ⟨e9.symm, by rw [e9, h9]; decide⟩
        · skip
          refine W.widen (k := 2) (n := 14) (Nat.le_of_ble_eq_true rfl) (Nat.le_of_ble_eq_true rfl) ?_
          have hz1 := hw_16
          refine lv_iload_n hx hb dX0_laterTold_23 rfl (lv_at hl 2 rfl) ?_
          refine lv_bipush (v := 9) hx hb dX0_laterTold_24 (by decide) ?_
          refine lv_icmp_gt (tgt := 39) hx hb dX0_laterTold_26 (by decide) (fun c_17 => ?_) (fun c_17 => ?_)
          · skip
            refine lv_iconst (v := 0) hx hb dX0_laterTold_39 (by decide) ?_
            have eb_40 : (0 : Int32) = bI (decide (sp ≤ 9 ∧ mi ≤ 99)) := bI_F (decide_eq_false (fun z => absurd c_17 (Int32.not_lt.mpr z.1)))
            rw [eb_40]
            refine lv_bipush (v := (-6)) hx hb dX0_laterTold_40 (by decide) ?_
            refine y_Sv (wN := fun _ => (wX G ad ho rn ln dr ro lt rf th sb ++ wR G (ad 1) kd r ++ wR G (ad 2) k1 r1 ++ wR G (ad 3) k2 r2 ++ wK (ad 4))) (wNx := fun u9 => (wX G ad ho rn ln dr ro lt rf th sb ++ wR G (ad 1) kd r ++ wR G (ad 2) k1 r1 ++ wR G (ad 3) k2 r2 ++ wK (ad 4))) ⟨C0, hK, hP, hD, hS, hA⟩ hZ ((m_must l hl0 G (decide (sp ≤ 9 ∧ mi ≤ 99)) (-6))) (va_cwS 2 hts (lw_S q286 q287 q86 q288) rfl rfl rfl (by decide +kernel) ⟨Nat.le_of_ble_eq_true rfl, Nat.le_of_ble_eq_true rfl⟩) [] [0, 2, 4, 6, 8, 10, 12, 14, 16, 18, 20, 22, 24, 26, 28, 30, 32, 34, 36, 38, 40, 42, 44, 46, 48, 50, 52, 54, 56, 58, 60] [0, 2, 4, 6, 8, 10, 12, 14, 16, 18, 20, 22, 24, 26, 28, 30, 32, 34, 36, 38, 40, 42, 44, 46, 48, 50, 52, 54, 56, 58, 60, 1] rfl (fun _ => rfl) (fun _ _ _ => rfl) rfl rfl rfl hl.1 rfl (Nat.le_of_ble_eq_true rfl) dX0_laterTold_42 ⟨(Nat.le_of_ble_eq_true rfl), (Nat.le_of_ble_eq_true rfl)⟩ (fun q9 u9 ee H locs hw_18 hP hD hS => ?_) (fun u_18 H locs hw_18 hP hD hS => ?_)
            · skip
              refine hthr _ _ _ _ _ _ _ q9 () ee ?_ hP hD hS (Nat.le_of_ble_eq_true rfl) (Nat.le_of_ble_eq_true rfl)
              obtain ⟨h8, h9⟩ := hw_18
              have e9 : eS (tB r t) (-1) (eS (decide (¬ sp < 0 ∧ ¬ mi < 0)) (-4) (eS (decide (sp ≤ 9 ∧ mi ≤ 99)) (-6) (eS (pSt r (ix t)) (-3) 0))) = ee.2.1 := by rw [eS_t hw_1, eS_t hw_16, eS_f h8]; exact h9.symm
              exact ⟨e9.symm, by rw [e9, h9]; decide⟩
            · skip
              refine W.widen (k := 3) (n := 21) (Nat.le_of_ble_eq_true rfl) (Nat.le_of_ble_eq_true rfl) ?_
              have hq1 := of_decide_eq_true hz1
              have hq2 := of_decide_eq_true hw_18
              obtain ⟨hj_mi, et_mi⟩ := nn_ix hq1.2 hq2.2
              rw [et_mi] at hl
              refine lv_aload_n hx hb dX0_laterTold_45 rfl (lv_at hl 0 rfl) ?_
              refine lv_iload_n hx hb dX0_laterTold_46 rfl (lv_at hl 1 rfl) ?_
              refine y_Vv (wN := fun _ => (wX G ad ho rn ln dr ro lt rf th sb ++ wR G (ad 1) kd r ++ wR G (ad 2) k1 r1 ++ wR G (ad 3) k2 r2 ++ wK (ad 4))) (wNx := fun u9 => (wX G ad ho rn ln dr ro lt rf th sb ++ wR G (ad 1) kd r ++ wR G (ad 2) k1 r1 ++ wR G (ad 3) k2 r2 ++ wK (ad 4))) ⟨C0, hK, hP, hD, hS, hA⟩ hZ 0 rfl (ci := 0) rfl rfl ((m_mustStandNow l hl0 G ad kd k1 k2 r r1 r2 ho rn ln dr ro lt rf th sb hr hp hk (ix t) (by omega))) (cwV 1 hts (lw_V q740 q742 qs16 q86 q743) rfl rfl rfl (by decide +kernel) ⟨Nat.le_of_ble_eq_true rfl, Nat.le_of_ble_eq_true rfl⟩) [0, 1, 2, 3, 4, 5, 6, 7, 8, 9, 10, 11, 12, 13, 14, 15, 16, 17, 18, 19, 20, 21, 22, 23, 24, 25, 26, 27, 28, 29, 30] [1, 3, 5, 7, 9, 11, 13, 15, 17, 19, 21, 23, 25, 27, 29, 31, 33, 35, 37, 39, 41, 43, 45, 47, 49, 51, 53, 55, 57, 59, 61] [1, 3, 5, 7, 9, 11, 13, 15, 17, 19, 21, 23, 25, 27, 29, 31, 33, 35, 37, 39, 41, 43, 45, 47, 49, 51, 53, 55, 57, 59, 61, 63] rfl (fun _ => rfl) (fun _ _ _ => rfl) rfl rfl rfl hl.1 rfl (Nat.le_of_ble_eq_true rfl) dX0_laterTold_47 ⟨(Nat.le_of_ble_eq_true rfl), (Nat.le_of_ble_eq_true rfl)⟩ (fun q9 u9 ee H locs hw_19 hP hD hS => ?_) (fun u_19 H locs hw_19 hP hD hS => ?_)
              · skip
                refine hthr _ _ _ _ _ _ _ q9 () ee ?_ hP hD hS (Nat.le_of_ble_eq_true rfl) (Nat.le_of_ble_eq_true rfl)
                obtain ⟨h8, h9⟩ := hw_19
                have e9 : eS (tB r t) (-1) (eS (decide (¬ sp < 0 ∧ ¬ mi < 0)) (-4) (eS (decide (sp ≤ 9 ∧ mi ≤ 99)) (-6) (eS (pSt r (ix t)) (-3) 0))) = ee.2.1 := by rw [eS_t hw_1, eS_t hw_16, eS_t hw_18, eS_f h8]; exact h9.symm
                exact ⟨e9.symm, by rw [e9, h9]; decide⟩
              · skip
                refine W.widen (k := 4) (n := 28) (Nat.le_of_ble_eq_true rfl) (Nat.le_of_ble_eq_true rfl) ?_
                refine lv_aload_n hx hb dX0_laterTold_50 rfl (lv_at hl 0 rfl) ?_
                refine lv_iload_n hx hb dX0_laterTold_51 rfl (lv_at hl 1 rfl) ?_
                refine lv_iload_n hx hb dX0_laterTold_52 rfl (lv_at hl 2 rfl) ?_
                refine lv_iload_n hx hb dX0_laterTold_53 rfl (lv_at hl 3 rfl) ?_
                refine x_Vi (wN := fun u_20 => (wX G ad ho rn ln dr ro lt rf th sb ++ wR G (ad 1) kd r ++ wR G (ad 2) u_20.1 u_20.2 ++ wR G (ad 3) k2 r2 ++ wK (ad 4))) ⟨C0, hK, hP, hD, hS, hA⟩ 0 rfl (ci := 0) rfl rfl ((m_fallenLater l G ad kd k1 k2 r r1 r2 ho rn ln dr ro lt rf th sb hr hp hk (ix t) (ix mi) (by omega) (by omega) sp)) (cwV 3 hts (lw_V q857 q859 qs36 q86 q860) rfl rfl rfl (by decide +kernel) ⟨Nat.le_of_ble_eq_true rfl, Nat.le_of_ble_eq_true rfl⟩) [0, 1, 2, 3, 4, 5, 6, 7, 8, 9, 10, 11, 12, 13, 14, 15, 16, 17, 18, 19, 20, 21, 22, 23, 24, 25, 26, 27, 28, 29, 30] [1, 3, 5, 7, 9, 11, 13, 15, 17, 19, 21, 23, 25, 27, 29, 31, 33, 35, 37, 39, 41, 43, 45, 47, 49, 51, 53, 55, 57, 59, 61] rfl (fun _ => rfl) rfl rfl hl.1 rfl (Nat.le_of_ble_eq_true rfl) dX0_laterTold_54 ⟨(Nat.le_of_ble_eq_true rfl), (Nat.le_of_ble_eq_true rfl)⟩ (fun r_20 u_20 H locs hw_20 hP hD hS => ?_)
                have hw_20 : (pFL r (ix t) sp (ix mi) : Int32) = r_20 := hw_20.symm
                subst hw_20
                have hP : va_P G.1 vwCl (wX G ad ho rn ln dr ro lt rf th sb ++ wR G (ad 1) kd r ++ wR G (ad 2) u_20.1 u_20.2 ++ wR G (ad 3) k2 r2 ++ wK (ad 4)) H := hP
                have hD : va_D A (wX G ad ho rn ln dr ro lt rf th sb ++ wR G (ad 1) kd r ++ wR G (ad 2) u_20.1 u_20.2 ++ wR G (ad 3) k2 r2 ++ wK (ad 4)) := hD
                refine hret _ _ _ _ _ _ (pFL r (ix t) sp (ix mi)) (u_20.1, u_20.2) dX0_laterTold_57 ?_ hP hD hS (Nat.le_of_ble_eq_true rfl) (Nat.le_of_ble_eq_true rfl)
                refine ⟨by rw [eS_t hw_1, eS_t hw_16, eS_t hw_18, eS_t hw_19], ?_⟩
                exact rfl
          · skip
            refine lv_iload_n hx hb dX0_laterTold_29 rfl (lv_at hl 3 rfl) ?_
            refine lv_bipush (v := 99) hx hb dX0_laterTold_30 (by decide) ?_
            refine lv_icmp_gt (tgt := 39) hx hb dX0_laterTold_32 (by decide) (fun c_21 => ?_) (fun c_21 => ?_)
            · skip
              refine lv_iconst (v := 0) hx hb dX0_laterTold_39 (by decide) ?_
              have eb_40 : (0 : Int32) = bI (decide (sp ≤ 9 ∧ mi ≤ 99)) := bI_F (decide_eq_false (fun z => absurd c_21 (Int32.not_lt.mpr z.2)))
              rw [eb_40]
              refine lv_bipush (v := (-6)) hx hb dX0_laterTold_40 (by decide) ?_
              refine y_Sv (wN := fun _ => (wX G ad ho rn ln dr ro lt rf th sb ++ wR G (ad 1) kd r ++ wR G (ad 2) k1 r1 ++ wR G (ad 3) k2 r2 ++ wK (ad 4))) (wNx := fun u9 => (wX G ad ho rn ln dr ro lt rf th sb ++ wR G (ad 1) kd r ++ wR G (ad 2) k1 r1 ++ wR G (ad 3) k2 r2 ++ wK (ad 4))) ⟨C0, hK, hP, hD, hS, hA⟩ hZ ((m_must l hl0 G (decide (sp ≤ 9 ∧ mi ≤ 99)) (-6))) (va_cwS 2 hts (lw_S q286 q287 q86 q288) rfl rfl rfl (by decide +kernel) ⟨Nat.le_of_ble_eq_true rfl, Nat.le_of_ble_eq_true rfl⟩) [] [0, 2, 4, 6, 8, 10, 12, 14, 16, 18, 20, 22, 24, 26, 28, 30, 32, 34, 36, 38, 40, 42, 44, 46, 48, 50, 52, 54, 56, 58, 60] [0, 2, 4, 6, 8, 10, 12, 14, 16, 18, 20, 22, 24, 26, 28, 30, 32, 34, 36, 38, 40, 42, 44, 46, 48, 50, 52, 54, 56, 58, 60, 1] rfl (fun _ => rfl) (fun _ _ _ => rfl) rfl rfl rfl hl.1 rfl (Nat.le_of_ble_eq_true rfl) dX0_laterTold_42 ⟨(Nat.le_of_ble_eq_true rfl), (Nat.le_of_ble_eq_true rfl)⟩ (fun q9 u9 ee H locs hw_22 hP hD hS => ?_) (fun u_22 H locs hw_22 hP hD hS => ?_)
              · skip
                refine hthr _ _ _ _ _ _ _ q9 () ee ?_ hP hD hS (Nat.le_of_ble_eq_true rfl) (Nat.le_of_ble_eq_true rfl)
                obtain ⟨h8, h9⟩ := hw_22
                have e9 : eS (tB r t) (-1) (eS (decide (¬ sp < 0 ∧ ¬ mi < 0)) (-4) (eS (decide (sp ≤ 9 ∧ mi ≤ 99)) (-6) (eS (pSt r (ix t)) (-3) 0))) = ee.2.1 := by rw [eS_t hw_1, eS_t hw_16, eS_f h8]; exact h9.symm
                exact ⟨e9.symm, by rw [e9, h9]; decide⟩
              · skip
                refine W.widen (k := 3) (n := 21) (Nat.le_of_ble_eq_true rfl) (Nat.le_of_ble_eq_true rfl) ?_
                have hq1 := of_decide_eq_true hz1
                have hq2 := of_decide_eq_true hw_22
                obtain ⟨hj_mi, et_mi⟩ := nn_ix hq1.2 hq2.2
                rw [et_mi] at hl
                refine lv_aload_n hx hb dX0_laterTold_45 rfl (lv_at hl 0 rfl) ?_
                refine lv_iload_n hx hb dX0_laterTold_46 rfl (lv_at hl 1 rfl) ?_
                refine y_Vv (wN := fun _ => (wX G ad ho rn ln dr ro lt rf th sb ++ wR G (ad 1) kd r ++ wR G (ad 2) k1 r1 ++ wR G (ad 3) k2 r2 ++ wK (ad 4))) (wNx := fun u9 => (wX G ad ho rn ln dr ro lt rf th sb ++ wR G (ad 1) kd r ++ wR G (ad 2) k1 r1 ++ wR G (ad 3) k2 r2 ++ wK (ad 4))) ⟨C0, hK, hP, hD, hS, hA⟩ hZ 0 rfl (ci := 0) rfl rfl ((m_mustStandNow l hl0 G ad kd k1 k2 r r1 r2 ho rn ln dr ro lt rf th sb hr hp hk (ix t) (by omega))) (cwV 1 hts (lw_V q740 q742 qs16 q86 q743) rfl rfl rfl (by decide +kernel) ⟨Nat.le_of_ble_eq_true rfl, Nat.le_of_ble_eq_true rfl⟩) [0, 1, 2, 3, 4, 5, 6, 7, 8, 9, 10, 11, 12, 13, 14, 15, 16, 17, 18, 19, 20, 21, 22, 23, 24, 25, 26, 27, 28, 29, 30] [1, 3, 5, 7, 9, 11, 13, 15, 17, 19, 21, 23, 25, 27, 29, 31, 33, 35, 37, 39, 41, 43, 45, 47, 49, 51, 53, 55, 57, 59, 61] [1, 3, 5, 7, 9, 11, 13, 15, 17, 19, 21, 23, 25, 27, 29, 31, 33, 35, 37, 39, 41, 43, 45, 47, 49, 51, 53, 55, 57, 59, 61, 63] rfl (fun _ => rfl) (fun _ _ _ => rfl) rfl rfl rfl hl.1 rfl (Nat.le_of_ble_eq_true rfl) dX0_laterTold_47 ⟨(Nat.le_of_ble_eq_true rfl), (Nat.le_of_ble_eq_true rfl)⟩ (fun q9 u9 ee H locs hw_23 hP hD hS => ?_) (fun u_23 H locs hw_23 hP hD hS => ?_)
                · skip
                  refine hthr _ _ _ _ _ _ _ q9 () ee ?_ hP hD hS (Nat.le_of_ble_eq_true rfl) (Nat.le_of_ble_eq_true rfl)
                  obtain ⟨h8, h9⟩ := hw_23
                  have e9 : eS (tB r t) (-1) (eS (decide (¬ sp < 0 ∧ ¬ mi < 0)) (-4) (eS (decide (sp ≤ 9 ∧ mi ≤ 99)) (-6) (eS (pSt r (ix t)) (-3) 0))) = ee.2.1 := by rw [eS_t hw_1, eS_t hw_16, eS_t hw_22, eS_f h8]; exact h9.symm
                  exact ⟨e9.symm, by rw [e9, h9]; decide⟩
                · skip
                  refine W.widen (k := 4) (n := 28) (Nat.le_of_ble_eq_true rfl) (Nat.le_of_ble_eq_true rfl) ?_
                  refine lv_aload_n hx hb dX0_laterTold_50 rfl (lv_at hl 0 rfl) ?_
                  refine lv_iload_n hx hb dX0_laterTold_51 rfl (lv_at hl 1 rfl) ?_
                  refine lv_iload_n hx hb dX0_laterTold_52 rfl (lv_at hl 2 rfl) ?_
                  refine lv_iload_n hx hb dX0_laterTold_53 rfl (lv_at hl 3 rfl) ?_
                  refine x_Vi (wN := fun u_24 => (wX G ad ho rn ln dr ro lt rf th sb ++ wR G (ad 1) kd r ++ wR G (ad 2) u_24.1 u_24.2 ++ wR G (ad 3) k2 r2 ++ wK (ad 4))) ⟨C0, hK, hP, hD, hS, hA⟩ 0 rfl (ci := 0) rfl rfl ((m_fallenLater l G ad kd k1 k2 r r1 r2 ho rn ln dr ro lt rf th sb hr hp hk (ix t) (ix mi) (by omega) (by omega) sp)) (cwV 3 hts (lw_V q857 q859 qs36 q86 q860) rfl rfl rfl (by decide +kernel) ⟨Nat.le_of_ble_eq_true rfl, Nat.le_of_ble_eq_true rfl⟩) [0, 1, 2, 3, 4, 5, 6, 7, 8, 9, 10, 11, 12, 13, 14, 15, 16, 17, 18, 19, 20, 21, 22, 23, 24, 25, 26, 27, 28, 29, 30] [1, 3, 5, 7, 9, 11, 13, 15, 17, 19, 21, 23, 25, 27, 29, 31, 33, 35, 37, 39, 41, 43, 45, 47, 49, 51, 53, 55, 57, 59, 61] rfl (fun _ => rfl) rfl rfl hl.1 rfl (Nat.le_of_ble_eq_true rfl) dX0_laterTold_54 ⟨(Nat.le_of_ble_eq_true rfl), (Nat.le_of_ble_eq_true rfl)⟩ (fun r_24 u_24 H locs hw_24 hP hD hS => ?_)
                  have hw_24 : (pFL r (ix t) sp (ix mi) : Int32) = r_24 := hw_24.symm
                  subst hw_24
                  have hP : va_P G.1 vwCl (wX G ad ho rn ln dr ro lt rf th sb ++ wR G (ad 1) kd r ++ wR G (ad 2) u_24.1 u_24.2 ++ wR G (ad 3) k2 r2 ++ wK (ad 4)) H := hP
                  have hD : va_D A (wX G ad ho rn ln dr ro lt rf th sb ++ wR G (ad 1) kd r ++ wR G (ad 2) u_24.1 u_24.2 ++ wR G (ad 3) k2 r2 ++ wK (ad 4)) := hD
                  refine hret _ _ _ _ _ _ (pFL r (ix t) sp (ix mi)) (u_24.1, u_24.2) dX0_laterTold_57 ?_ hP hD hS (Nat.le_of_ble_eq_true rfl) (Nat.le_of_ble_eq_true rfl)
                  refine ⟨by rw [eS_t hw_1, eS_t hw_16, eS_t hw_22, eS_t hw_23], ?_⟩
                  exact rfl
            · skip
              refine lv_iconst (v := 1) hx hb dX0_laterTold_35 (by decide) ?_
              refine lv_goto (tgt := 40) hx hb dX0_laterTold_36 (by decide) ?_
              have eb_40 : (1 : Int32) = bI (decide (sp ≤ 9 ∧ mi ≤ 99)) := bI_T (decide_eq_true (⟨Int32.not_lt.mp c_17, Int32.not_lt.mp c_21⟩))
              rw [eb_40]
              refine lv_bipush (v := (-6)) hx hb dX0_laterTold_40 (by decide) ?_
              refine y_Sv (wN := fun _ => (wX G ad ho rn ln dr ro lt rf th sb ++ wR G (ad 1) kd r ++ wR G (ad 2) k1 r1 ++ wR G (ad 3) k2 r2 ++ wK (ad 4))) (wNx := fun u9 => (wX G ad ho rn ln dr ro lt rf th sb ++ wR G (ad 1) kd r ++ wR G (ad 2) k1 r1 ++ wR G (ad 3) k2 r2 ++ wK (ad 4))) ⟨C0, hK, hP, hD, hS, hA⟩ hZ ((m_must l hl0 G (decide (sp ≤ 9 ∧ mi ≤ 99)) (-6))) (va_cwS 2 hts (lw_S q286 q287 q86 q288) rfl rfl rfl (by decide +kernel) ⟨Nat.le_of_ble_eq_true rfl, Nat.le_of_ble_eq_true rfl⟩) [] [0, 2, 4, 6, 8, 10, 12, 14, 16, 18, 20, 22, 24, 26, 28, 30, 32, 34, 36, 38, 40, 42, 44, 46, 48, 50, 52, 54, 56, 58, 60] [0, 2, 4, 6, 8, 10, 12, 14, 16, 18, 20, 22, 24, 26, 28, 30, 32, 34, 36, 38, 40, 42, 44, 46, 48, 50, 52, 54, 56, 58, 60, 1] rfl (fun _ => rfl) (fun _ _ _ => rfl) rfl rfl rfl hl.1 rfl (Nat.le_of_ble_eq_true rfl) dX0_laterTold_42 ⟨(Nat.le_of_ble_eq_true rfl), (Nat.le_of_ble_eq_true rfl)⟩ (fun q9 u9 ee H locs hw_25 hP hD hS => ?_) (fun u_25 H locs hw_25 hP hD hS => ?_)
              · skip
                refine hthr _ _ _ _ _ _ _ q9 () ee ?_ hP hD hS (Nat.le_of_ble_eq_true rfl) (Nat.le_of_ble_eq_true rfl)
                obtain ⟨h8, h9⟩ := hw_25
                have e9 : eS (tB r t) (-1) (eS (decide (¬ sp < 0 ∧ ¬ mi < 0)) (-4) (eS (decide (sp ≤ 9 ∧ mi ≤ 99)) (-6) (eS (pSt r (ix t)) (-3) 0))) = ee.2.1 := by rw [eS_t hw_1, eS_t hw_16, eS_f h8]; exact h9.symm
                exact ⟨e9.symm, by rw [e9, h9]; decide⟩
              · skip
                refine W.widen (k := 3) (n := 21) (Nat.le_of_ble_eq_true rfl) (Nat.le_of_ble_eq_true rfl) ?_
                have hq1 := of_decide_eq_true hz1
                have hq2 := of_decide_eq_true hw_25
                obtain ⟨hj_mi, et_mi⟩ := nn_ix hq1.2 hq2.2
                rw [et_mi] at hl
                refine lv_aload_n hx hb dX0_laterTold_45 rfl (lv_at hl 0 rfl) ?_
                refine lv_iload_n hx hb dX0_laterTold_46 rfl (lv_at hl 1 rfl) ?_
                refine y_Vv (wN := fun _ => (wX G ad ho rn ln dr ro lt rf th sb ++ wR G (ad 1) kd r ++ wR G (ad 2) k1 r1 ++ wR G (ad 3) k2 r2 ++ wK (ad 4))) (wNx := fun u9 => (wX G ad ho rn ln dr ro lt rf th sb ++ wR G (ad 1) kd r ++ wR G (ad 2) k1 r1 ++ wR G (ad 3) k2 r2 ++ wK (ad 4))) ⟨C0, hK, hP, hD, hS, hA⟩ hZ 0 rfl (ci := 0) rfl rfl ((m_mustStandNow l hl0 G ad kd k1 k2 r r1 r2 ho rn ln dr ro lt rf th sb hr hp hk (ix t) (by omega))) (cwV 1 hts (lw_V q740 q742 qs16 q86 q743) rfl rfl rfl (by decide +kernel) ⟨Nat.le_of_ble_eq_true rfl, Nat.le_of_ble_eq_true rfl⟩) [0, 1, 2, 3, 4, 5, 6, 7, 8, 9, 10, 11, 12, 13, 14, 15, 16, 17, 18, 19, 20, 21, 22, 23, 24, 25, 26, 27, 28, 29, 30] [1, 3, 5, 7, 9, 11, 13, 15, 17, 19, 21, 23, 25, 27, 29, 31, 33, 35, 37, 39, 41, 43, 45, 47, 49, 51, 53, 55, 57, 59, 61] [1, 3, 5, 7, 9, 11, 13, 15, 17, 19, 21, 23, 25, 27, 29, 31, 33, 35, 37, 39, 41, 43, 45, 47, 49, 51, 53, 55, 57, 59, 61, 63] rfl (fun _ => rfl) (fun _ _ _ => rfl) rfl rfl rfl hl.1 rfl (Nat.le_of_ble_eq_true rfl) dX0_laterTold_47 ⟨(Nat.le_of_ble_eq_true rfl), (Nat.le_of_ble_eq_true rfl)⟩ (fun q9 u9 ee H locs hw_26 hP hD hS => ?_) (fun u_26 H locs hw_26 hP hD hS => ?_)
                · skip
                  refine hthr _ _ _ _ _ _ _ q9 () ee ?_ hP hD hS (Nat.le_of_ble_eq_true rfl) (Nat.le_of_ble_eq_true rfl)
                  obtain ⟨h8, h9⟩ := hw_26
                  have e9 : eS (tB r t) (-1) (eS (decide (¬ sp < 0 ∧ ¬ mi < 0)) (-4) (eS (decide (sp ≤ 9 ∧ mi ≤ 99)) (-6) (eS (pSt r (ix t)) (-3) 0))) = ee.2.1 := by rw [eS_t hw_1, eS_t hw_16, eS_t hw_25, eS_f h8]; exact h9.symm
                  exact ⟨e9.symm, by rw [e9, h9]; decide⟩
                · skip
                  refine W.widen (k := 4) (n := 28) (Nat.le_of_ble_eq_true rfl) (Nat.le_of_ble_eq_true rfl) ?_
                  refine lv_aload_n hx hb dX0_laterTold_50 rfl (lv_at hl 0 rfl) ?_
                  refine lv_iload_n hx hb dX0_laterTold_51 rfl (lv_at hl 1 rfl) ?_
                  refine lv_iload_n hx hb dX0_laterTold_52 rfl (lv_at hl 2 rfl) ?_
                  refine lv_iload_n hx hb dX0_laterTold_53 rfl (lv_at hl 3 rfl) ?_
                  refine x_Vi (wN := fun u_27 => (wX G ad ho rn ln dr ro lt rf th sb ++ wR G (ad 1) kd r ++ wR G (ad 2) u_27.1 u_27.2 ++ wR G (ad 3) k2 r2 ++ wK (ad 4))) ⟨C0, hK, hP, hD, hS, hA⟩ 0 rfl (ci := 0) rfl rfl ((m_fallenLater l G ad kd k1 k2 r r1 r2 ho rn ln dr ro lt rf th sb hr hp hk (ix t) (ix mi) (by omega) (by omega) sp)) (cwV 3 hts (lw_V q857 q859 qs36 q86 q860) rfl rfl rfl (by decide +kernel) ⟨Nat.le_of_ble_eq_true rfl, Nat.le_of_ble_eq_true rfl⟩) [0, 1, 2, 3, 4, 5, 6, 7, 8, 9, 10, 11, 12, 13, 14, 15, 16, 17, 18, 19, 20, 21, 22, 23, 24, 25, 26, 27, 28, 29, 30] [1, 3, 5, 7, 9, 11, 13, 15, 17, 19, 21, 23, 25, 27, 29, 31, 33, 35, 37, 39, 41, 43, 45, 47, 49, 51, 53, 55, 57, 59, 61] rfl (fun _ => rfl) rfl rfl hl.1 rfl (Nat.le_of_ble_eq_true rfl) dX0_laterTold_54 ⟨(Nat.le_of_ble_eq_true rfl), (Nat.le_of_ble_eq_true rfl)⟩ (fun r_27 u_27 H locs hw_27 hP hD hS => ?_)
                  have hw_27 : (pFL r (ix t) sp (ix mi) : Int32) = r_27 := hw_27.symm
                  subst hw_27
                  have hP : va_P G.1 vwCl (wX G ad ho rn ln dr ro lt rf th sb ++ wR G (ad 1) kd r ++ wR G (ad 2) u_27.1 u_27.2 ++ wR G (ad 3) k2 r2 ++ wK (ad 4)) H := hP
                  have hD : va_D A (wX G ad ho rn ln dr ro lt rf th sb ++ wR G (ad 1) kd r ++ wR G (ad 2) u_27.1 u_27.2 ++ wR G (ad 3) k2 r2 ++ wK (ad 4)) := hD
                  refine hret _ _ _ _ _ _ (pFL r (ix t) sp (ix mi)) (u_27.1, u_27.2) dX0_laterTold_57 ?_ hP hD hS (Nat.le_of_ble_eq_true rfl) (Nat.le_of_ble_eq_true rfl)
                  refine ⟨by rw [eS_t hw_1, eS_t hw_16, eS_t hw_25, eS_t hw_26], ?_⟩
                  exact rfl
      · skip
        refine lv_iconst (v := 1) hx hb dX0_laterTold_13 (by decide) ?_
        refine lv_goto (tgt := 18) hx hb dX0_laterTold_14 (by decide) ?_
        have eb_18 : (1 : Int32) = bI (decide (¬ sp < 0 ∧ ¬ mi < 0)) := bI_T (decide_eq_true (⟨c_2, c_15⟩))
        rw [eb_18]
        refine lv_bipush (v := (-4)) hx hb dX0_laterTold_18 (by decide) ?_
        refine y_Sv (wN := fun _ => (wX G ad ho rn ln dr ro lt rf th sb ++ wR G (ad 1) kd r ++ wR G (ad 2) k1 r1 ++ wR G (ad 3) k2 r2 ++ wK (ad 4))) (wNx := fun u9 => (wX G ad ho rn ln dr ro lt rf th sb ++ wR G (ad 1) kd r ++ wR G (ad 2) k1 r1 ++ wR G (ad 3) k2 r2 ++ wK (ad 4))) ⟨C0, hK, hP, hD, hS, hA⟩ hZ ((m_must l hl0 G (decide (¬ sp < 0 ∧ ¬ mi < 0)) (-4))) (va_cwS 2 hts (lw_S q286 q287 q86 q288) rfl rfl rfl (by decide +kernel) ⟨Nat.le_of_ble_eq_true rfl, Nat.le_of_ble_eq_true rfl⟩) [] [0, 2, 4, 6, 8, 10, 12, 14, 16, 18, 20, 22, 24, 26, 28, 30, 32, 34, 36, 38, 40, 42, 44, 46, 48, 50, 52, 54, 56, 58, 60] [0, 2, 4, 6, 8, 10, 12, 14, 16, 18, 20, 22, 24, 26, 28, 30, 32, 34, 36, 38, 40, 42, 44, 46, 48, 50, 52, 54, 56, 58, 60, 1] rfl (fun _ => rfl) (fun _ _ _ => rfl) rfl rfl rfl hl.1 rfl (Nat.le_of_ble_eq_true rfl) dX0_laterTold_20 ⟨(Nat.le_of_ble_eq_true rfl), (Nat.le_of_ble_eq_true rfl)⟩ (fun q9 u9 ee H locs hw_28 hP hD hS => ?_) (fun u_28 H locs hw_28 hP hD hS => ?_)
        · skip
          refine hthr _ _ _ _ _ _ _ q9 () ee ?_ hP hD hS (Nat.le_of_ble_eq_true rfl) (Nat.le_of_ble_eq_true rfl)
          obtain ⟨h8, h9⟩ := hw_28
          have e9 : eS (tB r t) (-1) (eS (decide (¬ sp < 0 ∧ ¬ mi < 0)) (-4) (eS (decide (sp ≤ 9 ∧ mi ≤ 99)) (-6) (eS (pSt r (ix t)) (-3) 0))) = ee.2.1 := by rw [eS_t hw_1, eS_f h8]; exact h9.symm
          exact ⟨e9.symm, by rw [e9, h9]; decide⟩
        · skip
          refine W.widen (k := 2) (n := 14) (Nat.le_of_ble_eq_true rfl) (Nat.le_of_ble_eq_true rfl) ?_
          have hz1 := hw_28
          refine lv_iload_n hx hb dX0_laterTold_23 rfl (lv_at hl 2 rfl) ?_
          refine lv_bipush (v := 9) hx hb dX0_laterTold_24 (by decide) ?_
          refine lv_icmp_gt (tgt := 39) hx hb dX0_laterTold_26 (by decide) (fun c_29 => ?_) (fun c_29 => ?_)
          · skip
            refine lv_iconst (v := 0) hx hb dX0_laterTold_39 (by decide) ?_
            have eb_40 : (0 : Int32) = bI (decide (sp ≤ 9 ∧ mi ≤ 99)) := bI_F (decide_eq_false (fun z => absurd c_29 (Int32.not_lt.mpr z.1)))
            rw [eb_40]
            refine lv_bipush (v := (-6)) hx hb dX0_laterTold_40 (by decide) ?_
            refine y_Sv (wN := fun _ => (wX G ad ho rn ln dr ro lt rf th sb ++ wR G (ad 1) kd r ++ wR G (ad 2) k1 r1 ++ wR G (ad 3) k2 r2 ++ wK (ad 4))) (wNx := fun u9 => (wX G ad ho rn ln dr ro lt rf th sb ++ wR G (ad 1) kd r ++ wR G (ad 2) k1 r1 ++ wR G (ad 3) k2 r2 ++ wK (ad 4))) ⟨C0, hK, hP, hD, hS, hA⟩ hZ ((m_must l hl0 G (decide (sp ≤ 9 ∧ mi ≤ 99)) (-6))) (va_cwS 2 hts (lw_S q286 q287 q86 q288) rfl rfl rfl (by decide +kernel) ⟨Nat.le_of_ble_eq_true rfl, Nat.le_of_ble_eq_true rfl⟩) [] [0, 2, 4, 6, 8, 10, 12, 14, 16, 18, 20, 22, 24, 26, 28, 30, 32, 34, 36, 38, 40, 42, 44, 46, 48, 50, 52, 54, 56, 58, 60] [0, 2, 4, 6, 8, 10, 12, 14, 16, 18, 20, 22, 24, 26, 28, 30, 32, 34, 36, 38, 40, 42, 44, 46, 48, 50, 52, 54, 56, 58, 60, 1] rfl (fun _ => rfl) (fun _ _ _ => rfl) rfl rfl rfl hl.1 rfl (Nat.le_of_ble_eq_true rfl) dX0_laterTold_42 ⟨(Nat.le_of_ble_eq_true rfl), (Nat.le_of_ble_eq_true rfl)⟩ (fun q9 u9 ee H locs hw_30 hP hD hS => ?_) (fun u_30 H locs hw_30 hP hD hS => ?_)
            · skip
              refine hthr _ _ _ _ _ _ _ q9 () ee ?_ hP hD hS (Nat.le_of_ble_eq_true rfl) (Nat.le_of_ble_eq_true rfl)
              obtain ⟨h8, h9⟩ := hw_30
              have e9 : eS (tB r t) (-1) (eS (decide (¬ sp < 0 ∧ ¬ mi < 0)) (-4) (eS (decide (sp ≤ 9 ∧ mi ≤ 99)) (-6) (eS (pSt r (ix t)) (-3) 0))) = ee.2.1 := by rw [eS_t hw_1, eS_t hw_28, eS_f h8]; exact h9.symm
              exact ⟨e9.symm, by rw [e9, h9]; decide⟩
            · skip
              refine W.widen (k := 3) (n := 21) (Nat.le_of_ble_eq_true rfl) (Nat.le_of_ble_eq_true rfl) ?_
              have hq1 := of_decide_eq_true hz1
              have hq2 := of_decide_eq_true hw_30
              obtain ⟨hj_mi, et_mi⟩ := nn_ix hq1.2 hq2.2
              rw [et_mi] at hl
              refine lv_aload_n hx hb dX0_laterTold_45 rfl (lv_at hl 0 rfl) ?_
              refine lv_iload_n hx hb dX0_laterTold_46 rfl (lv_at hl 1 rfl) ?_
              refine y_Vv (wN := fun _ => (wX G ad ho rn ln dr ro lt rf th sb ++ wR G (ad 1) kd r ++ wR G (ad 2) k1 r1 ++ wR G (ad 3) k2 r2 ++ wK (ad 4))) (wNx := fun u9 => (wX G ad ho rn ln dr ro lt rf th sb ++ wR G (ad 1) kd r ++ wR G (ad 2) k1 r1 ++ wR G (ad 3) k2 r2 ++ wK (ad 4))) ⟨C0, hK, hP, hD, hS, hA⟩ hZ 0 rfl (ci := 0) rfl rfl ((m_mustStandNow l hl0 G ad kd k1 k2 r r1 r2 ho rn ln dr ro lt rf th sb hr hp hk (ix t) (by omega))) (cwV 1 hts (lw_V q740 q742 qs16 q86 q743) rfl rfl rfl (by decide +kernel) ⟨Nat.le_of_ble_eq_true rfl, Nat.le_of_ble_eq_true rfl⟩) [0, 1, 2, 3, 4, 5, 6, 7, 8, 9, 10, 11, 12, 13, 14, 15, 16, 17, 18, 19, 20, 21, 22, 23, 24, 25, 26, 27, 28, 29, 30] [1, 3, 5, 7, 9, 11, 13, 15, 17, 19, 21, 23, 25, 27, 29, 31, 33, 35, 37, 39, 41, 43, 45, 47, 49, 51, 53, 55, 57, 59, 61] [1, 3, 5, 7, 9, 11, 13, 15, 17, 19, 21, 23, 25, 27, 29, 31, 33, 35, 37, 39, 41, 43, 45, 47, 49, 51, 53, 55, 57, 59, 61, 63] rfl (fun _ => rfl) (fun _ _ _ => rfl) rfl rfl rfl hl.1 rfl (Nat.le_of_ble_eq_true rfl) dX0_laterTold_47 ⟨(Nat.le_of_ble_eq_true rfl), (Nat.le_of_ble_eq_true rfl)⟩ (fun q9 u9 ee H locs hw_31 hP hD hS => ?_) (fun u_31 H locs hw_31 hP hD hS => ?_)
              · skip
                refine hthr _ _ _ _ _ _ _ q9 () ee ?_ hP hD hS (Nat.le_of_ble_eq_true rfl) (Nat.le_of_ble_eq_true rfl)
                obtain ⟨h8, h9⟩ := hw_31
                have e9 : eS (tB r t) (-1) (eS (decide (¬ sp < 0 ∧ ¬ mi < 0)) (-4) (eS (decide (sp ≤ 9 ∧ mi ≤ 99)) (-6) (eS (pSt r (ix t)) (-3) 0))) = ee.2.1 := by rw [eS_t hw_1, eS_t hw_28, eS_t hw_30, eS_f h8]; exact h9.symm
                exact ⟨e9.symm, by rw [e9, h9]; decide⟩
              · skip
                refine W.widen (k := 4) (n := 28) (Nat.le_of_ble_eq_true rfl) (Nat.le_of_ble_eq_true rfl) ?_
                refine lv_aload_n hx hb dX0_laterTold_50 rfl (lv_at hl 0 rfl) ?_
                refine lv_iload_n hx hb dX0_laterTold_51 rfl (lv_at hl 1 rfl) ?_
                refine lv_iload_n hx hb dX0_laterTold_52 rfl (lv_at hl 2 rfl) ?_
                refine lv_iload_n hx hb dX0_laterTold_53 rfl (lv_at hl 3 rfl) ?_
                refine x_Vi (wN := fun u_32 => (wX G ad ho rn ln dr ro lt rf th sb ++ wR G (ad 1) kd r ++ wR G (ad 2) u_32.1 u_32.2 ++ wR G (ad 3) k2 r2 ++ wK (ad 4))) ⟨C0, hK, hP, hD, hS, hA⟩ 0 rfl (ci := 0) rfl rfl ((m_fallenLater l G ad kd k1 k2 r r1 r2 ho rn ln dr ro lt rf th sb hr hp hk (ix t) (ix mi) (by omega) (by omega) sp)) (cwV 3 hts (lw_V q857 q859 qs36 q86 q860) rfl rfl rfl (by decide +kernel) ⟨Nat.le_of_ble_eq_true rfl, Nat.le_of_ble_eq_true rfl⟩) [0, 1, 2, 3, 4, 5, 6, 7, 8, 9, 10, 11, 12, 13, 14, 15, 16, 17, 18, 19, 20, 21, 22, 23, 24, 25, 26, 27, 28, 29, 30] [1, 3, 5, 7, 9, 11, 13, 15, 17, 19, 21, 23, 25, 27, 29, 31, 33, 35, 37, 39, 41, 43, 45, 47, 49, 51, 53, 55, 57, 59, 61] rfl (fun _ => rfl) rfl rfl hl.1 rfl (Nat.le_of_ble_eq_true rfl) dX0_laterTold_54 ⟨(Nat.le_of_ble_eq_true rfl), (Nat.le_of_ble_eq_true rfl)⟩ (fun r_32 u_32 H locs hw_32 hP hD hS => ?_)
                have hw_32 : (pFL r (ix t) sp (ix mi) : Int32) = r_32 := hw_32.symm
                subst hw_32
                have hP : va_P G.1 vwCl (wX G ad ho rn ln dr ro lt rf th sb ++ wR G (ad 1) kd r ++ wR G (ad 2) u_32.1 u_32.2 ++ wR G (ad 3) k2 r2 ++ wK (ad 4)) H := hP
                have hD : va_D A (wX G ad ho rn ln dr ro lt rf th sb ++ wR G (ad 1) kd r ++ wR G (ad 2) u_32.1 u_32.2 ++ wR G (ad 3) k2 r2 ++ wK (ad 4)) := hD
                refine hret _ _ _ _ _ _ (pFL r (ix t) sp (ix mi)) (u_32.1, u_32.2) dX0_laterTold_57 ?_ hP hD hS (Nat.le_of_ble_eq_true rfl) (Nat.le_of_ble_eq_true rfl)
                refine ⟨by rw [eS_t hw_1, eS_t hw_28, eS_t hw_30, eS_t hw_31], ?_⟩
                exact rfl
          · skip
            refine lv_iload_n hx hb dX0_laterTold_29 rfl (lv_at hl 3 rfl) ?_
            refine lv_bipush (v := 99) hx hb dX0_laterTold_30 (by decide) ?_
            refine lv_icmp_gt (tgt := 39) hx hb dX0_laterTold_32 (by decide) (fun c_33 => ?_) (fun c_33 => ?_)
            · skip
              refine lv_iconst (v := 0) hx hb dX0_laterTold_39 (by decide) ?_
              have eb_40 : (0 : Int32) = bI (decide (sp ≤ 9 ∧ mi ≤ 99)) := bI_F (decide_eq_false (fun z => absurd c_33 (Int32.not_lt.mpr z.2)))
              rw [eb_40]
              refine lv_bipush (v := (-6)) hx hb dX0_laterTold_40 (by decide) ?_
              refine y_Sv (wN := fun _ => (wX G ad ho rn ln dr ro lt rf th sb ++ wR G (ad 1) kd r ++ wR G (ad 2) k1 r1 ++ wR G (ad 3) k2 r2 ++ wK (ad 4))) (wNx := fun u9 => (wX G ad ho rn ln dr ro lt rf th sb ++ wR G (ad 1) kd r ++ wR G (ad 2) k1 r1 ++ wR G (ad 3) k2 r2 ++ wK (ad 4))) ⟨C0, hK, hP, hD, hS, hA⟩ hZ ((m_must l hl0 G (decide (sp ≤ 9 ∧ mi ≤ 99)) (-6))) (va_cwS 2 hts (lw_S q286 q287 q86 q288) rfl rfl rfl (by decide +kernel) ⟨Nat.le_of_ble_eq_true rfl, Nat.le_of_ble_eq_true rfl⟩) [] [0, 2, 4, 6, 8, 10, 12, 14, 16, 18, 20, 22, 24, 26, 28, 30, 32, 34, 36, 38, 40, 42, 44, 46, 48, 50, 52, 54, 56, 58, 60] [0, 2, 4, 6, 8, 10, 12, 14, 16, 18, 20, 22, 24, 26, 28, 30, 32, 34, 36, 38, 40, 42, 44, 46, 48, 50, 52, 54, 56, 58, 60, 1] rfl (fun _ => rfl) (fun _ _ _ => rfl) rfl rfl rfl hl.1 rfl (Nat.le_of_ble_eq_true rfl) dX0_laterTold_42 ⟨(Nat.le_of_ble_eq_true rfl), (Nat.le_of_ble_eq_true rfl)⟩ (fun q9 u9 ee H locs hw_34 hP hD hS => ?_) (fun u_34 H locs hw_34 hP hD hS => ?_)
              · skip
                refine hthr _ _ _ _ _ _ _ q9 () ee ?_ hP hD hS (Nat.le_of_ble_eq_true rfl) (Nat.le_of_ble_eq_true rfl)
                obtain ⟨h8, h9⟩ := hw_34
                have e9 : eS (tB r t) (-1) (eS (decide (¬ sp < 0 ∧ ¬ mi < 0)) (-4) (eS (decide (sp ≤ 9 ∧ mi ≤ 99)) (-6) (eS (pSt r (ix t)) (-3) 0))) = ee.2.1 := by rw [eS_t hw_1, eS_t hw_28, eS_f h8]; exact h9.symm
                exact ⟨e9.symm, by rw [e9, h9]; decide⟩
              · skip
                refine W.widen (k := 3) (n := 21) (Nat.le_of_ble_eq_true rfl) (Nat.le_of_ble_eq_true rfl) ?_
                have hq1 := of_decide_eq_true hz1
                have hq2 := of_decide_eq_true hw_34
                obtain ⟨hj_mi, et_mi⟩ := nn_ix hq1.2 hq2.2
                rw [et_mi] at hl
                refine lv_aload_n hx hb dX0_laterTold_45 rfl (lv_at hl 0 rfl) ?_
                refine lv_iload_n hx hb dX0_laterTold_46 rfl (lv_at hl 1 rfl) ?_
                refine y_Vv (wN := fun _ => (wX G ad ho rn ln dr ro lt rf th sb ++ wR G (ad 1) kd r ++ wR G (ad 2) k1 r1 ++ wR G (ad 3) k2 r2 ++ wK (ad 4))) (wNx := fun u9 => (wX G ad ho rn ln dr ro lt rf th sb ++ wR G (ad 1) kd r ++ wR G (ad 2) k1 r1 ++ wR G (ad 3) k2 r2 ++ wK (ad 4))) ⟨C0, hK, hP, hD, hS, hA⟩ hZ 0 rfl (ci := 0) rfl rfl ((m_mustStandNow l hl0 G ad kd k1 k2 r r1 r2 ho rn ln dr ro lt rf th sb hr hp hk (ix t) (by omega))) (cwV 1 hts (lw_V q740 q742 qs16 q86 q743) rfl rfl rfl (by decide +kernel) ⟨Nat.le_of_ble_eq_true rfl, Nat.le_of_ble_eq_true rfl⟩) [0, 1, 2, 3, 4, 5, 6, 7, 8, 9, 10, 11, 12, 13, 14, 15, 16, 17, 18, 19, 20, 21, 22, 23, 24, 25, 26, 27, 28, 29, 30] [1, 3, 5, 7, 9, 11, 13, 15, 17, 19, 21, 23, 25, 27, 29, 31, 33, 35, 37, 39, 41, 43, 45, 47, 49, 51, 53, 55, 57, 59, 61] [1, 3, 5, 7, 9, 11, 13, 15, 17, 19, 21, 23, 25, 27, 29, 31, 33, 35, 37, 39, 41, 43, 45, 47, 49, 51, 53, 55, 57, 59, 61, 63] rfl (fun _ => rfl) (fun _ _ _ => rfl) rfl rfl rfl hl.1 rfl (Nat.le_of_ble_eq_true rfl) dX0_laterTold_47 ⟨(Nat.le_of_ble_eq_true rfl), (Nat.le_of_ble_eq_true rfl)⟩ (fun q9 u9 ee H locs hw_35 hP hD hS => ?_) (fun u_35 H locs hw_35 hP hD hS => ?_)
                · skip
                  refine hthr _ _ _ _ _ _ _ q9 () ee ?_ hP hD hS (Nat.le_of_ble_eq_true rfl) (Nat.le_of_ble_eq_true rfl)
                  obtain ⟨h8, h9⟩ := hw_35
                  have e9 : eS (tB r t) (-1) (eS (decide (¬ sp < 0 ∧ ¬ mi < 0)) (-4) (eS (decide (sp ≤ 9 ∧ mi ≤ 99)) (-6) (eS (pSt r (ix t)) (-3) 0))) = ee.2.1 := by rw [eS_t hw_1, eS_t hw_28, eS_t hw_34, eS_f h8]; exact h9.symm
                  exact ⟨e9.symm, by rw [e9, h9]; decide⟩
                · skip
                  refine W.widen (k := 4) (n := 28) (Nat.le_of_ble_eq_true rfl) (Nat.le_of_ble_eq_true rfl) ?_
                  refine lv_aload_n hx hb dX0_laterTold_50 rfl (lv_at hl 0 rfl) ?_
                  refine lv_iload_n hx hb dX0_laterTold_51 rfl (lv_at hl 1 rfl) ?_
                  refine lv_iload_n hx hb dX0_laterTold_52 rfl (lv_at hl 2 rfl) ?_
                  refine lv_iload_n hx hb dX0_laterTold_53 rfl (lv_at hl 3 rfl) ?_
                  refine x_Vi (wN := fun u_36 => (wX G ad ho rn ln dr ro lt rf th sb ++ wR G (ad 1) kd r ++ wR G (ad 2) u_36.1 u_36.2 ++ wR G (ad 3) k2 r2 ++ wK (ad 4))) ⟨C0, hK, hP, hD, hS, hA⟩ 0 rfl (ci := 0) rfl rfl ((m_fallenLater l G ad kd k1 k2 r r1 r2 ho rn ln dr ro lt rf th sb hr hp hk (ix t) (ix mi) (by omega) (by omega) sp)) (cwV 3 hts (lw_V q857 q859 qs36 q86 q860) rfl rfl rfl (by decide +kernel) ⟨Nat.le_of_ble_eq_true rfl, Nat.le_of_ble_eq_true rfl⟩) [0, 1, 2, 3, 4, 5, 6, 7, 8, 9, 10, 11, 12, 13, 14, 15, 16, 17, 18, 19, 20, 21, 22, 23, 24, 25, 26, 27, 28, 29, 30] [1, 3, 5, 7, 9, 11, 13, 15, 17, 19, 21, 23, 25, 27, 29, 31, 33, 35, 37, 39, 41, 43, 45, 47, 49, 51, 53, 55, 57, 59, 61] rfl (fun _ => rfl) rfl rfl hl.1 rfl (Nat.le_of_ble_eq_true rfl) dX0_laterTold_54 ⟨(Nat.le_of_ble_eq_true rfl), (Nat.le_of_ble_eq_true rfl)⟩ (fun r_36 u_36 H locs hw_36 hP hD hS => ?_)
                  have hw_36 : (pFL r (ix t) sp (ix mi) : Int32) = r_36 := hw_36.symm
                  subst hw_36
                  have hP : va_P G.1 vwCl (wX G ad ho rn ln dr ro lt rf th sb ++ wR G (ad 1) kd r ++ wR G (ad 2) u_36.1 u_36.2 ++ wR G (ad 3) k2 r2 ++ wK (ad 4)) H := hP
                  have hD : va_D A (wX G ad ho rn ln dr ro lt rf th sb ++ wR G (ad 1) kd r ++ wR G (ad 2) u_36.1 u_36.2 ++ wR G (ad 3) k2 r2 ++ wK (ad 4)) := hD
                  refine hret _ _ _ _ _ _ (pFL r (ix t) sp (ix mi)) (u_36.1, u_36.2) dX0_laterTold_57 ?_ hP hD hS (Nat.le_of_ble_eq_true rfl) (Nat.le_of_ble_eq_true rfl)
                  refine ⟨by rw [eS_t hw_1, eS_t hw_28, eS_t hw_34, eS_t hw_35], ?_⟩
                  exact rfl
            · skip
              refine lv_iconst (v := 1) hx hb dX0_laterTold_35 (by decide) ?_
              refine lv_goto (tgt := 40) hx hb dX0_laterTold_36 (by decide) ?_
              have eb_40 : (1 : Int32) = bI (decide (sp ≤ 9 ∧ mi ≤ 99)) := bI_T (decide_eq_true (⟨Int32.not_lt.mp c_29, Int32.not_lt.mp c_33⟩))
              rw [eb_40]
              refine lv_bipush (v := (-6)) hx hb dX0_laterTold_40 (by decide) ?_
              refine y_Sv (wN := fun _ => (wX G ad ho rn ln dr ro lt rf th sb ++ wR G (ad 1) kd r ++ wR G (ad 2) k1 r1 ++ wR G (ad 3) k2 r2 ++ wK (ad 4))) (wNx := fun u9 => (wX G ad ho rn ln dr ro lt rf th sb ++ wR G (ad 1) kd r ++ wR G (ad 2) k1 r1 ++ wR G (ad 3) k2 r2 ++ wK (ad 4))) ⟨C0, hK, hP, hD, hS, hA⟩ hZ ((m_must l hl0 G (decide (sp ≤ 9 ∧ mi ≤ 99)) (-6))) (va_cwS 2 hts (lw_S q286 q287 q86 q288) rfl rfl rfl (by decide +kernel) ⟨Nat.le_of_ble_eq_true rfl, Nat.le_of_ble_eq_true rfl⟩) [] [0, 2, 4, 6, 8, 10, 12, 14, 16, 18, 20, 22, 24, 26, 28, 30, 32, 34, 36, 38, 40, 42, 44, 46, 48, 50, 52, 54, 56, 58, 60] [0, 2, 4, 6, 8, 10, 12, 14, 16, 18, 20, 22, 24, 26, 28, 30, 32, 34, 36, 38, 40, 42, 44, 46, 48, 50, 52, 54, 56, 58, 60, 1] rfl (fun _ => rfl) (fun _ _ _ => rfl) rfl rfl rfl hl.1 rfl (Nat.le_of_ble_eq_true rfl) dX0_laterTold_42 ⟨(Nat.le_of_ble_eq_true rfl), (Nat.le_of_ble_eq_true rfl)⟩ (fun q9 u9 ee H locs hw_37 hP hD hS => ?_) (fun u_37 H locs hw_37 hP hD hS => ?_)
              · skip
                refine hthr _ _ _ _ _ _ _ q9 () ee ?_ hP hD hS (Nat.le_of_ble_eq_true rfl) (Nat.le_of_ble_eq_true rfl)
                obtain ⟨h8, h9⟩ := hw_37
                have e9 : eS (tB r t) (-1) (eS (decide (¬ sp < 0 ∧ ¬ mi < 0)) (-4) (eS (decide (sp ≤ 9 ∧ mi ≤ 99)) (-6) (eS (pSt r (ix t)) (-3) 0))) = ee.2.1 := by rw [eS_t hw_1, eS_t hw_28, eS_f h8]; exact h9.symm
                exact ⟨e9.symm, by rw [e9, h9]; decide⟩
              · skip
                refine W.widen (k := 3) (n := 21) (Nat.le_of_ble_eq_true rfl) (Nat.le_of_ble_eq_true rfl) ?_
                have hq1 := of_decide_eq_true hz1
                have hq2 := of_decide_eq_true hw_37
                obtain ⟨hj_mi, et_mi⟩ := nn_ix hq1.2 hq2.2
                rw [et_mi] at hl
                refine lv_aload_n hx hb dX0_laterTold_45 rfl (lv_at hl 0 rfl) ?_
                refine lv_iload_n hx hb dX0_laterTold_46 rfl (lv_at hl 1 rfl) ?_
                refine y_Vv (wN := fun _ => (wX G ad ho rn ln dr ro lt rf th sb ++ wR G (ad 1) kd r ++ wR G (ad 2) k1 r1 ++ wR G (ad 3) k2 r2 ++ wK (ad 4))) (wNx := fun u9 => (wX G ad ho rn ln dr ro lt rf th sb ++ wR G (ad 1) kd r ++ wR G (ad 2) k1 r1 ++ wR G (ad 3) k2 r2 ++ wK (ad 4))) ⟨C0, hK, hP, hD, hS, hA⟩ hZ 0 rfl (ci := 0) rfl rfl ((m_mustStandNow l hl0 G ad kd k1 k2 r r1 r2 ho rn ln dr ro lt rf th sb hr hp hk (ix t) (by omega))) (cwV 1 hts (lw_V q740 q742 qs16 q86 q743) rfl rfl rfl (by decide +kernel) ⟨Nat.le_of_ble_eq_true rfl, Nat.le_of_ble_eq_true rfl⟩) [0, 1, 2, 3, 4, 5, 6, 7, 8, 9, 10, 11, 12, 13, 14, 15, 16, 17, 18, 19, 20, 21, 22, 23, 24, 25, 26, 27, 28, 29, 30] [1, 3, 5, 7, 9, 11, 13, 15, 17, 19, 21, 23, 25, 27, 29, 31, 33, 35, 37, 39, 41, 43, 45, 47, 49, 51, 53, 55, 57, 59, 61] [1, 3, 5, 7, 9, 11, 13, 15, 17, 19, 21, 23, 25, 27, 29, 31, 33, 35, 37, 39, 41, 43, 45, 47, 49, 51, 53, 55, 57, 59, 61, 63] rfl (fun _ => rfl) (fun _ _ _ => rfl) rfl rfl rfl hl.1 rfl (Nat.le_of_ble_eq_true rfl) dX0_laterTold_47 ⟨(Nat.le_of_ble_eq_true rfl), (Nat.le_of_ble_eq_true rfl)⟩ (fun q9 u9 ee H locs hw_38 hP hD hS => ?_) (fun u_38 H locs hw_38 hP hD hS => ?_)
                · skip
                  refine hthr _ _ _ _ _ _ _ q9 () ee ?_ hP hD hS (Nat.le_of_ble_eq_true rfl) (Nat.le_of_ble_eq_true rfl)
                  obtain ⟨h8, h9⟩ := hw_38
                  have e9 : eS (tB r t) (-1) (eS (decide (¬ sp < 0 ∧ ¬ mi < 0)) (-4) (eS (decide (sp ≤ 9 ∧ mi ≤ 99)) (-6) (eS (pSt r (ix t)) (-3) 0))) = ee.2.1 := by rw [eS_t hw_1, eS_t hw_28, eS_t hw_37, eS_f h8]; exact h9.symm
                  exact ⟨e9.symm, by rw [e9, h9]; decide⟩
                · skip
                  refine W.widen (k := 4) (n := 28) (Nat.le_of_ble_eq_true rfl) (Nat.le_of_ble_eq_true rfl) ?_
                  refine lv_aload_n hx hb dX0_laterTold_50 rfl (lv_at hl 0 rfl) ?_
                  refine lv_iload_n hx hb dX0_laterTold_51 rfl (lv_at hl 1 rfl) ?_
                  refine lv_iload_n hx hb dX0_laterTold_52 rfl (lv_at hl 2 rfl) ?_
                  refine lv_iload_n hx hb dX0_laterTold_53 rfl (lv_at hl 3 rfl) ?_
                  refine x_Vi (wN := fun u_39 => (wX G ad ho rn ln dr ro lt rf th sb ++ wR G (ad 1) kd r ++ wR G (ad 2) u_39.1 u_39.2 ++ wR G (ad 3) k2 r2 ++ wK (ad 4))) ⟨C0, hK, hP, hD, hS, hA⟩ 0 rfl (ci := 0) rfl rfl ((m_fallenLater l G ad kd k1 k2 r r1 r2 ho rn ln dr ro lt rf th sb hr hp hk (ix t) (ix mi) (by omega) (by omega) sp)) (cwV 3 hts (lw_V q857 q859 qs36 q86 q860) rfl rfl rfl (by decide +kernel) ⟨Nat.le_of_ble_eq_true rfl, Nat.le_of_ble_eq_true rfl⟩) [0, 1, 2, 3, 4, 5, 6, 7, 8, 9, 10, 11, 12, 13, 14, 15, 16, 17, 18, 19, 20, 21, 22, 23, 24, 25, 26, 27, 28, 29, 30] [1, 3, 5, 7, 9, 11, 13, 15, 17, 19, 21, 23, 25, 27, 29, 31, 33, 35, 37, 39, 41, 43, 45, 47, 49, 51, 53, 55, 57, 59, 61] rfl (fun _ => rfl) rfl rfl hl.1 rfl (Nat.le_of_ble_eq_true rfl) dX0_laterTold_54 ⟨(Nat.le_of_ble_eq_true rfl), (Nat.le_of_ble_eq_true rfl)⟩ (fun r_39 u_39 H locs hw_39 hP hD hS => ?_)
                  have hw_39 : (pFL r (ix t) sp (ix mi) : Int32) = r_39 := hw_39.symm
                  subst hw_39
                  have hP : va_P G.1 vwCl (wX G ad ho rn ln dr ro lt rf th sb ++ wR G (ad 1) kd r ++ wR G (ad 2) u_39.1 u_39.2 ++ wR G (ad 3) k2 r2 ++ wK (ad 4)) H := hP
                  have hD : va_D A (wX G ad ho rn ln dr ro lt rf th sb ++ wR G (ad 1) kd r ++ wR G (ad 2) u_39.1 u_39.2 ++ wR G (ad 3) k2 r2 ++ wK (ad 4)) := hD
                  refine hret _ _ _ _ _ _ (pFL r (ix t) sp (ix mi)) (u_39.1, u_39.2) dX0_laterTold_57 ?_ hP hD hS (Nat.le_of_ble_eq_true rfl) (Nat.le_of_ble_eq_true rfl)
                  refine ⟨by rw [eS_t hw_1, eS_t hw_28, eS_t hw_37, eS_t hw_38], ?_⟩
                  exact rfl
set_option maxHeartbeats 4000000 in
set_option maxRecDepth 100000 in
theorem m_floorIt (l : Launch) (hl0 : l.stackTraces = false) (G : xG) (ad : Nat → Nat → Nat) (kd k1 k2 : Nat → Option Nat) (r r1 r2 : Rw) (ho rn ln dr : Int32) (ro lt rf th sb : Nat → Int32) (hr : Ok r) (hp : r 5 3 = 0) (hk : kOk (ad 4) kd r) (sp : Int32) : yCi l G yX0_floorIt cX0_floorIt 2 (some .int) ({ frames := 10, cells := 3, slots := 21, locals := 174 } : Room) [.ref (ad 0 0), .int sp] (wX G ad ho rn ln dr ro lt rf th sb ++ wR G (ad 1) kd r ++ wR G (ad 2) k1 r1 ++ wR G (ad 3) k2 r2 ++ wK (ad 4)) (S := Unit) (SX := Unit) (fun v _ => eW (wBy sp.toInt 0 9) (eS (bB r) (-3) 0) = 0 ∧ v = pPullFN r sp) (fun _ => (wX G ad ho rn ln dr ro lt rf th sb ++ wR G (ad 1) kd (pPullF r sp) ++ wR G (ad 2) k1 r1 ++ wR G (ad 3) k2 r2 ++ wK (ad 4))) (fun n _ => n = eW (wBy sp.toInt 0 9) (eS (bB r) (-3) 0) ∧ eW (wBy sp.toInt 0 9) (eS (bB r) (-3) 0) ≠ 0) (fun _ => (wX G ad ho rn ln dr ro lt rf th sb ++ wR G (ad 1) kd r ++ wR G (ad 2) k1 r1 ++ wR G (ad 3) k2 r2 ++ wK (ad 4))) := by
  refine y_openi (by decide) (Nat.le_of_ble_eq_true rfl) (fun _ _ _ => rfl) ?_
  intro p e s m args below meth c A Q ls C0 hK hZ hP hD hA hl hret hthr
  obtain ⟨hx, hb, hml, hown, hts⟩ := id C0
  have hS : va_S A s.heap s.heap [] := va_S.rf
  have hP : va_P G.1 vwCl (wX G ad ho rn ln dr ro lt rf th sb ++ wR G (ad 1) kd r ++ wR G (ad 2) k1 r1 ++ wR G (ad 3) k2 r2 ++ wK (ad 4)) s.heap := hP
  have hD : va_D A (wX G ad ho rn ln dr ro lt rf th sb ++ wR G (ad 1) kd r ++ wR G (ad 2) k1 r1 ++ wR G (ad 3) k2 r2 ++ wK (ad 4)) := hD
  have hl : lv_has ls 2 [(0, .ref (ad 0 0)), (1, .int sp)] := hl
  have hr0 := hr.n
  have hN := hr.le
  refine lv_iload_n hx hb dX0_floorIt_0 rfl (lv_at hl 1 rfl) ?_
  refine y_Sv (wN := fun _ => (wX G ad ho rn ln dr ro lt rf th sb ++ wR G (ad 1) kd r ++ wR G (ad 2) k1 r1 ++ wR G (ad 3) k2 r2 ++ wK (ad 4))) (wNx := fun u9 => (wX G ad ho rn ln dr ro lt rf th sb ++ wR G (ad 1) kd r ++ wR G (ad 2) k1 r1 ++ wR G (ad 3) k2 r2 ++ wK (ad 4))) ⟨C0, hK, hP, hD, hS, hA⟩ hZ ((m_mustBeSpeed l hl0 G sp)) (va_cwS 1 hts (lw_S q736 q737 q86 q738) rfl rfl rfl (by decide +kernel) ⟨Nat.le_of_ble_eq_true rfl, Nat.le_of_ble_eq_true rfl⟩) [] [0, 2, 4, 6, 8, 10, 12, 14, 16, 18, 20, 22, 24, 26, 28, 30, 32, 34, 36, 38, 40, 42, 44, 46, 48, 50, 52, 54, 56, 58, 60] [0, 2, 4, 6, 8, 10, 12, 14, 16, 18, 20, 22, 24, 26, 28, 30, 32, 34, 36, 38, 40, 42, 44, 46, 48, 50, 52, 54, 56, 58, 60, 1] rfl (fun _ => rfl) (fun _ _ _ => rfl) rfl rfl rfl hl.1 rfl (Nat.le_of_ble_eq_true rfl) dX0_floorIt_1 ⟨(Nat.le_of_ble_eq_true rfl), (Nat.le_of_ble_eq_true rfl)⟩ (fun q9 u9 ee H locs hw_1 hP hD hS => ?_) (fun u_1 H locs hw_1 hP hD hS => ?_)
  · skip
    refine hthr _ _ _ _ _ _ _ q9 () ee ?_ hP hD hS (Nat.le_of_ble_eq_true rfl) (Nat.le_of_ble_eq_true rfl)
    obtain ⟨h8, h9⟩ := hw_1
    have e9 : eW (wBy sp.toInt 0 9) (eS (bB r) (-3) 0) = ee.2.1 := by rw [eW_n h9]; exact h8.symm
    exact ⟨e9.symm, by rw [e9, h8]; exact h9⟩
  · skip
    refine W.widen (k := 2) (n := 14) (Nat.le_of_ble_eq_true rfl) (Nat.le_of_ble_eq_true rfl) ?_
    refine lv_aload_n hx hb dX0_floorIt_4 rfl (lv_at hl 0 rfl) ?_
    refine va_get (D := G.1) (ci := 0) (v := .ref ((ad 1) 0)) (C := RX0) (T := TX0) (N := 13) hx hb hts in_X0 hown hK.1 hP 0 rfl rfl 1 (by decide) (hts _ q222) (fun _ h9 => h9) rfl dX0_floorIt_5 ?_
    refine va_getN (D := G.1) (ci := 7) (v := .int (r 5 2)) (C := RX8) (T := TX8) (N := 9) hx hb hts in_X8 hown hK.1 hP 7 rfl rfl 6 (by decide) (va_Nw.use rfl (hK.2.F 13 rfl)) (fun _ h9 => h9) rfl dX0_floorIt_8 ?_
    rw [show (r 5 2 : Int32) = bI (bB r) from hr.fl]
    refine lv_bipush (v := (-3)) hx hb dX0_floorIt_11 (by decide) ?_
    refine y_Sv (wN := fun _ => (wX G ad ho rn ln dr ro lt rf th sb ++ wR G (ad 1) kd r ++ wR G (ad 2) k1 r1 ++ wR G (ad 3) k2 r2 ++ wK (ad 4))) (wNx := fun u9 => (wX G ad ho rn ln dr ro lt rf th sb ++ wR G (ad 1) kd r ++ wR G (ad 2) k1 r1 ++ wR G (ad 3) k2 r2 ++ wK (ad 4))) ⟨C0, hK, hP, hD, hS, hA⟩ hZ ((m_must l hl0 G (bB r) (-3))) (va_cwS 2 hts (lw_S q286 q287 q86 q288) rfl rfl rfl (by decide +kernel) ⟨Nat.le_of_ble_eq_true rfl, Nat.le_of_ble_eq_true rfl⟩) [] [0, 2, 4, 6, 8, 10, 12, 14, 16, 18, 20, 22, 24, 26, 28, 30, 32, 34, 36, 38, 40, 42, 44, 46, 48, 50, 52, 54, 56, 58, 60] [0, 2, 4, 6, 8, 10, 12, 14, 16, 18, 20, 22, 24, 26, 28, 30, 32, 34, 36, 38, 40, 42, 44, 46, 48, 50, 52, 54, 56, 58, 60, 1] rfl (fun _ => rfl) (fun _ _ _ => rfl) rfl rfl rfl hl.1 rfl (Nat.le_of_ble_eq_true rfl) dX0_floorIt_13 ⟨(Nat.le_of_ble_eq_true rfl), (Nat.le_of_ble_eq_true rfl)⟩ (fun q9 u9 ee H locs hw_2 hP hD hS => ?_) (fun u_2 H locs hw_2 hP hD hS => ?_)
    · skip
      refine hthr _ _ _ _ _ _ _ q9 () ee ?_ hP hD hS (Nat.le_of_ble_eq_true rfl) (Nat.le_of_ble_eq_true rfl)
      obtain ⟨h8, h9⟩ := hw_2
      have e9 : eW (wBy sp.toInt 0 9) (eS (bB r) (-3) 0) = ee.2.1 := by rw [eW_0 hw_1, eS_f h8]; exact h9.symm
      exact ⟨e9.symm, by rw [e9, h9]; decide⟩
    · skip
      refine W.widen (k := 3) (n := 21) (Nat.le_of_ble_eq_true rfl) (Nat.le_of_ble_eq_true rfl) ?_
      refine lv_aload_n hx hb dX0_floorIt_16 rfl (lv_at hl 0 rfl) ?_
      refine va_get (D := G.1) (ci := 0) (v := .ref ((ad 1) 0)) (C := RX0) (T := TX0) (N := 13) hx hb hts in_X0 hown hK.1 hP 0 rfl rfl 1 (by decide) (hts _ q222) (fun _ h9 => h9) rfl dX0_floorIt_17 ?_
      refine lv_iload_n hx hb dX0_floorIt_20 rfl (lv_at hl 1 rfl) ?_
      refine x_Vi (wN := fun _ => (wX G ad ho rn ln dr ro lt rf th sb ++ wR G (ad 1) kd (pPullF r sp) ++ wR G (ad 2) k1 r1 ++ wR G (ad 3) k2 r2 ++ wK (ad 4))) ⟨C0, hK, hP, hD, hS, hA⟩ 7 rfl (ci := 7) rfl rfl ((m_pullFloor l G (ad 1) (ad 4) kd r hr hk sp hp)) (cwV 1 hts (lw_V q750 q582 q583 q94 q584) rfl rfl rfl (by decide +kernel) ⟨Nat.le_of_ble_eq_true rfl, Nat.le_of_ble_eq_true rfl⟩) [7, 8, 9, 10, 11, 12, 25, 26, 27, 28, 29, 30] [0, 2, 4, 6, 8, 10, 12, 1, 3, 5, 7, 9, 11, 26, 28, 30, 32, 34, 36, 38, 40, 42, 44, 46, 48, 13, 15, 17, 19, 21, 23] rfl (fun _ => rfl) rfl rfl hl.1 rfl (Nat.le_of_ble_eq_true rfl) dX0_floorIt_21 ⟨(Nat.le_of_ble_eq_true rfl), (Nat.le_of_ble_eq_true rfl)⟩ (fun r_3 u_3 H locs hw_3 hP hD hS => ?_)
      have hw_3 : (pPullFN r sp : Int32) = r_3 := hw_3.symm
      subst hw_3
      have hP : va_P G.1 vwCl (wX G ad ho rn ln dr ro lt rf th sb ++ wR G (ad 1) kd (pPullF r sp) ++ wR G (ad 2) k1 r1 ++ wR G (ad 3) k2 r2 ++ wK (ad 4)) H := hP
      have hD : va_D A (wX G ad ho rn ln dr ro lt rf th sb ++ wR G (ad 1) kd (pPullF r sp) ++ wR G (ad 2) k1 r1 ++ wR G (ad 3) k2 r2 ++ wK (ad 4)) := hD
      refine hret _ _ _ _ _ _ (pPullFN r sp) () dX0_floorIt_24 ?_ hP hD hS (Nat.le_of_ble_eq_true rfl) (Nat.le_of_ble_eq_true rfl)
      refine ⟨by rw [eW_0 hw_1, eS_t hw_2], ?_⟩
      exact rfl
set_option maxHeartbeats 4000000 in
set_option maxRecDepth 100000 in
theorem m_layIt (l : Launch) (hl0 : l.stackTraces = false) (G : xG) (ad : Nat → Nat → Nat) (kd k1 k2 : Nat → Option Nat) (r r1 r2 : Rw) (ho rn ln dr : Int32) (ro lt rf th sb : Nat → Int32) (hr : Ok r) (hp : r 5 3 = 0) (hk : kOk (ad 4) kd r) : yCi l G yX0_layIt cX0_layIt 3 (some .int) ({ frames := 8, cells := 1, slots := 7, locals := 129 } : Room) [.ref (ad 0 0)] (wX G ad ho rn ln dr ro lt rf th sb ++ wR G (ad 1) kd r ++ wR G (ad 2) k1 r1 ++ wR G (ad 3) k2 r2 ++ wK (ad 4)) (S := Unit) (SX := Unit) (fun v _ => eS (!bB r) (-3) 0 = 0 ∧ v = nI (cn (pLyP (pLay r)) (mny r))) (fun _ => (wX G ad ho rn ln dr ro lt rf th sb ++ wR G (ad 1) kd (pLay r) ++ wR G (ad 2) k1 r1 ++ wR G (ad 3) k2 r2 ++ wK (ad 4))) (fun n _ => n = eS (!bB r) (-3) 0 ∧ eS (!bB r) (-3) 0 ≠ 0) (fun _ => (wX G ad ho rn ln dr ro lt rf th sb ++ wR G (ad 1) kd r ++ wR G (ad 2) k1 r1 ++ wR G (ad 3) k2 r2 ++ wK (ad 4))) := by
  refine y_openi (by decide) (Nat.le_of_ble_eq_true rfl) (fun _ _ _ => rfl) ?_
  intro p e s m args below meth c A Q ls C0 hK hZ hP hD hA hl hret hthr
  obtain ⟨hx, hb, hml, hown, hts⟩ := id C0
  have hS : va_S A s.heap s.heap [] := va_S.rf
  have hP : va_P G.1 vwCl (wX G ad ho rn ln dr ro lt rf th sb ++ wR G (ad 1) kd r ++ wR G (ad 2) k1 r1 ++ wR G (ad 3) k2 r2 ++ wK (ad 4)) s.heap := hP
  have hD : va_D A (wX G ad ho rn ln dr ro lt rf th sb ++ wR G (ad 1) kd r ++ wR G (ad 2) k1 r1 ++ wR G (ad 3) k2 r2 ++ wK (ad 4)) := hD
  have hl : lv_has ls 3 [(0, .ref (ad 0 0))] := hl
  have hr0 := hr.n
  have hN := hr.le
  refine lv_aload_n hx hb dX0_layIt_0 rfl (lv_at hl 0 rfl) ?_
  refine va_get (D := G.1) (ci := 0) (v := .ref ((ad 1) 0)) (C := RX0) (T := TX0) (N := 13) hx hb hts in_X0 hown hK.1 hP 0 rfl rfl 1 (by decide) (hts _ q222) (fun _ h9 => h9) rfl dX0_layIt_1 ?_
  refine va_getN (D := G.1) (ci := 7) (v := .int (r 5 2)) (C := RX8) (T := TX8) (N := 9) hx hb hts in_X8 hown hK.1 hP 7 rfl rfl 6 (by decide) (va_Nw.use rfl (hK.2.F 13 rfl)) (fun _ h9 => h9) rfl dX0_layIt_4 ?_
  refine lv_if_ne (tgt := 14) hx hb dX0_layIt_7 (by decide) (fun c_1 => ?_) (fun c_1 => ?_)
  · skip
    refine lv_iconst (v := 0) hx hb dX0_layIt_14 (by decide) ?_
    have eb_15 : (0 : Int32) = bI (!bB r) := bI_F (by unfold bB; rcases hr.2.1 with h9 | h9 <;> simp [h9] at *)
    rw [eb_15]
    refine lv_bipush (v := (-3)) hx hb dX0_layIt_15 (by decide) ?_
    refine y_Sv (wN := fun _ => (wX G ad ho rn ln dr ro lt rf th sb ++ wR G (ad 1) kd r ++ wR G (ad 2) k1 r1 ++ wR G (ad 3) k2 r2 ++ wK (ad 4))) (wNx := fun u9 => (wX G ad ho rn ln dr ro lt rf th sb ++ wR G (ad 1) kd r ++ wR G (ad 2) k1 r1 ++ wR G (ad 3) k2 r2 ++ wK (ad 4))) ⟨C0, hK, hP, hD, hS, hA⟩ hZ ((m_must l hl0 G (!bB r) (-3))) (va_cwS 2 hts (lw_S q286 q287 q86 q288) rfl rfl rfl (by decide +kernel) ⟨Nat.le_of_ble_eq_true rfl, Nat.le_of_ble_eq_true rfl⟩) [] [0, 2, 4, 6, 8, 10, 12, 14, 16, 18, 20, 22, 24, 26, 28, 30, 32, 34, 36, 38, 40, 42, 44, 46, 48, 50, 52, 54, 56, 58, 60] [0, 2, 4, 6, 8, 10, 12, 14, 16, 18, 20, 22, 24, 26, 28, 30, 32, 34, 36, 38, 40, 42, 44, 46, 48, 50, 52, 54, 56, 58, 60, 1] rfl (fun _ => rfl) (fun _ _ _ => rfl) rfl rfl rfl hl.1 rfl (Nat.le_of_ble_eq_true rfl) dX0_layIt_17 ⟨(Nat.le_of_ble_eq_true rfl), (Nat.le_of_ble_eq_true rfl)⟩ (fun q9 u9 ee H locs hw_2 hP hD hS => ?_) (fun u_2 H locs hw_2 hP hD hS => ?_)
    · skip
      refine hthr _ _ _ _ _ _ _ q9 () ee ?_ hP hD hS (Nat.le_of_ble_eq_true rfl) (Nat.le_of_ble_eq_true rfl)
      obtain ⟨h8, h9⟩ := hw_2
      have e9 : eS (!bB r) (-3) 0 = ee.2.1 := by rw [eS_f h8]; exact h9.symm
      exact ⟨e9.symm, by rw [e9, h9]; decide⟩
    · skip
      refine W.widen (k := 1) (n := 7) (Nat.le_of_ble_eq_true rfl) (Nat.le_of_ble_eq_true rfl) ?_
      refine lv_aload_n hx hb dX0_layIt_20 rfl (lv_at hl 0 rfl) ?_
      refine va_get (D := G.1) (ci := 0) (v := .ref ((ad 1) 0)) (C := RX0) (T := TX0) (N := 13) hx hb hts in_X0 hown hK.1 hP 0 rfl rfl 1 (by decide) (hts _ q222) (fun _ h9 => h9) rfl dX0_layIt_21 ?_
      refine lv_iconst (v := 1) hx hb dX0_layIt_24 (by decide) ?_
      refine va_putN (D := G.1) (ci := 7) (v := .int 1) (ty := .boolean) (C := RX8) (T := TX8) (N := 9) hx hb hts in_X8 tyX8 tyX8_ok nmX8 hown hK.1 hP hD hS 7 rfl rfl 6 (by decide) (va_Nw.use rfl (hK.2.F 13 rfl)) (fun _ h9 => h9) rfl (by decide +kernel) (by decide) (by decide) (Nat.le_of_ble_eq_true rfl) dX0_layIt_25 (fun H locs hP hD hS => ?_)
      have hP : va_P G.1 vwCl (wX G ad ho rn ln dr ro lt rf th sb ++ wR G (ad 1) kd (sf r 5 (upd (r 5) 2 1)) ++ wR G (ad 2) k1 r1 ++ wR G (ad 3) k2 r2 ++ wK (ad 4)) H := hP
      have hD : va_D A (wX G ad ho rn ln dr ro lt rf th sb ++ wR G (ad 1) kd (sf r 5 (upd (r 5) 2 1)) ++ wR G (ad 2) k1 r1 ++ wR G (ad 3) k2 r2 ++ wK (ad 4)) := hD
      have hP : va_P G.1 vwCl (wX G ad ho rn ln dr ro lt rf th sb ++ wR G (ad 1) kd (pLay r) ++ wR G (ad 2) k1 r1 ++ wR G (ad 3) k2 r2 ++ wK (ad 4)) H := hP
      have hD : va_D A (wX G ad ho rn ln dr ro lt rf th sb ++ wR G (ad 1) kd (pLay r) ++ wR G (ad 2) k1 r1 ++ wR G (ad 3) k2 r2 ++ wK (ad 4)) := hD
      refine lv_iconst (v := 0) hx hb dX0_layIt_28 (by decide) ?_
      refine lv_istore_n (lv' := [(1, .int 0), (0, .ref (ad 0 0))]) hx hb dX0_layIt_29 rfl hl (by decide) rfl (fun ls hl => ?_)
      refine lv_iconst (v := 0) hx hb dX0_layIt_30 (by decide) ?_
      refine lv_istore_n (lv' := [(2, .int 0), (1, .int 0), (0, .ref (ad 0 0))]) hx hb dX0_layIt_31 rfl hl (by decide) rfl (fun ls hl => ?_)
      have loop_32 : ∀ (n : Nat) (i : Nat), (i ≤ mny r) → (mny r < i + n) → ∀ (H : Heap) (locs : List Loc) (ls : Array Slot), va_P G.1 vwCl (wX G ad ho rn ln dr ro lt rf th sb ++ wR G (ad 1) kd (pLay r) ++ wR G (ad 2) k1 r1 ++ wR G (ad 3) k2 r2 ++ wK (ad 4)) H → va_D A (wX G ad ho rn ln dr ro lt rf th sb ++ wR G (ad 1) kd (pLay r) ++ wR G (ad 2) k1 r1 ++ wR G (ad 3) k2 r2 ++ wK (ad 4)) → va_S A s.heap H locs → lv_has ls 3 [(2, .int (nI i)), (1, .int (nI (cn (pLyP (pLay r)) i))), (0, .ref (ad 0 0))] → W p l e ({ frames := 8, cells := 1, slots := 7, locals := 129 } : Room) s m args below meth c H locs 1 7 Q (F0 m 32 ls []) := by
        intro n
        induction n with
        | zero => intro i hi32_0 hi32_1; exact absurd hi32_1 (by omega)
        | succ n ih_32 =>
          intro i hi32_0 hi32_1 H locs ls hP hD hS hl
          refine lv_iload_n hx hb dX0_layIt_32 rfl (lv_at hl 0 rfl) ?_
          refine lv_aload_n hx hb dX0_layIt_33 rfl (lv_at hl 2 rfl) ?_
          refine va_get (D := G.1) (ci := 0) (v := .ref ((ad 1) 0)) (C := RX0) (T := TX0) (N := 13) hx hb hts in_X0 hown hK.1 hP 0 rfl rfl 1 (by decide) (hts _ q222) (fun _ h9 => h9) rfl dX0_layIt_34 ?_
          refine va_getN (D := G.1) (ci := 7) (v := .int (nI (mny r))) (C := RX8) (T := TX8) (N := 9) hx hb hts in_X8 hown hK.1 hP 7 rfl rfl 0 (by decide) (va_Nw.use rfl (hK.2.F 4 rfl)) (fun _ h9 => h9) (x_some hr0) dX0_layIt_37 ?_
          refine lv_icmp_ge (tgt := 82) hx hb dX0_layIt_40 (by decide) (fun c_3 => ?_) (fun c_3 => ?_)
          · skip
            have g_3 := (nI_leI (by omega) (by omega)).mp c_3
            refine lv_iload_n hx hb dX0_layIt_82 rfl (lv_at hl 1 rfl) ?_
            refine hret _ _ _ _ _ _ (nI (cn (pLyP (pLay r)) i)) () dX0_layIt_83 ?_ hP hD hS (Nat.le_of_ble_eq_true rfl) (Nat.le_of_ble_eq_true rfl)
            refine ⟨by rw [eS_t hw_2], ?_⟩
            rw [show i = mny r by omega]
          · skip
            have g_3 := mt (nI_leI (by omega) (by omega)).mpr c_3
            refine lv_iload_n hx hb dX0_layIt_43 rfl (lv_at hl 1 rfl) ?_
            refine lv_aload_n hx hb dX0_layIt_44 rfl (lv_at hl 2 rfl) ?_
            refine va_get (D := G.1) (ci := 0) (v := .ref ((ad 1) 0)) (C := RX0) (T := TX0) (N := 13) hx hb hts in_X0 hown hK.1 hP 0 rfl rfl 1 (by decide) (hts _ q222) (fun _ h9 => h9) rfl dX0_layIt_45 ?_
            refine lv_iload_n hx hb dX0_layIt_48 rfl (lv_at hl 0 rfl) ?_
            refine x_Vi (wN := fun _ => (wX G ad ho rn ln dr ro lt rf th sb ++ wR G (ad 1) kd (pLay r) ++ wR G (ad 2) k1 r1 ++ wR G (ad 3) k2 r2 ++ wK (ad 4))) ⟨C0, hK, hP, hD, hS, hA⟩ 7 rfl (ci := 7) rfl rfl ((m_isStanding l G (ad 1) (ad 4) kd (pLay r) (Ok.lay hr) (kOk.lay hk) i (by omega))) (cwV 1 hts (lw_V q744 q558 q559 q94 q560) rfl rfl rfl (by decide +kernel) ⟨Nat.le_of_ble_eq_true rfl, Nat.le_of_ble_eq_true rfl⟩) [7, 8, 9, 10, 11, 12, 25, 26, 27, 28, 29, 30] [0, 2, 4, 6, 8, 10, 12, 1, 3, 5, 7, 9, 11, 26, 28, 30, 32, 34, 36, 38, 40, 42, 44, 46, 48, 13, 15, 17, 19, 21, 23] rfl (fun _ => rfl) rfl rfl hl.1 rfl (Nat.le_of_ble_eq_true rfl) dX0_layIt_49 ⟨(Nat.le_of_ble_eq_true rfl), (Nat.le_of_ble_eq_true rfl)⟩ (fun r_4 u_4 H locs hw_4 hP hD hS => ?_)
            have hw_4 : (bI (pSt (pLay r) i) : Int32) = r_4 := hw_4.symm
            subst hw_4
            refine lv_if_eq (tgt := 73) hx hb dX0_layIt_52 (by decide) (fun c_5 => ?_) (fun c_5 => ?_)
            · skip
              refine lv_iconst (v := 0) hx hb dX0_layIt_73 (by decide) ?_
              refine x_iadd hx hb dX0_layIt_74 (v := nI (cn (pLyP (pLay r)) (i + 1))) (cnI_f (by unfold pLyP; rw [show pSt (pLay r) i = false from (by have h9 := c_5; simpa [bI_0] using h9)]; rfl)) ?_
              refine lv_istore_n (lv' := [(1, .int (nI (cn (pLyP (pLay r)) (i + 1)))), (2, .int (nI i)), (0, .ref (ad 0 0))]) hx hb dX0_layIt_75 rfl hl (by decide) rfl (fun ls hl => ?_)
              refine lv_iinc (v := nI (i + 1)) (lv' := [(2, .int (nI (i + 1))), (1, .int (nI (cn (pLyP (pLay r)) (i + 1)))), (0, .ref (ad 0 0))]) hx hb dX0_layIt_76 hl (k := 1) rfl (x_inc1 _) (by decide) rfl (fun ls hl => ?_)
              refine lv_goto (tgt := 32) hx hb dX0_layIt_79 (by decide) ?_
              exact ih_32 (i + 1) (by omega) (by omega) _ _ _ hP hD hS (lv_sub hl [0, 1, 2] rfl)
            · skip
              refine lv_aload_n hx hb dX0_layIt_55 rfl (lv_at hl 2 rfl) ?_
              refine va_get (D := G.1) (ci := 0) (v := .ref ((ad 1) 0)) (C := RX0) (T := TX0) (N := 13) hx hb hts in_X0 hown hK.1 hP 0 rfl rfl 1 (by decide) (hts _ q222) (fun _ h9 => h9) rfl dX0_layIt_56 ?_
              refine va_getN (D := G.1) (ci := 7) (v := .ref ((ad 1) 3)) (C := RX8) (T := TX8) (N := 9) hx hb hts in_X8 hown hK.1 hP 7 rfl rfl 3 (by decide) (va_Nw.use rfl (hK.2.F 7 rfl)) (fun _ h9 => h9) rfl dX0_layIt_59 ?_
              refine lv_iload_n hx hb dX0_layIt_62 rfl (lv_at hl 0 rfl) ?_
              refine x_ialdn (k := i) hx hb hK.1 hP 10 0 rfl rfl (by omega) (by decide) (v := ((pLay r) 2) i) rfl dX0_layIt_63 ?_
              refine lv_bipush (v := (-9)) hx hb dX0_layIt_64 (by decide) ?_
              refine lv_icmp_ne (tgt := 73) hx hb dX0_layIt_66 (by decide) (fun c_6 => ?_) (fun c_6 => ?_)
              · skip
                refine lv_iconst (v := 0) hx hb dX0_layIt_73 (by decide) ?_
                refine x_iadd hx hb dX0_layIt_74 (v := nI (cn (pLyP (pLay r)) (i + 1))) (cnI_f (by unfold pLyP; rw [decide_eq_false (show ¬ pLay r 2 i = -9 from c_6)]; simp)) ?_
                refine lv_istore_n (lv' := [(1, .int (nI (cn (pLyP (pLay r)) (i + 1)))), (2, .int (nI i)), (0, .ref (ad 0 0))]) hx hb dX0_layIt_75 rfl hl (by decide) rfl (fun ls hl => ?_)
                refine lv_iinc (v := nI (i + 1)) (lv' := [(2, .int (nI (i + 1))), (1, .int (nI (cn (pLyP (pLay r)) (i + 1)))), (0, .ref (ad 0 0))]) hx hb dX0_layIt_76 hl (k := 1) rfl (x_inc1 _) (by decide) rfl (fun ls hl => ?_)
                refine lv_goto (tgt := 32) hx hb dX0_layIt_79 (by decide) ?_
                exact ih_32 (i + 1) (by omega) (by omega) _ _ _ hP hD hS (lv_sub hl [0, 1, 2] rfl)
              · skip
                refine lv_iconst (v := 1) hx hb dX0_layIt_69 (by decide) ?_
                refine lv_goto (tgt := 74) hx hb dX0_layIt_70 (by decide) ?_
                refine x_iadd hx hb dX0_layIt_74 (v := nI (cn (pLyP (pLay r)) (i + 1))) (cnI_t (by unfold pLyP; rw [show pSt (pLay r) i = true from (by have h9 := c_5; simpa [bI_0] using h9), decide_eq_true (show pLay r 2 i = -9 from c_6)]; rfl)) ?_
                refine lv_istore_n (lv' := [(1, .int (nI (cn (pLyP (pLay r)) (i + 1)))), (2, .int (nI i)), (0, .ref (ad 0 0))]) hx hb dX0_layIt_75 rfl hl (by decide) rfl (fun ls hl => ?_)
                refine lv_iinc (v := nI (i + 1)) (lv' := [(2, .int (nI (i + 1))), (1, .int (nI (cn (pLyP (pLay r)) (i + 1)))), (0, .ref (ad 0 0))]) hx hb dX0_layIt_76 hl (k := 1) rfl (x_inc1 _) (by decide) rfl (fun ls hl => ?_)
                refine lv_goto (tgt := 32) hx hb dX0_layIt_79 (by decide) ?_
                exact ih_32 (i + 1) (by omega) (by omega) _ _ _ hP hD hS (lv_sub hl [0, 1, 2] rfl)
      exact loop_32 (mny r + 1) 0 (by omega) (by omega) _ _ _ hP hD hS (lv_sub hl [0, 1, 2] rfl)
  · skip
    refine lv_iconst (v := 1) hx hb dX0_layIt_10 (by decide) ?_
    refine lv_goto (tgt := 15) hx hb dX0_layIt_11 (by decide) ?_
    have eb_15 : (1 : Int32) = bI (!bB r) := bI_T (by unfold bB; simp [show r 5 2 = 0 from c_1])
    rw [eb_15]
    refine lv_bipush (v := (-3)) hx hb dX0_layIt_15 (by decide) ?_
    refine y_Sv (wN := fun _ => (wX G ad ho rn ln dr ro lt rf th sb ++ wR G (ad 1) kd r ++ wR G (ad 2) k1 r1 ++ wR G (ad 3) k2 r2 ++ wK (ad 4))) (wNx := fun u9 => (wX G ad ho rn ln dr ro lt rf th sb ++ wR G (ad 1) kd r ++ wR G (ad 2) k1 r1 ++ wR G (ad 3) k2 r2 ++ wK (ad 4))) ⟨C0, hK, hP, hD, hS, hA⟩ hZ ((m_must l hl0 G (!bB r) (-3))) (va_cwS 2 hts (lw_S q286 q287 q86 q288) rfl rfl rfl (by decide +kernel) ⟨Nat.le_of_ble_eq_true rfl, Nat.le_of_ble_eq_true rfl⟩) [] [0, 2, 4, 6, 8, 10, 12, 14, 16, 18, 20, 22, 24, 26, 28, 30, 32, 34, 36, 38, 40, 42, 44, 46, 48, 50, 52, 54, 56, 58, 60] [0, 2, 4, 6, 8, 10, 12, 14, 16, 18, 20, 22, 24, 26, 28, 30, 32, 34, 36, 38, 40, 42, 44, 46, 48, 50, 52, 54, 56, 58, 60, 1] rfl (fun _ => rfl) (fun _ _ _ => rfl) rfl rfl rfl hl.1 rfl (Nat.le_of_ble_eq_true rfl) dX0_layIt_17 ⟨(Nat.le_of_ble_eq_true rfl), (Nat.le_of_ble_eq_true rfl)⟩ (fun q9 u9 ee H locs hw_7 hP hD hS => ?_) (fun u_7 H locs hw_7 hP hD hS => ?_)
    · skip
      refine hthr _ _ _ _ _ _ _ q9 () ee ?_ hP hD hS (Nat.le_of_ble_eq_true rfl) (Nat.le_of_ble_eq_true rfl)
      obtain ⟨h8, h9⟩ := hw_7
      have e9 : eS (!bB r) (-3) 0 = ee.2.1 := by rw [eS_f h8]; exact h9.symm
      exact ⟨e9.symm, by rw [e9, h9]; decide⟩
    · skip
      refine W.widen (k := 1) (n := 7) (Nat.le_of_ble_eq_true rfl) (Nat.le_of_ble_eq_true rfl) ?_
      refine lv_aload_n hx hb dX0_layIt_20 rfl (lv_at hl 0 rfl) ?_
      refine va_get (D := G.1) (ci := 0) (v := .ref ((ad 1) 0)) (C := RX0) (T := TX0) (N := 13) hx hb hts in_X0 hown hK.1 hP 0 rfl rfl 1 (by decide) (hts _ q222) (fun _ h9 => h9) rfl dX0_layIt_21 ?_
      refine lv_iconst (v := 1) hx hb dX0_layIt_24 (by decide) ?_
      refine va_putN (D := G.1) (ci := 7) (v := .int 1) (ty := .boolean) (C := RX8) (T := TX8) (N := 9) hx hb hts in_X8 tyX8 tyX8_ok nmX8 hown hK.1 hP hD hS 7 rfl rfl 6 (by decide) (va_Nw.use rfl (hK.2.F 13 rfl)) (fun _ h9 => h9) rfl (by decide +kernel) (by decide) (by decide) (Nat.le_of_ble_eq_true rfl) dX0_layIt_25 (fun H locs hP hD hS => ?_)
      have hP : va_P G.1 vwCl (wX G ad ho rn ln dr ro lt rf th sb ++ wR G (ad 1) kd (sf r 5 (upd (r 5) 2 1)) ++ wR G (ad 2) k1 r1 ++ wR G (ad 3) k2 r2 ++ wK (ad 4)) H := hP
      have hD : va_D A (wX G ad ho rn ln dr ro lt rf th sb ++ wR G (ad 1) kd (sf r 5 (upd (r 5) 2 1)) ++ wR G (ad 2) k1 r1 ++ wR G (ad 3) k2 r2 ++ wK (ad 4)) := hD
      have hP : va_P G.1 vwCl (wX G ad ho rn ln dr ro lt rf th sb ++ wR G (ad 1) kd (pLay r) ++ wR G (ad 2) k1 r1 ++ wR G (ad 3) k2 r2 ++ wK (ad 4)) H := hP
      have hD : va_D A (wX G ad ho rn ln dr ro lt rf th sb ++ wR G (ad 1) kd (pLay r) ++ wR G (ad 2) k1 r1 ++ wR G (ad 3) k2 r2 ++ wK (ad 4)) := hD
      refine lv_iconst (v := 0) hx hb dX0_layIt_28 (by decide) ?_
      refine lv_istore_n (lv' := [(1, .int 0), (0, .ref (ad 0 0))]) hx hb dX0_layIt_29 rfl hl (by decide) rfl (fun ls hl => ?_)
      refine lv_iconst (v := 0) hx hb dX0_layIt_30 (by decide) ?_
      refine lv_istore_n (lv' := [(2, .int 0), (1, .int 0), (0, .ref (ad 0 0))]) hx hb dX0_layIt_31 rfl hl (by decide) rfl (fun ls hl => ?_)
      have loop_32 : ∀ (n : Nat) (i : Nat), (i ≤ mny r) → (mny r < i + n) → ∀ (H : Heap) (locs : List Loc) (ls : Array Slot), va_P G.1 vwCl (wX G ad ho rn ln dr ro lt rf th sb ++ wR G (ad 1) kd (pLay r) ++ wR G (ad 2) k1 r1 ++ wR G (ad 3) k2 r2 ++ wK (ad 4)) H → va_D A (wX G ad ho rn ln dr ro lt rf th sb ++ wR G (ad 1) kd (pLay r) ++ wR G (ad 2) k1 r1 ++ wR G (ad 3) k2 r2 ++ wK (ad 4)) → va_S A s.heap H locs → lv_has ls 3 [(2, .int (nI i)), (1, .int (nI (cn (pLyP (pLay r)) i))), (0, .ref (ad 0 0))] → W p l e ({ frames := 8, cells := 1, slots := 7, locals := 129 } : Room) s m args below meth c H locs 1 7 Q (F0 m 32 ls []) := by
        intro n
        induction n with
        | zero => intro i hi32_0 hi32_1; exact absurd hi32_1 (by omega)
        | succ n ih_32 =>
          intro i hi32_0 hi32_1 H locs ls hP hD hS hl
          refine lv_iload_n hx hb dX0_layIt_32 rfl (lv_at hl 0 rfl) ?_
          refine lv_aload_n hx hb dX0_layIt_33 rfl (lv_at hl 2 rfl) ?_
          refine va_get (D := G.1) (ci := 0) (v := .ref ((ad 1) 0)) (C := RX0) (T := TX0) (N := 13) hx hb hts in_X0 hown hK.1 hP 0 rfl rfl 1 (by decide) (hts _ q222) (fun _ h9 => h9) rfl dX0_layIt_34 ?_
          refine va_getN (D := G.1) (ci := 7) (v := .int (nI (mny r))) (C := RX8) (T := TX8) (N := 9) hx hb hts in_X8 hown hK.1 hP 7 rfl rfl 0 (by decide) (va_Nw.use rfl (hK.2.F 4 rfl)) (fun _ h9 => h9) (x_some hr0) dX0_layIt_37 ?_
          refine lv_icmp_ge (tgt := 82) hx hb dX0_layIt_40 (by decide) (fun c_8 => ?_) (fun c_8 => ?_)
          · skip
            have g_8 := (nI_leI (by omega) (by omega)).mp c_8
            refine lv_iload_n hx hb dX0_layIt_82 rfl (lv_at hl 1 rfl) ?_
            refine hret _ _ _ _ _ _ (nI (cn (pLyP (pLay r)) i)) () dX0_layIt_83 ?_ hP hD hS (Nat.le_of_ble_eq_true rfl) (Nat.le_of_ble_eq_true rfl)
            refine ⟨by rw [eS_t hw_7], ?_⟩
            rw [show i = mny r by omega]
          · skip
            have g_8 := mt (nI_leI (by omega) (by omega)).mpr c_8
            refine lv_iload_n hx hb dX0_layIt_43 rfl (lv_at hl 1 rfl) ?_
            refine lv_aload_n hx hb dX0_layIt_44 rfl (lv_at hl 2 rfl) ?_
            refine va_get (D := G.1) (ci := 0) (v := .ref ((ad 1) 0)) (C := RX0) (T := TX0) (N := 13) hx hb hts in_X0 hown hK.1 hP 0 rfl rfl 1 (by decide) (hts _ q222) (fun _ h9 => h9) rfl dX0_layIt_45 ?_
            refine lv_iload_n hx hb dX0_layIt_48 rfl (lv_at hl 0 rfl) ?_
            refine x_Vi (wN := fun _ => (wX G ad ho rn ln dr ro lt rf th sb ++ wR G (ad 1) kd (pLay r) ++ wR G (ad 2) k1 r1 ++ wR G (ad 3) k2 r2 ++ wK (ad 4))) ⟨C0, hK, hP, hD, hS, hA⟩ 7 rfl (ci := 7) rfl rfl ((m_isStanding l G (ad 1) (ad 4) kd (pLay r) (Ok.lay hr) (kOk.lay hk) i (by omega))) (cwV 1 hts (lw_V q744 q558 q559 q94 q560) rfl rfl rfl (by decide +kernel) ⟨Nat.le_of_ble_eq_true rfl, Nat.le_of_ble_eq_true rfl⟩) [7, 8, 9, 10, 11, 12, 25, 26, 27, 28, 29, 30] [0, 2, 4, 6, 8, 10, 12, 1, 3, 5, 7, 9, 11, 26, 28, 30, 32, 34, 36, 38, 40, 42, 44, 46, 48, 13, 15, 17, 19, 21, 23] rfl (fun _ => rfl) rfl rfl hl.1 rfl (Nat.le_of_ble_eq_true rfl) dX0_layIt_49 ⟨(Nat.le_of_ble_eq_true rfl), (Nat.le_of_ble_eq_true rfl)⟩ (fun r_9 u_9 H locs hw_9 hP hD hS => ?_)
            have hw_9 : (bI (pSt (pLay r) i) : Int32) = r_9 := hw_9.symm
            subst hw_9
            refine lv_if_eq (tgt := 73) hx hb dX0_layIt_52 (by decide) (fun c_10 => ?_) (fun c_10 => ?_)
            · skip
              refine lv_iconst (v := 0) hx hb dX0_layIt_73 (by decide) ?_
              refine x_iadd hx hb dX0_layIt_74 (v := nI (cn (pLyP (pLay r)) (i + 1))) (cnI_f (by unfold pLyP; rw [show pSt (pLay r) i = false from (by have h9 := c_10; simpa [bI_0] using h9)]; rfl)) ?_
              refine lv_istore_n (lv' := [(1, .int (nI (cn (pLyP (pLay r)) (i + 1)))), (2, .int (nI i)), (0, .ref (ad 0 0))]) hx hb dX0_layIt_75 rfl hl (by decide) rfl (fun ls hl => ?_)
              refine lv_iinc (v := nI (i + 1)) (lv' := [(2, .int (nI (i + 1))), (1, .int (nI (cn (pLyP (pLay r)) (i + 1)))), (0, .ref (ad 0 0))]) hx hb dX0_layIt_76 hl (k := 1) rfl (x_inc1 _) (by decide) rfl (fun ls hl => ?_)
              refine lv_goto (tgt := 32) hx hb dX0_layIt_79 (by decide) ?_
              exact ih_32 (i + 1) (by omega) (by omega) _ _ _ hP hD hS (lv_sub hl [0, 1, 2] rfl)
            · skip
              refine lv_aload_n hx hb dX0_layIt_55 rfl (lv_at hl 2 rfl) ?_
              refine va_get (D := G.1) (ci := 0) (v := .ref ((ad 1) 0)) (C := RX0) (T := TX0) (N := 13) hx hb hts in_X0 hown hK.1 hP 0 rfl rfl 1 (by decide) (hts _ q222) (fun _ h9 => h9) rfl dX0_layIt_56 ?_
              refine va_getN (D := G.1) (ci := 7) (v := .ref ((ad 1) 3)) (C := RX8) (T := TX8) (N := 9) hx hb hts in_X8 hown hK.1 hP 7 rfl rfl 3 (by decide) (va_Nw.use rfl (hK.2.F 7 rfl)) (fun _ h9 => h9) rfl dX0_layIt_59 ?_
              refine lv_iload_n hx hb dX0_layIt_62 rfl (lv_at hl 0 rfl) ?_
              refine x_ialdn (k := i) hx hb hK.1 hP 10 0 rfl rfl (by omega) (by decide) (v := ((pLay r) 2) i) rfl dX0_layIt_63 ?_
              refine lv_bipush (v := (-9)) hx hb dX0_layIt_64 (by decide) ?_
              refine lv_icmp_ne (tgt := 73) hx hb dX0_layIt_66 (by decide) (fun c_11 => ?_) (fun c_11 => ?_)
              · skip
                refine lv_iconst (v := 0) hx hb dX0_layIt_73 (by decide) ?_
                refine x_iadd hx hb dX0_layIt_74 (v := nI (cn (pLyP (pLay r)) (i + 1))) (cnI_f (by unfold pLyP; rw [decide_eq_false (show ¬ pLay r 2 i = -9 from c_11)]; simp)) ?_
                refine lv_istore_n (lv' := [(1, .int (nI (cn (pLyP (pLay r)) (i + 1)))), (2, .int (nI i)), (0, .ref (ad 0 0))]) hx hb dX0_layIt_75 rfl hl (by decide) rfl (fun ls hl => ?_)
                refine lv_iinc (v := nI (i + 1)) (lv' := [(2, .int (nI (i + 1))), (1, .int (nI (cn (pLyP (pLay r)) (i + 1)))), (0, .ref (ad 0 0))]) hx hb dX0_layIt_76 hl (k := 1) rfl (x_inc1 _) (by decide) rfl (fun ls hl => ?_)
                refine lv_goto (tgt := 32) hx hb dX0_layIt_79 (by decide) ?_
                exact ih_32 (i + 1) (by omega) (by omega) _ _ _ hP hD hS (lv_sub hl [0, 1, 2] rfl)
              · skip
                refine lv_iconst (v := 1) hx hb dX0_layIt_69 (by decide) ?_
                refine lv_goto (tgt := 74) hx hb dX0_layIt_70 (by decide) ?_
                refine x_iadd hx hb dX0_layIt_74 (v := nI (cn (pLyP (pLay r)) (i + 1))) (cnI_t (by unfold pLyP; rw [show pSt (pLay r) i = true from (by have h9 := c_10; simpa [bI_0] using h9), decide_eq_true (show pLay r 2 i = -9 from c_11)]; rfl)) ?_
                refine lv_istore_n (lv' := [(1, .int (nI (cn (pLyP (pLay r)) (i + 1)))), (2, .int (nI i)), (0, .ref (ad 0 0))]) hx hb dX0_layIt_75 rfl hl (by decide) rfl (fun ls hl => ?_)
                refine lv_iinc (v := nI (i + 1)) (lv' := [(2, .int (nI (i + 1))), (1, .int (nI (cn (pLyP (pLay r)) (i + 1)))), (0, .ref (ad 0 0))]) hx hb dX0_layIt_76 hl (k := 1) rfl (x_inc1 _) (by decide) rfl (fun ls hl => ?_)
                refine lv_goto (tgt := 32) hx hb dX0_layIt_79 (by decide) ?_
                exact ih_32 (i + 1) (by omega) (by omega) _ _ _ hP hD hS (lv_sub hl [0, 1, 2] rfl)
      exact loop_32 (mny r + 1) 0 (by omega) (by omega) _ _ _ hP hD hS (lv_sub hl [0, 1, 2] rfl)
set_option maxHeartbeats 4000000 in
set_option maxRecDepth 100000 in
theorem m_setIt (l : Launch) (hl0 : l.stackTraces = false) (G : xG) (ad : Nat → Nat → Nat) (kd k1 k2 : Nat → Option Nat) (r r1 r2 : Rw) (ho rn ln dr : Int32) (ro lt rf th sb : Nat → Int32) (hr : Ok r) (hp : r 5 3 = 0) (hk : kOk (ad 4) kd r) (t : Int32) : yCi l G yX0_setIt cX0_setIt 2 (some .int) ({ frames := 10, cells := 2, slots := 14, locals := 171 } : Room) [.ref (ad 0 0), .int t] (wX G ad ho rn ln dr ro lt rf th sb ++ wR G (ad 1) kd r ++ wR G (ad 2) k1 r1 ++ wR G (ad 3) k2 r2 ++ wK (ad 4)) (S := Unit) (SX := Unit) (fun v _ => eS (tB r t) (-1) (eS (pHow r 1 (ix t)) (-3) 0) = 0 ∧ v = bI (pHeld (pSetUp r (ix t)) (ix t))) (fun _ => (wX G ad ho rn ln dr ro lt rf th sb ++ wR G (ad 1) kd (pSetUp r (ix t)) ++ wR G (ad 2) k1 r1 ++ wR G (ad 3) k2 r2 ++ wK (ad 4))) (fun n _ => n = eS (tB r t) (-1) (eS (pHow r 1 (ix t)) (-3) 0) ∧ eS (tB r t) (-1) (eS (pHow r 1 (ix t)) (-3) 0) ≠ 0) (fun _ => (wX G ad ho rn ln dr ro lt rf th sb ++ wR G (ad 1) kd r ++ wR G (ad 2) k1 r1 ++ wR G (ad 3) k2 r2 ++ wK (ad 4))) := by
  refine y_openi (by decide) (Nat.le_of_ble_eq_true rfl) (fun _ _ _ => rfl) ?_
  intro p e s m args below meth c A Q ls C0 hK hZ hP hD hA hl hret hthr
  obtain ⟨hx, hb, hml, hown, hts⟩ := id C0
  have hS : va_S A s.heap s.heap [] := va_S.rf
  have hP : va_P G.1 vwCl (wX G ad ho rn ln dr ro lt rf th sb ++ wR G (ad 1) kd r ++ wR G (ad 2) k1 r1 ++ wR G (ad 3) k2 r2 ++ wK (ad 4)) s.heap := hP
  have hD : va_D A (wX G ad ho rn ln dr ro lt rf th sb ++ wR G (ad 1) kd r ++ wR G (ad 2) k1 r1 ++ wR G (ad 3) k2 r2 ++ wK (ad 4)) := hD
  have hl : lv_has ls 2 [(0, .ref (ad 0 0)), (1, .int t)] := hl
  have hr0 := hr.n
  have hN := hr.le
  refine lv_aload_n hx hb dX0_setIt_0 rfl (lv_at hl 0 rfl) ?_
  refine lv_iload_n hx hb dX0_setIt_1 rfl (lv_at hl 1 rfl) ?_
  refine y_Vv (wN := fun _ => (wX G ad ho rn ln dr ro lt rf th sb ++ wR G (ad 1) kd r ++ wR G (ad 2) k1 r1 ++ wR G (ad 3) k2 r2 ++ wK (ad 4))) (wNx := fun u9 => (wX G ad ho rn ln dr ro lt rf th sb ++ wR G (ad 1) kd r ++ wR G (ad 2) k1 r1 ++ wR G (ad 3) k2 r2 ++ wK (ad 4))) ⟨C0, hK, hP, hD, hS, hA⟩ hZ 0 rfl (ci := 0) rfl rfl ((m_mustBeThing l hl0 G ad kd k1 k2 r r1 r2 ho rn ln dr ro lt rf th sb hr hp hk t)) (cwV 1 hts (lw_V q699 q701 qs14 q86 q702) rfl rfl rfl (by decide +kernel) ⟨Nat.le_of_ble_eq_true rfl, Nat.le_of_ble_eq_true rfl⟩) [0, 1, 2, 3, 4, 5, 6, 7, 8, 9, 10, 11, 12, 13, 14, 15, 16, 17, 18, 19, 20, 21, 22, 23, 24, 25, 26, 27, 28, 29, 30] [1, 3, 5, 7, 9, 11, 13, 15, 17, 19, 21, 23, 25, 27, 29, 31, 33, 35, 37, 39, 41, 43, 45, 47, 49, 51, 53, 55, 57, 59, 61] [1, 3, 5, 7, 9, 11, 13, 15, 17, 19, 21, 23, 25, 27, 29, 31, 33, 35, 37, 39, 41, 43, 45, 47, 49, 51, 53, 55, 57, 59, 61, 63] rfl (fun _ => rfl) (fun _ _ _ => rfl) rfl rfl rfl hl.1 rfl (Nat.le_of_ble_eq_true rfl) dX0_setIt_2 ⟨(Nat.le_of_ble_eq_true rfl), (Nat.le_of_ble_eq_true rfl)⟩ (fun q9 u9 ee H locs hw_1 hP hD hS => ?_) (fun u_1 H locs hw_1 hP hD hS => ?_)
  · skip
    refine hthr _ _ _ _ _ _ _ q9 () ee ?_ hP hD hS (Nat.le_of_ble_eq_true rfl) (Nat.le_of_ble_eq_true rfl)
    obtain ⟨h8, h9⟩ := hw_1
    have e9 : eS (tB r t) (-1) (eS (pHow r 1 (ix t)) (-3) 0) = ee.2.1 := by rw [eS_f h8]; exact h9.symm
    exact ⟨e9.symm, by rw [e9, h9]; decide⟩
  · skip
    refine W.widen (k := 1) (n := 7) (Nat.le_of_ble_eq_true rfl) (Nat.le_of_ble_eq_true rfl) ?_
    obtain ⟨hj_t, et_t⟩ := tB_ix hN hw_1
    rw [et_t] at hl
    refine lv_aload_n hx hb dX0_setIt_5 rfl (lv_at hl 0 rfl) ?_
    refine va_get (D := G.1) (ci := 0) (v := .ref ((ad 1) 0)) (C := RX0) (T := TX0) (N := 13) hx hb hts in_X0 hown hK.1 hP 0 rfl rfl 1 (by decide) (hts _ q222) (fun _ h9 => h9) rfl dX0_setIt_6 ?_
    refine va_getN (D := G.1) (ci := 7) (v := .ref ((ad 1) 4)) (C := RX8) (T := TX8) (N := 9) hx hb hts in_X8 hown hK.1 hP 7 rfl rfl 4 (by decide) (va_Nw.use rfl (hK.2.F 9 rfl)) (fun _ h9 => h9) rfl dX0_setIt_9 ?_
    refine lv_iload_n hx hb dX0_setIt_12 rfl (lv_at hl 1 rfl) ?_
    refine x_ialdn (k := (ix t)) hx hb hK.1 hP 11 0 rfl rfl (by omega) (by decide) (v := (r 3) (ix t)) rfl dX0_setIt_13 ?_
    refine lv_iconst (v := 1) hx hb dX0_setIt_14 (by decide) ?_
    refine lv_icmp_ne (tgt := 22) hx hb dX0_setIt_15 (by decide) (fun c_2 => ?_) (fun c_2 => ?_)
    · skip
      refine lv_iconst (v := 0) hx hb dX0_setIt_22 (by decide) ?_
      have eb_23 : (0 : Int32) = bI (pHow r 1 (ix t)) := bI_F (decide_eq_false (c_2))
      rw [eb_23]
      refine lv_bipush (v := (-3)) hx hb dX0_setIt_23 (by decide) ?_
      refine y_Sv (wN := fun _ => (wX G ad ho rn ln dr ro lt rf th sb ++ wR G (ad 1) kd r ++ wR G (ad 2) k1 r1 ++ wR G (ad 3) k2 r2 ++ wK (ad 4))) (wNx := fun u9 => (wX G ad ho rn ln dr ro lt rf th sb ++ wR G (ad 1) kd r ++ wR G (ad 2) k1 r1 ++ wR G (ad 3) k2 r2 ++ wK (ad 4))) ⟨C0, hK, hP, hD, hS, hA⟩ hZ ((m_must l hl0 G (pHow r 1 (ix t)) (-3))) (va_cwS 2 hts (lw_S q286 q287 q86 q288) rfl rfl rfl (by decide +kernel) ⟨Nat.le_of_ble_eq_true rfl, Nat.le_of_ble_eq_true rfl⟩) [] [0, 2, 4, 6, 8, 10, 12, 14, 16, 18, 20, 22, 24, 26, 28, 30, 32, 34, 36, 38, 40, 42, 44, 46, 48, 50, 52, 54, 56, 58, 60] [0, 2, 4, 6, 8, 10, 12, 14, 16, 18, 20, 22, 24, 26, 28, 30, 32, 34, 36, 38, 40, 42, 44, 46, 48, 50, 52, 54, 56, 58, 60, 1] rfl (fun _ => rfl) (fun _ _ _ => rfl) rfl rfl rfl hl.1 rfl (Nat.le_of_ble_eq_true rfl) dX0_setIt_25 ⟨(Nat.le_of_ble_eq_true rfl), (Nat.le_of_ble_eq_true rfl)⟩ (fun q9 u9 ee H locs hw_3 hP hD hS => ?_) (fun u_3 H locs hw_3 hP hD hS => ?_)
      · skip
        refine hthr _ _ _ _ _ _ _ q9 () ee ?_ hP hD hS (Nat.le_of_ble_eq_true rfl) (Nat.le_of_ble_eq_true rfl)
        obtain ⟨h8, h9⟩ := hw_3
        have e9 : eS (tB r t) (-1) (eS (pHow r 1 (ix t)) (-3) 0) = ee.2.1 := by rw [eS_t hw_1, eS_f h8]; exact h9.symm
        exact ⟨e9.symm, by rw [e9, h9]; decide⟩
      · skip
        refine W.widen (k := 2) (n := 14) (Nat.le_of_ble_eq_true rfl) (Nat.le_of_ble_eq_true rfl) ?_
        refine lv_aload_n hx hb dX0_setIt_28 rfl (lv_at hl 0 rfl) ?_
        refine va_get (D := G.1) (ci := 0) (v := .ref ((ad 1) 0)) (C := RX0) (T := TX0) (N := 13) hx hb hts in_X0 hown hK.1 hP 0 rfl rfl 1 (by decide) (hts _ q222) (fun _ h9 => h9) rfl dX0_setIt_29 ?_
        refine lv_iload_n hx hb dX0_setIt_32 rfl (lv_at hl 1 rfl) ?_
        refine x_Vv (wN := fun _ => (wX G ad ho rn ln dr ro lt rf th sb ++ wR G (ad 1) kd (pSetUp r (ix t)) ++ wR G (ad 2) k1 r1 ++ wR G (ad 3) k2 r2 ++ wK (ad 4))) ⟨C0, hK, hP, hD, hS, hA⟩ 7 rfl (ci := 7) rfl rfl ((m_setUp l G (ad 1) (ad 4) kd r hr hk (ix t) (by omega))) (cwV 1 hts (lw_V q759 q690 q691 q94 q692) rfl rfl rfl (by decide +kernel) ⟨Nat.le_of_ble_eq_true rfl, Nat.le_of_ble_eq_true rfl⟩) [7, 8, 9, 10, 11, 12, 25, 26, 27, 28, 29, 30] [0, 2, 4, 6, 8, 10, 12, 1, 3, 5, 7, 9, 11, 26, 28, 30, 32, 34, 36, 38, 40, 42, 44, 46, 48, 13, 15, 17, 19, 21, 23] rfl (fun _ => rfl) rfl rfl hl.1 rfl (Nat.le_of_ble_eq_true rfl) dX0_setIt_33 ⟨(Nat.le_of_ble_eq_true rfl), (Nat.le_of_ble_eq_true rfl)⟩ (fun u_4 H locs hw_4 hP hD hS => ?_)
        have hP : va_P G.1 vwCl (wX G ad ho rn ln dr ro lt rf th sb ++ wR G (ad 1) kd (pSetUp r (ix t)) ++ wR G (ad 2) k1 r1 ++ wR G (ad 3) k2 r2 ++ wK (ad 4)) H := hP
        have hD : va_D A (wX G ad ho rn ln dr ro lt rf th sb ++ wR G (ad 1) kd (pSetUp r (ix t)) ++ wR G (ad 2) k1 r1 ++ wR G (ad 3) k2 r2 ++ wK (ad 4)) := hD
        refine lv_aload_n hx hb dX0_setIt_36 rfl (lv_at hl 0 rfl) ?_
        refine va_get (D := G.1) (ci := 0) (v := .ref ((ad 1) 0)) (C := RX0) (T := TX0) (N := 13) hx hb hts in_X0 hown hK.1 hP 0 rfl rfl 1 (by decide) (hts _ q222) (fun _ h9 => h9) rfl dX0_setIt_37 ?_
        refine lv_iload_n hx hb dX0_setIt_40 rfl (lv_at hl 1 rfl) ?_
        refine x_Vi (wN := fun _ => (wX G ad ho rn ln dr ro lt rf th sb ++ wR G (ad 1) kd (pSetUp r (ix t)) ++ wR G (ad 2) k1 r1 ++ wR G (ad 3) k2 r2 ++ wK (ad 4))) ⟨C0, hK, hP, hD, hS, hA⟩ 7 rfl (ci := 7) rfl rfl ((m_isHeld l G (ad 1) (ad 4) kd (pSetUp r (ix t)) (Ok.setUp hr) (kOk.setUp hk) (ix t) (show ix t < mny r from hj_t))) (cwV 1 hts (lw_V q731 q631 q632 q94 q633) rfl rfl rfl (by decide +kernel) ⟨Nat.le_of_ble_eq_true rfl, Nat.le_of_ble_eq_true rfl⟩) [7, 8, 9, 10, 11, 12, 25, 26, 27, 28, 29, 30] [0, 2, 4, 6, 8, 10, 12, 1, 3, 5, 7, 9, 11, 26, 28, 30, 32, 34, 36, 38, 40, 42, 44, 46, 48, 13, 15, 17, 19, 21, 23] rfl (fun _ => rfl) rfl rfl hl.1 rfl (Nat.le_of_ble_eq_true rfl) dX0_setIt_41 ⟨(Nat.le_of_ble_eq_true rfl), (Nat.le_of_ble_eq_true rfl)⟩ (fun r_5 u_5 H locs hw_5 hP hD hS => ?_)
        have hw_5 : (bI (pHeld (pSetUp r (ix t)) (ix t)) : Int32) = r_5 := hw_5.symm
        subst hw_5
        refine lv_if_eq (tgt := 51) hx hb dX0_setIt_44 (by decide) (fun c_6 => ?_) (fun c_6 => ?_)
        · skip
          refine lv_iconst (v := 0) hx hb dX0_setIt_51 (by decide) ?_
          refine hret _ _ _ _ _ _ 0 () dX0_setIt_52 ?_ hP hD hS (Nat.le_of_ble_eq_true rfl) (Nat.le_of_ble_eq_true rfl)
          refine ⟨by rw [eS_t hw_1, eS_t hw_3], ?_⟩
          exact bI_F (by have h9 := c_6; simpa [bI_0] using h9)
        · skip
          refine lv_iconst (v := 1) hx hb dX0_setIt_47 (by decide) ?_
          refine lv_goto (tgt := 52) hx hb dX0_setIt_48 (by decide) ?_
          refine hret _ _ _ _ _ _ 1 () dX0_setIt_52 ?_ hP hD hS (Nat.le_of_ble_eq_true rfl) (Nat.le_of_ble_eq_true rfl)
          refine ⟨by rw [eS_t hw_1, eS_t hw_3], ?_⟩
          exact bI_T (by have h9 := c_6; simpa [bI_0] using h9)
    · skip
      refine lv_iconst (v := 1) hx hb dX0_setIt_18 (by decide) ?_
      refine lv_goto (tgt := 23) hx hb dX0_setIt_19 (by decide) ?_
      have eb_23 : (1 : Int32) = bI (pHow r 1 (ix t)) := bI_T (decide_eq_true (c_2))
      rw [eb_23]
      refine lv_bipush (v := (-3)) hx hb dX0_setIt_23 (by decide) ?_
      refine y_Sv (wN := fun _ => (wX G ad ho rn ln dr ro lt rf th sb ++ wR G (ad 1) kd r ++ wR G (ad 2) k1 r1 ++ wR G (ad 3) k2 r2 ++ wK (ad 4))) (wNx := fun u9 => (wX G ad ho rn ln dr ro lt rf th sb ++ wR G (ad 1) kd r ++ wR G (ad 2) k1 r1 ++ wR G (ad 3) k2 r2 ++ wK (ad 4))) ⟨C0, hK, hP, hD, hS, hA⟩ hZ ((m_must l hl0 G (pHow r 1 (ix t)) (-3))) (va_cwS 2 hts (lw_S q286 q287 q86 q288) rfl rfl rfl (by decide +kernel) ⟨Nat.le_of_ble_eq_true rfl, Nat.le_of_ble_eq_true rfl⟩) [] [0, 2, 4, 6, 8, 10, 12, 14, 16, 18, 20, 22, 24, 26, 28, 30, 32, 34, 36, 38, 40, 42, 44, 46, 48, 50, 52, 54, 56, 58, 60] [0, 2, 4, 6, 8, 10, 12, 14, 16, 18, 20, 22, 24, 26, 28, 30, 32, 34, 36, 38, 40, 42, 44, 46, 48, 50, 52, 54, 56, 58, 60, 1] rfl (fun _ => rfl) (fun _ _ _ => rfl) rfl rfl rfl hl.1 rfl (Nat.le_of_ble_eq_true rfl) dX0_setIt_25 ⟨(Nat.le_of_ble_eq_true rfl), (Nat.le_of_ble_eq_true rfl)⟩ (fun q9 u9 ee H locs hw_7 hP hD hS => ?_) (fun u_7 H locs hw_7 hP hD hS => ?_)
      · skip
        refine hthr _ _ _ _ _ _ _ q9 () ee ?_ hP hD hS (Nat.le_of_ble_eq_true rfl) (Nat.le_of_ble_eq_true rfl)
        obtain ⟨h8, h9⟩ := hw_7
        have e9 : eS (tB r t) (-1) (eS (pHow r 1 (ix t)) (-3) 0) = ee.2.1 := by rw [eS_t hw_1, eS_f h8]; exact h9.symm
        exact ⟨e9.symm, by rw [e9, h9]; decide⟩
      · skip
        refine W.widen (k := 2) (n := 14) (Nat.le_of_ble_eq_true rfl) (Nat.le_of_ble_eq_true rfl) ?_
        refine lv_aload_n hx hb dX0_setIt_28 rfl (lv_at hl 0 rfl) ?_
        refine va_get (D := G.1) (ci := 0) (v := .ref ((ad 1) 0)) (C := RX0) (T := TX0) (N := 13) hx hb hts in_X0 hown hK.1 hP 0 rfl rfl 1 (by decide) (hts _ q222) (fun _ h9 => h9) rfl dX0_setIt_29 ?_
        refine lv_iload_n hx hb dX0_setIt_32 rfl (lv_at hl 1 rfl) ?_
        refine x_Vv (wN := fun _ => (wX G ad ho rn ln dr ro lt rf th sb ++ wR G (ad 1) kd (pSetUp r (ix t)) ++ wR G (ad 2) k1 r1 ++ wR G (ad 3) k2 r2 ++ wK (ad 4))) ⟨C0, hK, hP, hD, hS, hA⟩ 7 rfl (ci := 7) rfl rfl ((m_setUp l G (ad 1) (ad 4) kd r hr hk (ix t) (by omega))) (cwV 1 hts (lw_V q759 q690 q691 q94 q692) rfl rfl rfl (by decide +kernel) ⟨Nat.le_of_ble_eq_true rfl, Nat.le_of_ble_eq_true rfl⟩) [7, 8, 9, 10, 11, 12, 25, 26, 27, 28, 29, 30] [0, 2, 4, 6, 8, 10, 12, 1, 3, 5, 7, 9, 11, 26, 28, 30, 32, 34, 36, 38, 40, 42, 44, 46, 48, 13, 15, 17, 19, 21, 23] rfl (fun _ => rfl) rfl rfl hl.1 rfl (Nat.le_of_ble_eq_true rfl) dX0_setIt_33 ⟨(Nat.le_of_ble_eq_true rfl), (Nat.le_of_ble_eq_true rfl)⟩ (fun u_8 H locs hw_8 hP hD hS => ?_)
        have hP : va_P G.1 vwCl (wX G ad ho rn ln dr ro lt rf th sb ++ wR G (ad 1) kd (pSetUp r (ix t)) ++ wR G (ad 2) k1 r1 ++ wR G (ad 3) k2 r2 ++ wK (ad 4)) H := hP
        have hD : va_D A (wX G ad ho rn ln dr ro lt rf th sb ++ wR G (ad 1) kd (pSetUp r (ix t)) ++ wR G (ad 2) k1 r1 ++ wR G (ad 3) k2 r2 ++ wK (ad 4)) := hD
        refine lv_aload_n hx hb dX0_setIt_36 rfl (lv_at hl 0 rfl) ?_
        refine va_get (D := G.1) (ci := 0) (v := .ref ((ad 1) 0)) (C := RX0) (T := TX0) (N := 13) hx hb hts in_X0 hown hK.1 hP 0 rfl rfl 1 (by decide) (hts _ q222) (fun _ h9 => h9) rfl dX0_setIt_37 ?_
        refine lv_iload_n hx hb dX0_setIt_40 rfl (lv_at hl 1 rfl) ?_
        refine x_Vi (wN := fun _ => (wX G ad ho rn ln dr ro lt rf th sb ++ wR G (ad 1) kd (pSetUp r (ix t)) ++ wR G (ad 2) k1 r1 ++ wR G (ad 3) k2 r2 ++ wK (ad 4))) ⟨C0, hK, hP, hD, hS, hA⟩ 7 rfl (ci := 7) rfl rfl ((m_isHeld l G (ad 1) (ad 4) kd (pSetUp r (ix t)) (Ok.setUp hr) (kOk.setUp hk) (ix t) (show ix t < mny r from hj_t))) (cwV 1 hts (lw_V q731 q631 q632 q94 q633) rfl rfl rfl (by decide +kernel) ⟨Nat.le_of_ble_eq_true rfl, Nat.le_of_ble_eq_true rfl⟩) [7, 8, 9, 10, 11, 12, 25, 26, 27, 28, 29, 30] [0, 2, 4, 6, 8, 10, 12, 1, 3, 5, 7, 9, 11, 26, 28, 30, 32, 34, 36, 38, 40, 42, 44, 46, 48, 13, 15, 17, 19, 21, 23] rfl (fun _ => rfl) rfl rfl hl.1 rfl (Nat.le_of_ble_eq_true rfl) dX0_setIt_41 ⟨(Nat.le_of_ble_eq_true rfl), (Nat.le_of_ble_eq_true rfl)⟩ (fun r_9 u_9 H locs hw_9 hP hD hS => ?_)
        have hw_9 : (bI (pHeld (pSetUp r (ix t)) (ix t)) : Int32) = r_9 := hw_9.symm
        subst hw_9
        refine lv_if_eq (tgt := 51) hx hb dX0_setIt_44 (by decide) (fun c_10 => ?_) (fun c_10 => ?_)
        · skip
          refine lv_iconst (v := 0) hx hb dX0_setIt_51 (by decide) ?_
          refine hret _ _ _ _ _ _ 0 () dX0_setIt_52 ?_ hP hD hS (Nat.le_of_ble_eq_true rfl) (Nat.le_of_ble_eq_true rfl)
          refine ⟨by rw [eS_t hw_1, eS_t hw_7], ?_⟩
          exact bI_F (by have h9 := c_10; simpa [bI_0] using h9)
        · skip
          refine lv_iconst (v := 1) hx hb dX0_setIt_47 (by decide) ?_
          refine lv_goto (tgt := 52) hx hb dX0_setIt_48 (by decide) ?_
          refine hret _ _ _ _ _ _ 1 () dX0_setIt_52 ?_ hP hD hS (Nat.le_of_ble_eq_true rfl) (Nat.le_of_ble_eq_true rfl)
          refine ⟨by rw [eS_t hw_1, eS_t hw_7], ?_⟩
          exact bI_T (by have h9 := c_10; simpa [bI_0] using h9)
set_option maxHeartbeats 4000000 in
set_option maxRecDepth 100000 in
theorem m_minutesIt (l : Launch) (hl0 : l.stackTraces = false) (G : xG) (ad : Nat → Nat → Nat) (kd k1 k2 : Nat → Option Nat) (r r1 r2 : Rw) (ho rn ln dr : Int32) (ro lt rf th sb : Nat → Int32) (hr : Ok r) (hp : r 5 3 = 0) (hk : kOk (ad 4) kd r) (mi : Int32) : yCi l G yX0_minutesIt cX0_minutesIt 2 (some .int) ({ frames := 9, cells := 3, slots := 21, locals := 154 } : Room) [.ref (ad 0 0), .int mi] (wX G ad ho rn ln dr ro lt rf th sb ++ wR G (ad 1) kd r ++ wR G (ad 2) k1 r1 ++ wR G (ad 3) k2 r2 ++ wK (ad 4)) (S := Unit) (SX := Unit) (fun v _ => eW (wBy mi.toInt 1 60) (eS (decide (r 5 1 + mi ≤ 999)) (-6) 0) = 0 ∧ v = pStN (pMins r (ix mi))) (fun _ => (wX G ad ho rn ln dr ro lt rf th sb ++ wR G (ad 1) kd (pMins r (ix mi)) ++ wR G (ad 2) k1 r1 ++ wR G (ad 3) k2 r2 ++ wK (ad 4))) (fun n _ => n = eW (wBy mi.toInt 1 60) (eS (decide (r 5 1 + mi ≤ 999)) (-6) 0) ∧ eW (wBy mi.toInt 1 60) (eS (decide (r 5 1 + mi ≤ 999)) (-6) 0) ≠ 0) (fun _ => (wX G ad ho rn ln dr ro lt rf th sb ++ wR G (ad 1) kd r ++ wR G (ad 2) k1 r1 ++ wR G (ad 3) k2 r2 ++ wK (ad 4))) := by
  refine y_openi (by decide) (Nat.le_of_ble_eq_true rfl) (fun _ _ _ => rfl) ?_
  intro p e s m args below meth c A Q ls C0 hK hZ hP hD hA hl hret hthr
  obtain ⟨hx, hb, hml, hown, hts⟩ := id C0
  have hS : va_S A s.heap s.heap [] := va_S.rf
  have hP : va_P G.1 vwCl (wX G ad ho rn ln dr ro lt rf th sb ++ wR G (ad 1) kd r ++ wR G (ad 2) k1 r1 ++ wR G (ad 3) k2 r2 ++ wK (ad 4)) s.heap := hP
  have hD : va_D A (wX G ad ho rn ln dr ro lt rf th sb ++ wR G (ad 1) kd r ++ wR G (ad 2) k1 r1 ++ wR G (ad 3) k2 r2 ++ wK (ad 4)) := hD
  have hl : lv_has ls 2 [(0, .ref (ad 0 0)), (1, .int mi)] := hl
  have hr0 := hr.n
  have hN := hr.le
  refine lv_iload_n hx hb dX0_minutesIt_0 rfl (lv_at hl 1 rfl) ?_
  refine lv_i2l (v := mi.toInt64) hx hb dX0_minutesIt_1 rfl ?_
  refine lv_lconst (v := 1) hx hb dX0_minutesIt_2 (by decide) ?_
  refine lv_ldc2 (v := 60) hx hb hown (hts _ q769) dX0_minutesIt_3 ?_
  refine y_Sv (wN := fun _ => (wX G ad ho rn ln dr ro lt rf th sb ++ wR G (ad 1) kd r ++ wR G (ad 2) k1 r1 ++ wR G (ad 3) k2 r2 ++ wK (ad 4))) (wNx := fun u9 => (wX G ad ho rn ln dr ro lt rf th sb ++ wR G (ad 1) kd r ++ wR G (ad 2) k1 r1 ++ wR G (ad 3) k2 r2 ++ wK (ad 4))) ⟨C0, hK, hP, hD, hS, hA⟩ hZ ((m_within l hl0 G mi.toInt64 1 60)) (va_cwS 3 hts (lw_S q283 q284 q86 q285) rfl rfl rfl (by decide +kernel) ⟨Nat.le_of_ble_eq_true rfl, Nat.le_of_ble_eq_true rfl⟩) [] [0, 2, 4, 6, 8, 10, 12, 14, 16, 18, 20, 22, 24, 26, 28, 30, 32, 34, 36, 38, 40, 42, 44, 46, 48, 50, 52, 54, 56, 58, 60] [0, 2, 4, 6, 8, 10, 12, 14, 16, 18, 20, 22, 24, 26, 28, 30, 32, 34, 36, 38, 40, 42, 44, 46, 48, 50, 52, 54, 56, 58, 60, 1] rfl (fun _ => rfl) (fun _ _ _ => rfl) rfl rfl rfl hl.1 rfl (Nat.le_of_ble_eq_true rfl) dX0_minutesIt_6 ⟨(Nat.le_of_ble_eq_true rfl), (Nat.le_of_ble_eq_true rfl)⟩ (fun q9 u9 ee H locs hw_1 hP hD hS => ?_) (fun u_1 H locs hw_1 hP hD hS => ?_)
  · skip
    refine hthr _ _ _ _ _ _ _ q9 () ee ?_ hP hD hS (Nat.le_of_ble_eq_true rfl) (Nat.le_of_ble_eq_true rfl)
    obtain ⟨h8, h9⟩ := hw_1
    rw [i2l_toInt] at h8 h9
    have h8 : ee.2.1 = wBy _ 1 60 := h8
    have h9 : wBy _ 1 60 ≠ 0 := h9
    have e9 : eW (wBy mi.toInt 1 60) (eS (decide (r 5 1 + mi ≤ 999)) (-6) 0) = ee.2.1 := by rw [eW_n h9]; exact h8.symm
    exact ⟨e9.symm, by rw [e9, h8]; exact h9⟩
  · skip
    refine W.widen (k := 2) (n := 14) (Nat.le_of_ble_eq_true rfl) (Nat.le_of_ble_eq_true rfl) ?_
    rw [i2l_toInt] at hw_1
    have hw_1 : wBy _ 1 60 = 0 := hw_1
    obtain ⟨hk_mi, hj_mi, et_mi⟩ := wB1_ix (n := 60) (by omega) hw_1
    refine lv_aload_n hx hb dX0_minutesIt_9 rfl (lv_at hl 0 rfl) ?_
    refine va_get (D := G.1) (ci := 0) (v := .ref ((ad 1) 0)) (C := RX0) (T := TX0) (N := 13) hx hb hts in_X0 hown hK.1 hP 0 rfl rfl 1 (by decide) (hts _ q222) (fun _ h9 => h9) rfl dX0_minutesIt_10 ?_
    refine va_getN (D := G.1) (ci := 7) (v := .int (r 5 1)) (C := RX8) (T := TX8) (N := 9) hx hb hts in_X8 hown hK.1 hP 7 rfl rfl 7 (by decide) (va_Nw.use rfl (hK.2.F 15 rfl)) (fun _ h9 => h9) rfl dX0_minutesIt_13 ?_
    refine lv_iload_n hx hb dX0_minutesIt_16 rfl (lv_at hl 1 rfl) ?_
    refine x_iadd hx hb dX0_minutesIt_17 (v := (r 5 1) + mi) rfl ?_
    refine lv_sipush (v := 999) hx hb dX0_minutesIt_18 (by decide) ?_
    refine lv_icmp_gt (tgt := 28) hx hb dX0_minutesIt_21 (by decide) (fun c_2 => ?_) (fun c_2 => ?_)
    · skip
      refine lv_iconst (v := 0) hx hb dX0_minutesIt_28 (by decide) ?_
      have eb_29 : (0 : Int32) = bI (decide (r 5 1 + mi ≤ 999)) := bI_F (decide_eq_false (fun z => absurd c_2 (Int32.not_lt.mpr z)))
      rw [eb_29]
      refine lv_bipush (v := (-6)) hx hb dX0_minutesIt_29 (by decide) ?_
      refine y_Sv (wN := fun _ => (wX G ad ho rn ln dr ro lt rf th sb ++ wR G (ad 1) kd r ++ wR G (ad 2) k1 r1 ++ wR G (ad 3) k2 r2 ++ wK (ad 4))) (wNx := fun u9 => (wX G ad ho rn ln dr ro lt rf th sb ++ wR G (ad 1) kd r ++ wR G (ad 2) k1 r1 ++ wR G (ad 3) k2 r2 ++ wK (ad 4))) ⟨C0, hK, hP, hD, hS, hA⟩ hZ ((m_must l hl0 G (decide (r 5 1 + mi ≤ 999)) (-6))) (va_cwS 2 hts (lw_S q286 q287 q86 q288) rfl rfl rfl (by decide +kernel) ⟨Nat.le_of_ble_eq_true rfl, Nat.le_of_ble_eq_true rfl⟩) [] [0, 2, 4, 6, 8, 10, 12, 14, 16, 18, 20, 22, 24, 26, 28, 30, 32, 34, 36, 38, 40, 42, 44, 46, 48, 50, 52, 54, 56, 58, 60] [0, 2, 4, 6, 8, 10, 12, 14, 16, 18, 20, 22, 24, 26, 28, 30, 32, 34, 36, 38, 40, 42, 44, 46, 48, 50, 52, 54, 56, 58, 60, 1] rfl (fun _ => rfl) (fun _ _ _ => rfl) rfl rfl rfl hl.1 rfl (Nat.le_of_ble_eq_true rfl) dX0_minutesIt_31 ⟨(Nat.le_of_ble_eq_true rfl), (Nat.le_of_ble_eq_true rfl)⟩ (fun q9 u9 ee H locs hw_3 hP hD hS => ?_) (fun u_3 H locs hw_3 hP hD hS => ?_)
      · skip
        refine hthr _ _ _ _ _ _ _ q9 () ee ?_ hP hD hS (Nat.le_of_ble_eq_true rfl) (Nat.le_of_ble_eq_true rfl)
        obtain ⟨h8, h9⟩ := hw_3
        have e9 : eW (wBy mi.toInt 1 60) (eS (decide (r 5 1 + mi ≤ 999)) (-6) 0) = ee.2.1 := by rw [eW_0 hw_1, eS_f h8]; exact h9.symm
        exact ⟨e9.symm, by rw [e9, h9]; decide⟩
      · skip
        refine W.widen (k := 3) (n := 21) (Nat.le_of_ble_eq_true rfl) (Nat.le_of_ble_eq_true rfl) ?_
        rw [et_mi] at hl
        refine lv_aload_n hx hb dX0_minutesIt_34 rfl (lv_at hl 0 rfl) ?_
        refine va_get (D := G.1) (ci := 0) (v := .ref ((ad 1) 0)) (C := RX0) (T := TX0) (N := 13) hx hb hts in_X0 hown hK.1 hP 0 rfl rfl 1 (by decide) (hts _ q222) (fun _ h9 => h9) rfl dX0_minutesIt_35 ?_
        refine lv_iload_n hx hb dX0_minutesIt_38 rfl (lv_at hl 1 rfl) ?_
        refine x_Vr (wN := fun _ => (wX G ad ho rn ln dr ro lt rf th sb ++ wR G (ad 1) kd (pMins r (ix mi)) ++ wR G (ad 2) k1 r1 ++ wR G (ad 3) k2 r2 ++ wK (ad 4))) ⟨C0, hK, hP, hD, hS, hA⟩ 7 rfl (ci := 7) rfl rfl ((m_minutesOn l G (ad 1) (ad 4) kd r hr hk (ix mi) (by omega))) (cwV 1 hts (lw_V q770 q623 q624 q94 q625) rfl rfl rfl (by decide +kernel) ⟨Nat.le_of_ble_eq_true rfl, Nat.le_of_ble_eq_true rfl⟩) [7, 8, 9, 10, 11, 12, 25, 26, 27, 28, 29, 30] [0, 2, 4, 6, 8, 10, 12, 1, 3, 5, 7, 9, 11, 26, 28, 30, 32, 34, 36, 38, 40, 42, 44, 46, 48, 13, 15, 17, 19, 21, 23] rfl (fun _ => rfl) rfl rfl hl.1 rfl (Nat.le_of_ble_eq_true rfl) dX0_minutesIt_39 ⟨(Nat.le_of_ble_eq_true rfl), (Nat.le_of_ble_eq_true rfl)⟩ (fun u_4 H locs hw_4 hP hD hS => ?_)
        have hP : va_P G.1 vwCl (wX G ad ho rn ln dr ro lt rf th sb ++ wR G (ad 1) kd (pMins r (ix mi)) ++ wR G (ad 2) k1 r1 ++ wR G (ad 3) k2 r2 ++ wK (ad 4)) H := hP
        have hD : va_D A (wX G ad ho rn ln dr ro lt rf th sb ++ wR G (ad 1) kd (pMins r (ix mi)) ++ wR G (ad 2) k1 r1 ++ wR G (ad 3) k2 r2 ++ wK (ad 4)) := hD
        refine x_Vi (wN := fun _ => (wX G ad ho rn ln dr ro lt rf th sb ++ wR G (ad 1) kd (pMins r (ix mi)) ++ wR G (ad 2) k1 r1 ++ wR G (ad 3) k2 r2 ++ wK (ad 4))) ⟨C0, hK, hP, hD, hS, hA⟩ 7 rfl (ci := 7) rfl rfl ((m_standing l G (ad 1) (ad 4) kd (pMins r (ix mi)) (Ok.mins hr) (kOk.mins hk))) (cwV 0 hts (lw_V q771 q772 q773 q94 q774) rfl rfl rfl (by decide +kernel) ⟨Nat.le_of_ble_eq_true rfl, Nat.le_of_ble_eq_true rfl⟩) [7, 8, 9, 10, 11, 12, 25, 26, 27, 28, 29, 30] [0, 2, 4, 6, 8, 10, 12, 1, 3, 5, 7, 9, 11, 26, 28, 30, 32, 34, 36, 38, 40, 42, 44, 46, 48, 13, 15, 17, 19, 21, 23] rfl (fun _ => rfl) rfl rfl hl.1 rfl (Nat.le_of_ble_eq_true rfl) dX0_minutesIt_42 ⟨(Nat.le_of_ble_eq_true rfl), (Nat.le_of_ble_eq_true rfl)⟩ (fun r_5 u_5 H locs hw_5 hP hD hS => ?_)
        have hw_5 : (pStN (pMins r (ix mi)) : Int32) = r_5 := hw_5.symm
        subst hw_5
        refine hret _ _ _ _ _ _ (pStN (pMins r (ix mi))) () dX0_minutesIt_45 ?_ hP hD hS (Nat.le_of_ble_eq_true rfl) (Nat.le_of_ble_eq_true rfl)
        refine ⟨by rw [eW_0 hw_1, eS_t hw_3], ?_⟩
        exact rfl
    · skip
      refine lv_iconst (v := 1) hx hb dX0_minutesIt_24 (by decide) ?_
      refine lv_goto (tgt := 29) hx hb dX0_minutesIt_25 (by decide) ?_
      have eb_29 : (1 : Int32) = bI (decide (r 5 1 + mi ≤ 999)) := bI_T (decide_eq_true (Int32.not_lt.mp c_2))
      rw [eb_29]
      refine lv_bipush (v := (-6)) hx hb dX0_minutesIt_29 (by decide) ?_
      refine y_Sv (wN := fun _ => (wX G ad ho rn ln dr ro lt rf th sb ++ wR G (ad 1) kd r ++ wR G (ad 2) k1 r1 ++ wR G (ad 3) k2 r2 ++ wK (ad 4))) (wNx := fun u9 => (wX G ad ho rn ln dr ro lt rf th sb ++ wR G (ad 1) kd r ++ wR G (ad 2) k1 r1 ++ wR G (ad 3) k2 r2 ++ wK (ad 4))) ⟨C0, hK, hP, hD, hS, hA⟩ hZ ((m_must l hl0 G (decide (r 5 1 + mi ≤ 999)) (-6))) (va_cwS 2 hts (lw_S q286 q287 q86 q288) rfl rfl rfl (by decide +kernel) ⟨Nat.le_of_ble_eq_true rfl, Nat.le_of_ble_eq_true rfl⟩) [] [0, 2, 4, 6, 8, 10, 12, 14, 16, 18, 20, 22, 24, 26, 28, 30, 32, 34, 36, 38, 40, 42, 44, 46, 48, 50, 52, 54, 56, 58, 60] [0, 2, 4, 6, 8, 10, 12, 14, 16, 18, 20, 22, 24, 26, 28, 30, 32, 34, 36, 38, 40, 42, 44, 46, 48, 50, 52, 54, 56, 58, 60, 1] rfl (fun _ => rfl) (fun _ _ _ => rfl) rfl rfl rfl hl.1 rfl (Nat.le_of_ble_eq_true rfl) dX0_minutesIt_31 ⟨(Nat.le_of_ble_eq_true rfl), (Nat.le_of_ble_eq_true rfl)⟩ (fun q9 u9 ee H locs hw_6 hP hD hS => ?_) (fun u_6 H locs hw_6 hP hD hS => ?_)
      · skip
        refine hthr _ _ _ _ _ _ _ q9 () ee ?_ hP hD hS (Nat.le_of_ble_eq_true rfl) (Nat.le_of_ble_eq_true rfl)
        obtain ⟨h8, h9⟩ := hw_6
        have e9 : eW (wBy mi.toInt 1 60) (eS (decide (r 5 1 + mi ≤ 999)) (-6) 0) = ee.2.1 := by rw [eW_0 hw_1, eS_f h8]; exact h9.symm
        exact ⟨e9.symm, by rw [e9, h9]; decide⟩
      · skip
        refine W.widen (k := 3) (n := 21) (Nat.le_of_ble_eq_true rfl) (Nat.le_of_ble_eq_true rfl) ?_
        rw [et_mi] at hl
        refine lv_aload_n hx hb dX0_minutesIt_34 rfl (lv_at hl 0 rfl) ?_
        refine va_get (D := G.1) (ci := 0) (v := .ref ((ad 1) 0)) (C := RX0) (T := TX0) (N := 13) hx hb hts in_X0 hown hK.1 hP 0 rfl rfl 1 (by decide) (hts _ q222) (fun _ h9 => h9) rfl dX0_minutesIt_35 ?_
        refine lv_iload_n hx hb dX0_minutesIt_38 rfl (lv_at hl 1 rfl) ?_
        refine x_Vr (wN := fun _ => (wX G ad ho rn ln dr ro lt rf th sb ++ wR G (ad 1) kd (pMins r (ix mi)) ++ wR G (ad 2) k1 r1 ++ wR G (ad 3) k2 r2 ++ wK (ad 4))) ⟨C0, hK, hP, hD, hS, hA⟩ 7 rfl (ci := 7) rfl rfl ((m_minutesOn l G (ad 1) (ad 4) kd r hr hk (ix mi) (by omega))) (cwV 1 hts (lw_V q770 q623 q624 q94 q625) rfl rfl rfl (by decide +kernel) ⟨Nat.le_of_ble_eq_true rfl, Nat.le_of_ble_eq_true rfl⟩) [7, 8, 9, 10, 11, 12, 25, 26, 27, 28, 29, 30] [0, 2, 4, 6, 8, 10, 12, 1, 3, 5, 7, 9, 11, 26, 28, 30, 32, 34, 36, 38, 40, 42, 44, 46, 48, 13, 15, 17, 19, 21, 23] rfl (fun _ => rfl) rfl rfl hl.1 rfl (Nat.le_of_ble_eq_true rfl) dX0_minutesIt_39 ⟨(Nat.le_of_ble_eq_true rfl), (Nat.le_of_ble_eq_true rfl)⟩ (fun u_7 H locs hw_7 hP hD hS => ?_)
        have hP : va_P G.1 vwCl (wX G ad ho rn ln dr ro lt rf th sb ++ wR G (ad 1) kd (pMins r (ix mi)) ++ wR G (ad 2) k1 r1 ++ wR G (ad 3) k2 r2 ++ wK (ad 4)) H := hP
        have hD : va_D A (wX G ad ho rn ln dr ro lt rf th sb ++ wR G (ad 1) kd (pMins r (ix mi)) ++ wR G (ad 2) k1 r1 ++ wR G (ad 3) k2 r2 ++ wK (ad 4)) := hD
        refine x_Vi (wN := fun _ => (wX G ad ho rn ln dr ro lt rf th sb ++ wR G (ad 1) kd (pMins r (ix mi)) ++ wR G (ad 2) k1 r1 ++ wR G (ad 3) k2 r2 ++ wK (ad 4))) ⟨C0, hK, hP, hD, hS, hA⟩ 7 rfl (ci := 7) rfl rfl ((m_standing l G (ad 1) (ad 4) kd (pMins r (ix mi)) (Ok.mins hr) (kOk.mins hk))) (cwV 0 hts (lw_V q771 q772 q773 q94 q774) rfl rfl rfl (by decide +kernel) ⟨Nat.le_of_ble_eq_true rfl, Nat.le_of_ble_eq_true rfl⟩) [7, 8, 9, 10, 11, 12, 25, 26, 27, 28, 29, 30] [0, 2, 4, 6, 8, 10, 12, 1, 3, 5, 7, 9, 11, 26, 28, 30, 32, 34, 36, 38, 40, 42, 44, 46, 48, 13, 15, 17, 19, 21, 23] rfl (fun _ => rfl) rfl rfl hl.1 rfl (Nat.le_of_ble_eq_true rfl) dX0_minutesIt_42 ⟨(Nat.le_of_ble_eq_true rfl), (Nat.le_of_ble_eq_true rfl)⟩ (fun r_8 u_8 H locs hw_8 hP hD hS => ?_)
        have hw_8 : (pStN (pMins r (ix mi)) : Int32) = r_8 := hw_8.symm
        subst hw_8
        refine hret _ _ _ _ _ _ (pStN (pMins r (ix mi))) () dX0_minutesIt_45 ?_ hP hD hS (Nat.le_of_ble_eq_true rfl) (Nat.le_of_ble_eq_true rfl)
        refine ⟨by rw [eW_0 hw_1, eS_t hw_6], ?_⟩
        exact rfl
set_option maxHeartbeats 4000000 in
set_option maxRecDepth 100000 in
theorem m_floorTold (l : Launch) (hl0 : l.stackTraces = false) (G : xG) (ad : Nat → Nat → Nat) (kd k1 k2 : Nat → Option Nat) (r r1 r2 : Rw) (ho rn ln dr : Int32) (ro lt rf th sb : Nat → Int32) (hr : Ok r) (hp : r 5 3 = 0) (hk : kOk (ad 4) kd r) (sp : Int32) : yCi l G yX0_floorTold cX0_floorTold 2 (some .int) ({ frames := 10, cells := 2, slots := 14, locals := 174 } : Room) [.ref (ad 0 0), .int sp] (wX G ad ho rn ln dr ro lt rf th sb ++ wR G (ad 1) kd r ++ wR G (ad 2) k1 r1 ++ wR G (ad 3) k2 r2 ++ wK (ad 4)) (S := ((Nat → Option Nat) × Rw)) (SX := Unit) (fun v _ => eW (wBy sp.toInt 0 9) 0 = 0 ∧ v = pFlo r sp) (fun u => (wX G ad ho rn ln dr ro lt rf th sb ++ wR G (ad 1) kd r ++ wR G (ad 2) u.1 u.2 ++ wR G (ad 3) k2 r2 ++ wK (ad 4))) (fun n _ => n = eW (wBy sp.toInt 0 9) 0 ∧ eW (wBy sp.toInt 0 9) 0 ≠ 0) (fun _ => (wX G ad ho rn ln dr ro lt rf th sb ++ wR G (ad 1) kd r ++ wR G (ad 2) k1 r1 ++ wR G (ad 3) k2 r2 ++ wK (ad 4))) := by
  refine y_openi (by decide) (Nat.le_of_ble_eq_true rfl) (fun _ _ _ => rfl) ?_
  intro p e s m args below meth c A Q ls C0 hK hZ hP hD hA hl hret hthr
  obtain ⟨hx, hb, hml, hown, hts⟩ := id C0
  have hS : va_S A s.heap s.heap [] := va_S.rf
  have hP : va_P G.1 vwCl (wX G ad ho rn ln dr ro lt rf th sb ++ wR G (ad 1) kd r ++ wR G (ad 2) k1 r1 ++ wR G (ad 3) k2 r2 ++ wK (ad 4)) s.heap := hP
  have hD : va_D A (wX G ad ho rn ln dr ro lt rf th sb ++ wR G (ad 1) kd r ++ wR G (ad 2) k1 r1 ++ wR G (ad 3) k2 r2 ++ wK (ad 4)) := hD
  have hl : lv_has ls 2 [(0, .ref (ad 0 0)), (1, .int sp)] := hl
  have hr0 := hr.n
  have hN := hr.le
  refine lv_iload_n hx hb dX0_floorTold_0 rfl (lv_at hl 1 rfl) ?_
  refine y_Sv (wN := fun _ => (wX G ad ho rn ln dr ro lt rf th sb ++ wR G (ad 1) kd r ++ wR G (ad 2) k1 r1 ++ wR G (ad 3) k2 r2 ++ wK (ad 4))) (wNx := fun u9 => (wX G ad ho rn ln dr ro lt rf th sb ++ wR G (ad 1) kd r ++ wR G (ad 2) k1 r1 ++ wR G (ad 3) k2 r2 ++ wK (ad 4))) ⟨C0, hK, hP, hD, hS, hA⟩ hZ ((m_mustBeSpeed l hl0 G sp)) (va_cwS 1 hts (lw_S q736 q737 q86 q738) rfl rfl rfl (by decide +kernel) ⟨Nat.le_of_ble_eq_true rfl, Nat.le_of_ble_eq_true rfl⟩) [] [0, 2, 4, 6, 8, 10, 12, 14, 16, 18, 20, 22, 24, 26, 28, 30, 32, 34, 36, 38, 40, 42, 44, 46, 48, 50, 52, 54, 56, 58, 60] [0, 2, 4, 6, 8, 10, 12, 14, 16, 18, 20, 22, 24, 26, 28, 30, 32, 34, 36, 38, 40, 42, 44, 46, 48, 50, 52, 54, 56, 58, 60, 1] rfl (fun _ => rfl) (fun _ _ _ => rfl) rfl rfl rfl hl.1 rfl (Nat.le_of_ble_eq_true rfl) dX0_floorTold_1 ⟨(Nat.le_of_ble_eq_true rfl), (Nat.le_of_ble_eq_true rfl)⟩ (fun q9 u9 ee H locs hw_1 hP hD hS => ?_) (fun u_1 H locs hw_1 hP hD hS => ?_)
  · skip
    refine hthr _ _ _ _ _ _ _ q9 () ee ?_ hP hD hS (Nat.le_of_ble_eq_true rfl) (Nat.le_of_ble_eq_true rfl)
    obtain ⟨h8, h9⟩ := hw_1
    have e9 : eW (wBy sp.toInt 0 9) 0 = ee.2.1 := by rw [eW_n h9]; exact h8.symm
    exact ⟨e9.symm, by rw [e9, h8]; exact h9⟩
  · skip
    refine W.widen (k := 2) (n := 14) (Nat.le_of_ble_eq_true rfl) (Nat.le_of_ble_eq_true rfl) ?_
    refine lv_aload_n hx hb dX0_floorTold_4 rfl (lv_at hl 0 rfl) ?_
    refine va_get (D := G.1) (ci := 0) (v := .ref ((ad 1) 0)) (C := RX0) (T := TX0) (N := 13) hx hb hts in_X0 hown hK.1 hP 0 rfl rfl 1 (by decide) (hts _ q222) (fun _ h9 => h9) rfl dX0_floorTold_5 ?_
    refine va_getN (D := G.1) (ci := 7) (v := .int (r 5 2)) (C := RX8) (T := TX8) (N := 9) hx hb hts in_X8 hown hK.1 hP 7 rfl rfl 6 (by decide) (va_Nw.use rfl (hK.2.F 13 rfl)) (fun _ h9 => h9) rfl dX0_floorTold_8 ?_
    refine lv_if_eq (tgt := 25) hx hb dX0_floorTold_11 (by decide) (fun c_2 => ?_) (fun c_2 => ?_)
    · skip
      refine lv_bipush (v := (-9)) hx hb dX0_floorTold_25 (by decide) ?_
      refine hret _ _ _ _ _ _ (-9) (k1, r1) dX0_floorTold_27 ?_ hP hD hS (Nat.le_of_ble_eq_true rfl) (Nat.le_of_ble_eq_true rfl)
      refine ⟨by rw [eW_0 hw_1], ?_⟩
      unfold pFlo
      exact (if_pos c_2).symm
    · skip
      refine lv_aload_n hx hb dX0_floorTold_14 rfl (lv_at hl 0 rfl) ?_
      refine x_Vr (wN := fun _ => (wX G ad ho rn ln dr ro lt rf th sb ++ wR G (ad 1) kd r ++ wR G (ad 2) kd r ++ wR G (ad 3) k2 r2 ++ wK (ad 4))) ⟨C0, hK, hP, hD, hS, hA⟩ 0 rfl (ci := 0) rfl rfl ((m_openMind l G ad kd k1 k2 r r1 r2 ho rn ln dr ro lt rf th sb hr hp hk )) (cwV 0 hts (lw_V q795 q797 qs25 q86 q798) rfl rfl rfl (by decide +kernel) ⟨Nat.le_of_ble_eq_true rfl, Nat.le_of_ble_eq_true rfl⟩) [0, 1, 2, 3, 4, 5, 6, 7, 8, 9, 10, 11, 12, 13, 14, 15, 16, 17, 18, 19, 20, 21, 22, 23, 24, 25, 26, 27, 28, 29, 30] [1, 3, 5, 7, 9, 11, 13, 15, 17, 19, 21, 23, 25, 27, 29, 31, 33, 35, 37, 39, 41, 43, 45, 47, 49, 51, 53, 55, 57, 59, 61] rfl (fun _ => rfl) rfl rfl hl.1 rfl (Nat.le_of_ble_eq_true rfl) dX0_floorTold_15 ⟨(Nat.le_of_ble_eq_true rfl), (Nat.le_of_ble_eq_true rfl)⟩ (fun u_3 H locs hw_3 hP hD hS => ?_)
      have hP : va_P G.1 vwCl (wX G ad ho rn ln dr ro lt rf th sb ++ wR G (ad 1) kd r ++ wR G (ad 2) kd r ++ wR G (ad 3) k2 r2 ++ wK (ad 4)) H := hP
      have hD : va_D A (wX G ad ho rn ln dr ro lt rf th sb ++ wR G (ad 1) kd r ++ wR G (ad 2) kd r ++ wR G (ad 3) k2 r2 ++ wK (ad 4)) := hD
      refine lv_iload_n hx hb dX0_floorTold_18 rfl (lv_at hl 1 rfl) ?_
      refine x_Vi (wN := fun _ => (wX G ad ho rn ln dr ro lt rf th sb ++ wR G (ad 1) kd r ++ wR G (ad 2) kd (pPullF r sp) ++ wR G (ad 3) k2 r2 ++ wK (ad 4))) ⟨C0, hK, hP, hD, hS, hA⟩ 13 rfl (ci := 7) rfl rfl ((m_pullFloor l G (ad 2) (ad 4) kd r hr hk sp hp)) (cwV 1 hts (lw_V q750 q582 q583 q94 q584) rfl rfl rfl (by decide +kernel) ⟨Nat.le_of_ble_eq_true rfl, Nat.le_of_ble_eq_true rfl⟩) [13, 14, 15, 16, 17, 18, 25, 26, 27, 28, 29, 30] [0, 2, 4, 6, 8, 10, 12, 14, 16, 18, 20, 22, 24, 1, 3, 5, 7, 9, 11, 38, 40, 42, 44, 46, 48, 13, 15, 17, 19, 21, 23] rfl (fun _ => rfl) rfl rfl hl.1 rfl (Nat.le_of_ble_eq_true rfl) dX0_floorTold_19 ⟨(Nat.le_of_ble_eq_true rfl), (Nat.le_of_ble_eq_true rfl)⟩ (fun r_4 u_4 H locs hw_4 hP hD hS => ?_)
      have hw_4 : (pPullFN r sp : Int32) = r_4 := hw_4.symm
      subst hw_4
      have hP : va_P G.1 vwCl (wX G ad ho rn ln dr ro lt rf th sb ++ wR G (ad 1) kd r ++ wR G (ad 2) kd (pPullF r sp) ++ wR G (ad 3) k2 r2 ++ wK (ad 4)) H := hP
      have hD : va_D A (wX G ad ho rn ln dr ro lt rf th sb ++ wR G (ad 1) kd r ++ wR G (ad 2) kd (pPullF r sp) ++ wR G (ad 3) k2 r2 ++ wK (ad 4)) := hD
      refine lv_goto (tgt := 27) hx hb dX0_floorTold_22 (by decide) ?_
      refine hret _ _ _ _ _ _ (pPullFN r sp) (kd, (pPullF r sp)) dX0_floorTold_27 ?_ hP hD hS (Nat.le_of_ble_eq_true rfl) (Nat.le_of_ble_eq_true rfl)
      refine ⟨by rw [eW_0 hw_1], ?_⟩
      unfold pFlo
      exact (if_neg c_2).symm
set_option maxHeartbeats 4000000 in
set_option maxRecDepth 100000 in
theorem m_watchedTold (l : Launch) (hl0 : l.stackTraces = false) (G : xG) (ad : Nat → Nat → Nat) (kd k1 k2 : Nat → Option Nat) (r r1 r2 : Rw) (ho rn ln dr : Int32) (ro lt rf th sb : Nat → Int32) (hr : Ok r) (hp : r 5 3 = 0) (hk : kOk (ad 4) kd r) (w : Int32) : yCi l G yX0_watchedTold cX0_watchedTold 2 (some .int) ({ frames := 9, cells := 1, slots := 7, locals := 149 } : Room) [.ref (ad 0 0), .int w] (wX G ad ho rn ln dr ro lt rf th sb ++ wR G (ad 1) kd r ++ wR G (ad 2) k1 r1 ++ wR G (ad 3) k2 r2 ++ wK (ad 4)) (S := Unit) (SX := Unit) (fun v _ => eS (inR w 0 1) (-2) 0 = 0 ∧ v = pWat r w) (fun _ => (wX G ad ho rn ln dr ro lt rf th sb ++ wR G (ad 1) kd r ++ wR G (ad 2) k1 r1 ++ wR G (ad 3) k2 r2 ++ wK (ad 4))) (fun n _ => n = eS (inR w 0 1) (-2) 0 ∧ eS (inR w 0 1) (-2) 0 ≠ 0) (fun _ => (wX G ad ho rn ln dr ro lt rf th sb ++ wR G (ad 1) kd r ++ wR G (ad 2) k1 r1 ++ wR G (ad 3) k2 r2 ++ wK (ad 4))) := by
  refine y_openi (by decide) (Nat.le_of_ble_eq_true rfl) (fun _ _ _ => rfl) ?_
  intro p e s m args below meth c A Q ls C0 hK hZ hP hD hA hl hret hthr
  obtain ⟨hx, hb, hml, hown, hts⟩ := id C0
  have hS : va_S A s.heap s.heap [] := va_S.rf
  have hP : va_P G.1 vwCl (wX G ad ho rn ln dr ro lt rf th sb ++ wR G (ad 1) kd r ++ wR G (ad 2) k1 r1 ++ wR G (ad 3) k2 r2 ++ wK (ad 4)) s.heap := hP
  have hD : va_D A (wX G ad ho rn ln dr ro lt rf th sb ++ wR G (ad 1) kd r ++ wR G (ad 2) k1 r1 ++ wR G (ad 3) k2 r2 ++ wK (ad 4)) := hD
  have hl : lv_has ls 2 [(0, .ref (ad 0 0)), (1, .int w)] := hl
  have hr0 := hr.n
  have hN := hr.le
  refine lv_iload_n hx hb dX0_watchedTold_0 rfl (lv_at hl 1 rfl) ?_
  refine y_Sv (wN := fun _ => (wX G ad ho rn ln dr ro lt rf th sb ++ wR G (ad 1) kd r ++ wR G (ad 2) k1 r1 ++ wR G (ad 3) k2 r2 ++ wK (ad 4))) (wNx := fun u9 => (wX G ad ho rn ln dr ro lt rf th sb ++ wR G (ad 1) kd r ++ wR G (ad 2) k1 r1 ++ wR G (ad 3) k2 r2 ++ wK (ad 4))) ⟨C0, hK, hP, hD, hS, hA⟩ hZ ((m_mustBeBit l hl0 G w)) (va_cwS 1 hts (lw_S q808 q809 q86 q810) rfl rfl rfl (by decide +kernel) ⟨Nat.le_of_ble_eq_true rfl, Nat.le_of_ble_eq_true rfl⟩) [] [0, 2, 4, 6, 8, 10, 12, 14, 16, 18, 20, 22, 24, 26, 28, 30, 32, 34, 36, 38, 40, 42, 44, 46, 48, 50, 52, 54, 56, 58, 60] [0, 2, 4, 6, 8, 10, 12, 14, 16, 18, 20, 22, 24, 26, 28, 30, 32, 34, 36, 38, 40, 42, 44, 46, 48, 50, 52, 54, 56, 58, 60, 1] rfl (fun _ => rfl) (fun _ _ _ => rfl) rfl rfl rfl hl.1 rfl (Nat.le_of_ble_eq_true rfl) dX0_watchedTold_1 ⟨(Nat.le_of_ble_eq_true rfl), (Nat.le_of_ble_eq_true rfl)⟩ (fun q9 u9 ee H locs hw_1 hP hD hS => ?_) (fun u_1 H locs hw_1 hP hD hS => ?_)
  · skip
    refine hthr _ _ _ _ _ _ _ q9 () ee ?_ hP hD hS (Nat.le_of_ble_eq_true rfl) (Nat.le_of_ble_eq_true rfl)
    obtain ⟨h8, h9⟩ := hw_1
    have e9 : eS (inR w 0 1) (-2) 0 = ee.2.1 := by rw [eS_f h8]; exact h9.symm
    exact ⟨e9.symm, by rw [e9, h9]; decide⟩
  · skip
    refine W.widen (k := 1) (n := 7) (Nat.le_of_ble_eq_true rfl) (Nat.le_of_ble_eq_true rfl) ?_
    refine lv_iload_n hx hb dX0_watchedTold_4 rfl (lv_at hl 1 rfl) ?_
    refine lv_if_ne (tgt := 15) hx hb dX0_watchedTold_5 (by decide) (fun c_2 => ?_) (fun c_2 => ?_)
    · skip
      refine lv_aload_n hx hb dX0_watchedTold_15 rfl (lv_at hl 0 rfl) ?_
      refine x_Vi (wN := fun _ => (wX G ad ho rn ln dr ro lt rf th sb ++ wR G (ad 1) kd r ++ wR G (ad 2) k1 r1 ++ wR G (ad 3) k2 r2 ++ wK (ad 4))) ⟨C0, hK, hP, hD, hS, hA⟩ 0 rfl (ci := 0) rfl rfl ((m_isSure l G ad kd k1 k2 r r1 r2 ho rn ln dr ro lt rf th sb hr hp hk )) (cwV 0 hts (lw_V q933 q935 qs49 q86 q936) rfl rfl rfl (by decide +kernel) ⟨Nat.le_of_ble_eq_true rfl, Nat.le_of_ble_eq_true rfl⟩) [0, 1, 2, 3, 4, 5, 6, 7, 8, 9, 10, 11, 12, 13, 14, 15, 16, 17, 18, 19, 20, 21, 22, 23, 24, 25, 26, 27, 28, 29, 30] [1, 3, 5, 7, 9, 11, 13, 15, 17, 19, 21, 23, 25, 27, 29, 31, 33, 35, 37, 39, 41, 43, 45, 47, 49, 51, 53, 55, 57, 59, 61] rfl (fun _ => rfl) rfl rfl hl.1 rfl (Nat.le_of_ble_eq_true rfl) dX0_watchedTold_16 ⟨(Nat.le_of_ble_eq_true rfl), (Nat.le_of_ble_eq_true rfl)⟩ (fun r_3 u_3 H locs hw_3 hP hD hS => ?_)
      have hw_3 : (bI (pAll (pSuP r) (mny r)) : Int32) = r_3 := hw_3.symm
      subst hw_3
      have hP : va_P G.1 vwCl (wX G ad ho rn ln dr ro lt rf th sb ++ wR G (ad 1) kd r ++ wR G (ad 2) k1 r1 ++ wR G (ad 3) k2 r2 ++ wK (ad 4)) H := hP
      have hD : va_D A (wX G ad ho rn ln dr ro lt rf th sb ++ wR G (ad 1) kd r ++ wR G (ad 2) k1 r1 ++ wR G (ad 3) k2 r2 ++ wK (ad 4)) := hD
      refine lv_if_eq (tgt := 26) hx hb dX0_watchedTold_19 (by decide) (fun c_4 => ?_) (fun c_4 => ?_)
      · skip
        refine lv_iconst (v := 0) hx hb dX0_watchedTold_26 (by decide) ?_
        refine hret _ _ _ _ _ _ 0 () dX0_watchedTold_27 ?_ hP hD hS (Nat.le_of_ble_eq_true rfl) (Nat.le_of_ble_eq_true rfl)
        refine ⟨by rw [eS_t hw_1], ?_⟩
        unfold pWat
        rw [if_neg c_2]
        exact bI_F (by have h9 := c_4; simpa [bI_0] using h9)
      · skip
        refine lv_iconst (v := 1) hx hb dX0_watchedTold_22 (by decide) ?_
        refine lv_goto (tgt := 27) hx hb dX0_watchedTold_23 (by decide) ?_
        refine hret _ _ _ _ _ _ 1 () dX0_watchedTold_27 ?_ hP hD hS (Nat.le_of_ble_eq_true rfl) (Nat.le_of_ble_eq_true rfl)
        refine ⟨by rw [eS_t hw_1], ?_⟩
        unfold pWat
        rw [if_neg c_2]
        exact bI_T (by have h9 := c_4; simpa [bI_0] using h9)
    · skip
      refine lv_aload_n hx hb dX0_watchedTold_8 rfl (lv_at hl 0 rfl) ?_
      refine x_Vi (wN := fun _ => (wX G ad ho rn ln dr ro lt rf th sb ++ wR G (ad 1) kd r ++ wR G (ad 2) k1 r1 ++ wR G (ad 3) k2 r2 ++ wK (ad 4))) ⟨C0, hK, hP, hD, hS, hA⟩ 0 rfl (ci := 0) rfl rfl ((m_watching l G ad kd k1 k2 r r1 r2 ho rn ln dr ro lt rf th sb hr hp hk )) (cwV 0 hts (lw_V q914 q916 qs48 q86 q917) rfl rfl rfl (by decide +kernel) ⟨Nat.le_of_ble_eq_true rfl, Nat.le_of_ble_eq_true rfl⟩) [0, 1, 2, 3, 4, 5, 6, 7, 8, 9, 10, 11, 12, 13, 14, 15, 16, 17, 18, 19, 20, 21, 22, 23, 24, 25, 26, 27, 28, 29, 30] [1, 3, 5, 7, 9, 11, 13, 15, 17, 19, 21, 23, 25, 27, 29, 31, 33, 35, 37, 39, 41, 43, 45, 47, 49, 51, 53, 55, 57, 59, 61] rfl (fun _ => rfl) rfl rfl hl.1 rfl (Nat.le_of_ble_eq_true rfl) dX0_watchedTold_9 ⟨(Nat.le_of_ble_eq_true rfl), (Nat.le_of_ble_eq_true rfl)⟩ (fun r_5 u_5 H locs hw_5 hP hD hS => ?_)
      have hw_5 : (nI (cn (pWt r) (mny r)) : Int32) = r_5 := hw_5.symm
      subst hw_5
      have hP : va_P G.1 vwCl (wX G ad ho rn ln dr ro lt rf th sb ++ wR G (ad 1) kd r ++ wR G (ad 2) k1 r1 ++ wR G (ad 3) k2 r2 ++ wK (ad 4)) H := hP
      have hD : va_D A (wX G ad ho rn ln dr ro lt rf th sb ++ wR G (ad 1) kd r ++ wR G (ad 2) k1 r1 ++ wR G (ad 3) k2 r2 ++ wK (ad 4)) := hD
      refine lv_goto (tgt := 27) hx hb dX0_watchedTold_12 (by decide) ?_
      refine hret _ _ _ _ _ _ (nI (cn (pWt r) (mny r))) () dX0_watchedTold_27 ?_ hP hD hS (Nat.le_of_ble_eq_true rfl) (Nat.le_of_ble_eq_true rfl)
      refine ⟨by rw [eS_t hw_1], ?_⟩
      exact (if_pos c_2).symm
set_option maxHeartbeats 4000000 in
set_option maxRecDepth 100000 in
theorem m_twoTold (l : Launch) (hl0 : l.stackTraces = false) (G : xG) (ad : Nat → Nat → Nat) (kd k1 k2 : Nat → Option Nat) (r r1 r2 : Rw) (ho rn ln dr : Int32) (ro lt rf th sb : Nat → Int32) (hr : Ok r) (hp : r 5 3 = 0) (hk : kOk (ad 4) kd r) (t t2 mi : Int32) : yCi l G yX0_twoTold cX0_twoTold 4 (some .int) ({ frames := 10, cells := 5, slots := 35, locals := 174 } : Room) [.ref (ad 0 0), .int t, .int t2, .int mi] (wX G ad ho rn ln dr ro lt rf th sb ++ wR G (ad 1) kd r ++ wR G (ad 2) k1 r1 ++ wR G (ad 3) k2 r2 ++ wK (ad 4)) (S := (((Nat → Option Nat) × Rw) × (Nat → Int32))) (SX := Unit) (fun v _ => eS (tB r t) (-1) (eS (tB r t2) (-1) (eS (decide (t ≠ t2)) (-1) (eW (wBy mi.toInt 0 99) 0))) = 0 ∧ v = pTwo r (ix t) (ix t2) (ix mi)) (fun u => (wX G ad ho rn ln dr ro lt rf th u.2 ++ wR G (ad 1) kd r ++ wR G (ad 2) u.1.1 u.1.2 ++ wR G (ad 3) k2 r2 ++ wK (ad 4))) (fun n _ => n = eS (tB r t) (-1) (eS (tB r t2) (-1) (eS (decide (t ≠ t2)) (-1) (eW (wBy mi.toInt 0 99) 0))) ∧ eS (tB r t) (-1) (eS (tB r t2) (-1) (eS (decide (t ≠ t2)) (-1) (eW (wBy mi.toInt 0 99) 0))) ≠ 0) (fun _ => (wX G ad ho rn ln dr ro lt rf th sb ++ wR G (ad 1) kd r ++ wR G (ad 2) k1 r1 ++ wR G (ad 3) k2 r2 ++ wK (ad 4))) := by
  refine y_openi (by decide) (Nat.le_of_ble_eq_true rfl) (fun _ _ _ => rfl) ?_
  intro p e s m args below meth c A Q ls C0 hK hZ hP hD hA hl hret hthr
  obtain ⟨hx, hb, hml, hown, hts⟩ := id C0
  have hS : va_S A s.heap s.heap [] := va_S.rf
  have hP : va_P G.1 vwCl (wX G ad ho rn ln dr ro lt rf th sb ++ wR G (ad 1) kd r ++ wR G (ad 2) k1 r1 ++ wR G (ad 3) k2 r2 ++ wK (ad 4)) s.heap := hP
  have hD : va_D A (wX G ad ho rn ln dr ro lt rf th sb ++ wR G (ad 1) kd r ++ wR G (ad 2) k1 r1 ++ wR G (ad 3) k2 r2 ++ wK (ad 4)) := hD
  have hl : lv_has ls 4 [(0, .ref (ad 0 0)), (1, .int t), (2, .int t2), (3, .int mi)] := hl
  have hr0 := hr.n
  have hN := hr.le
  refine lv_aload_n hx hb dX0_twoTold_0 rfl (lv_at hl 0 rfl) ?_
  refine lv_iload_n hx hb dX0_twoTold_1 rfl (lv_at hl 1 rfl) ?_
  refine y_Vv (wN := fun _ => (wX G ad ho rn ln dr ro lt rf th sb ++ wR G (ad 1) kd r ++ wR G (ad 2) k1 r1 ++ wR G (ad 3) k2 r2 ++ wK (ad 4))) (wNx := fun u9 => (wX G ad ho rn ln dr ro lt rf th sb ++ wR G (ad 1) kd r ++ wR G (ad 2) k1 r1 ++ wR G (ad 3) k2 r2 ++ wK (ad 4))) ⟨C0, hK, hP, hD, hS, hA⟩ hZ 0 rfl (ci := 0) rfl rfl ((m_mustBeThing l hl0 G ad kd k1 k2 r r1 r2 ho rn ln dr ro lt rf th sb hr hp hk t)) (cwV 1 hts (lw_V q699 q701 qs14 q86 q702) rfl rfl rfl (by decide +kernel) ⟨Nat.le_of_ble_eq_true rfl, Nat.le_of_ble_eq_true rfl⟩) [0, 1, 2, 3, 4, 5, 6, 7, 8, 9, 10, 11, 12, 13, 14, 15, 16, 17, 18, 19, 20, 21, 22, 23, 24, 25, 26, 27, 28, 29, 30] [1, 3, 5, 7, 9, 11, 13, 15, 17, 19, 21, 23, 25, 27, 29, 31, 33, 35, 37, 39, 41, 43, 45, 47, 49, 51, 53, 55, 57, 59, 61] [1, 3, 5, 7, 9, 11, 13, 15, 17, 19, 21, 23, 25, 27, 29, 31, 33, 35, 37, 39, 41, 43, 45, 47, 49, 51, 53, 55, 57, 59, 61, 63] rfl (fun _ => rfl) (fun _ _ _ => rfl) rfl rfl rfl hl.1 rfl (Nat.le_of_ble_eq_true rfl) dX0_twoTold_2 ⟨(Nat.le_of_ble_eq_true rfl), (Nat.le_of_ble_eq_true rfl)⟩ (fun q9 u9 ee H locs hw_1 hP hD hS => ?_) (fun u_1 H locs hw_1 hP hD hS => ?_)
  · skip
    refine hthr _ _ _ _ _ _ _ q9 () ee ?_ hP hD hS (Nat.le_of_ble_eq_true rfl) (Nat.le_of_ble_eq_true rfl)
    obtain ⟨h8, h9⟩ := hw_1
    have e9 : eS (tB r t) (-1) (eS (tB r t2) (-1) (eS (decide (t ≠ t2)) (-1) (eW (wBy mi.toInt 0 99) 0))) = ee.2.1 := by rw [eS_f h8]; exact h9.symm
    exact ⟨e9.symm, by rw [e9, h9]; decide⟩
  · skip
    refine W.widen (k := 1) (n := 7) (Nat.le_of_ble_eq_true rfl) (Nat.le_of_ble_eq_true rfl) ?_
    refine lv_aload_n hx hb dX0_twoTold_5 rfl (lv_at hl 0 rfl) ?_
    refine lv_iload_n hx hb dX0_twoTold_6 rfl (lv_at hl 2 rfl) ?_
    refine y_Vv (wN := fun _ => (wX G ad ho rn ln dr ro lt rf th sb ++ wR G (ad 1) kd r ++ wR G (ad 2) k1 r1 ++ wR G (ad 3) k2 r2 ++ wK (ad 4))) (wNx := fun u9 => (wX G ad ho rn ln dr ro lt rf th sb ++ wR G (ad 1) kd r ++ wR G (ad 2) k1 r1 ++ wR G (ad 3) k2 r2 ++ wK (ad 4))) ⟨C0, hK, hP, hD, hS, hA⟩ hZ 0 rfl (ci := 0) rfl rfl ((m_mustBeThing l hl0 G ad kd k1 k2 r r1 r2 ho rn ln dr ro lt rf th sb hr hp hk t2)) (cwV 1 hts (lw_V q699 q701 qs14 q86 q702) rfl rfl rfl (by decide +kernel) ⟨Nat.le_of_ble_eq_true rfl, Nat.le_of_ble_eq_true rfl⟩) [0, 1, 2, 3, 4, 5, 6, 7, 8, 9, 10, 11, 12, 13, 14, 15, 16, 17, 18, 19, 20, 21, 22, 23, 24, 25, 26, 27, 28, 29, 30] [1, 3, 5, 7, 9, 11, 13, 15, 17, 19, 21, 23, 25, 27, 29, 31, 33, 35, 37, 39, 41, 43, 45, 47, 49, 51, 53, 55, 57, 59, 61] [1, 3, 5, 7, 9, 11, 13, 15, 17, 19, 21, 23, 25, 27, 29, 31, 33, 35, 37, 39, 41, 43, 45, 47, 49, 51, 53, 55, 57, 59, 61, 63] rfl (fun _ => rfl) (fun _ _ _ => rfl) rfl rfl rfl hl.1 rfl (Nat.le_of_ble_eq_true rfl) dX0_twoTold_7 ⟨(Nat.le_of_ble_eq_true rfl), (Nat.le_of_ble_eq_true rfl)⟩ (fun q9 u9 ee H locs hw_2 hP hD hS => ?_) (fun u_2 H locs hw_2 hP hD hS => ?_)
    · skip
      refine hthr _ _ _ _ _ _ _ q9 () ee ?_ hP hD hS (Nat.le_of_ble_eq_true rfl) (Nat.le_of_ble_eq_true rfl)
      obtain ⟨h8, h9⟩ := hw_2
      have e9 : eS (tB r t) (-1) (eS (tB r t2) (-1) (eS (decide (t ≠ t2)) (-1) (eW (wBy mi.toInt 0 99) 0))) = ee.2.1 := by rw [eS_t hw_1, eS_f h8]; exact h9.symm
      exact ⟨e9.symm, by rw [e9, h9]; decide⟩
    · skip
      refine W.widen (k := 2) (n := 14) (Nat.le_of_ble_eq_true rfl) (Nat.le_of_ble_eq_true rfl) ?_
      refine lv_iload_n hx hb dX0_twoTold_10 rfl (lv_at hl 1 rfl) ?_
      refine lv_iload_n hx hb dX0_twoTold_11 rfl (lv_at hl 2 rfl) ?_
      refine lv_icmp_eq (tgt := 19) hx hb dX0_twoTold_12 (by decide) (fun c_3 => ?_) (fun c_3 => ?_)
      · skip
        refine lv_iconst (v := 0) hx hb dX0_twoTold_19 (by decide) ?_
        have eb_20 : (0 : Int32) = bI (decide (t ≠ t2)) := bI_F (decide_eq_false (fun z => z c_3))
        rw [eb_20]
        refine lv_iconst (v := (-1)) hx hb dX0_twoTold_20 (by decide) ?_
        refine y_Sv (wN := fun _ => (wX G ad ho rn ln dr ro lt rf th sb ++ wR G (ad 1) kd r ++ wR G (ad 2) k1 r1 ++ wR G (ad 3) k2 r2 ++ wK (ad 4))) (wNx := fun u9 => (wX G ad ho rn ln dr ro lt rf th sb ++ wR G (ad 1) kd r ++ wR G (ad 2) k1 r1 ++ wR G (ad 3) k2 r2 ++ wK (ad 4))) ⟨C0, hK, hP, hD, hS, hA⟩ hZ ((m_must l hl0 G (decide (t ≠ t2)) (-1))) (va_cwS 2 hts (lw_S q286 q287 q86 q288) rfl rfl rfl (by decide +kernel) ⟨Nat.le_of_ble_eq_true rfl, Nat.le_of_ble_eq_true rfl⟩) [] [0, 2, 4, 6, 8, 10, 12, 14, 16, 18, 20, 22, 24, 26, 28, 30, 32, 34, 36, 38, 40, 42, 44, 46, 48, 50, 52, 54, 56, 58, 60] [0, 2, 4, 6, 8, 10, 12, 14, 16, 18, 20, 22, 24, 26, 28, 30, 32, 34, 36, 38, 40, 42, 44, 46, 48, 50, 52, 54, 56, 58, 60, 1] rfl (fun _ => rfl) (fun _ _ _ => rfl) rfl rfl rfl hl.1 rfl (Nat.le_of_ble_eq_true rfl) dX0_twoTold_21 ⟨(Nat.le_of_ble_eq_true rfl), (Nat.le_of_ble_eq_true rfl)⟩ (fun q9 u9 ee H locs hw_4 hP hD hS => ?_) (fun u_4 H locs hw_4 hP hD hS => ?_)
        · skip
          refine hthr _ _ _ _ _ _ _ q9 () ee ?_ hP hD hS (Nat.le_of_ble_eq_true rfl) (Nat.le_of_ble_eq_true rfl)
          obtain ⟨h8, h9⟩ := hw_4
          have e9 : eS (tB r t) (-1) (eS (tB r t2) (-1) (eS (decide (t ≠ t2)) (-1) (eW (wBy mi.toInt 0 99) 0))) = ee.2.1 := by rw [eS_t hw_1, eS_t hw_2, eS_f h8]; exact h9.symm
          exact ⟨e9.symm, by rw [e9, h9]; decide⟩
        · skip
          refine W.widen (k := 3) (n := 21) (Nat.le_of_ble_eq_true rfl) (Nat.le_of_ble_eq_true rfl) ?_
          obtain ⟨hj_t, et_t⟩ := tB_ix hN hw_1
          rw [et_t] at hl
          obtain ⟨hj_t2, et_t2⟩ := tB_ix hN hw_2
          rw [et_t2] at hl
          refine lv_iload_n hx hb dX0_twoTold_24 rfl (lv_at hl 3 rfl) ?_
          refine y_Sv (wN := fun _ => (wX G ad ho rn ln dr ro lt rf th sb ++ wR G (ad 1) kd r ++ wR G (ad 2) k1 r1 ++ wR G (ad 3) k2 r2 ++ wK (ad 4))) (wNx := fun u9 => (wX G ad ho rn ln dr ro lt rf th sb ++ wR G (ad 1) kd r ++ wR G (ad 2) k1 r1 ++ wR G (ad 3) k2 r2 ++ wK (ad 4))) ⟨C0, hK, hP, hD, hS, hA⟩ hZ ((m_mustBeMinutes l hl0 G mi)) (va_cwS 1 hts (lw_S q786 q787 q86 q788) rfl rfl rfl (by decide +kernel) ⟨Nat.le_of_ble_eq_true rfl, Nat.le_of_ble_eq_true rfl⟩) [] [0, 2, 4, 6, 8, 10, 12, 14, 16, 18, 20, 22, 24, 26, 28, 30, 32, 34, 36, 38, 40, 42, 44, 46, 48, 50, 52, 54, 56, 58, 60] [0, 2, 4, 6, 8, 10, 12, 14, 16, 18, 20, 22, 24, 26, 28, 30, 32, 34, 36, 38, 40, 42, 44, 46, 48, 50, 52, 54, 56, 58, 60, 1] rfl (fun _ => rfl) (fun _ _ _ => rfl) rfl rfl rfl hl.1 rfl (Nat.le_of_ble_eq_true rfl) dX0_twoTold_25 ⟨(Nat.le_of_ble_eq_true rfl), (Nat.le_of_ble_eq_true rfl)⟩ (fun q9 u9 ee H locs hw_5 hP hD hS => ?_) (fun u_5 H locs hw_5 hP hD hS => ?_)
          · skip
            refine hthr _ _ _ _ _ _ _ q9 () ee ?_ hP hD hS (Nat.le_of_ble_eq_true rfl) (Nat.le_of_ble_eq_true rfl)
            obtain ⟨h8, h9⟩ := hw_5
            have e9 : eS (tB r t) (-1) (eS (tB r t2) (-1) (eS (decide (t ≠ t2)) (-1) (eW (wBy mi.toInt 0 99) 0))) = ee.2.1 := by rw [eS_t hw_1, eS_t hw_2, eS_t hw_4, eW_n h9]; exact h8.symm
            exact ⟨e9.symm, by rw [e9, h8]; exact h9⟩
          · skip
            refine W.widen (k := 5) (n := 35) (Nat.le_of_ble_eq_true rfl) (Nat.le_of_ble_eq_true rfl) ?_
            obtain ⟨hj_mi, et_mi⟩ := wB_ix (n := 99) (by omega) hw_5
            rw [et_mi] at hl
            refine lv_aload_n hx hb dX0_twoTold_28 rfl (lv_at hl 0 rfl) ?_
            refine lv_iload_n hx hb dX0_twoTold_29 rfl (lv_at hl 1 rfl) ?_
            refine lv_iload_n hx hb dX0_twoTold_30 rfl (lv_at hl 2 rfl) ?_
            refine lv_iload_n hx hb dX0_twoTold_31 rfl (lv_at hl 3 rfl) ?_
            refine x_Vi (wN := fun u_6 => (wX G ad ho rn ln dr ro lt rf th u_6.2 ++ wR G (ad 1) kd r ++ wR G (ad 2) u_6.1.1 u_6.1.2 ++ wR G (ad 3) k2 r2 ++ wK (ad 4))) ⟨C0, hK, hP, hD, hS, hA⟩ 0 rfl (ci := 0) rfl rfl ((m_restingPulls l G ad kd k1 k2 r r1 r2 ho rn ln dr ro lt rf th sb hr hp hk (ix t) (ix t2) (ix mi)  (by omega) (by omega) (by omega))) (cwV 3 hts (lw_V q950 q952 qs53 q86 q953) rfl rfl rfl (by decide +kernel) ⟨Nat.le_of_ble_eq_true rfl, Nat.le_of_ble_eq_true rfl⟩) [0, 1, 2, 3, 4, 5, 6, 7, 8, 9, 10, 11, 12, 13, 14, 15, 16, 17, 18, 19, 20, 21, 22, 23, 24, 25, 26, 27, 28, 29, 30] [1, 3, 5, 7, 9, 11, 13, 15, 17, 19, 21, 23, 25, 27, 29, 31, 33, 35, 37, 39, 41, 43, 45, 47, 49, 51, 53, 55, 57, 59, 61] rfl (fun _ => rfl) rfl rfl hl.1 rfl (Nat.le_of_ble_eq_true rfl) dX0_twoTold_32 ⟨(Nat.le_of_ble_eq_true rfl), (Nat.le_of_ble_eq_true rfl)⟩ (fun r_6 u_6 H locs hw_6 hP hD hS => ?_)
            have hw_6 : (pTwo r (ix t) (ix t2) (ix mi) : Int32) = r_6 := hw_6.symm
            subst hw_6
            have hP : va_P G.1 vwCl (wX G ad ho rn ln dr ro lt rf th u_6.2 ++ wR G (ad 1) kd r ++ wR G (ad 2) u_6.1.1 u_6.1.2 ++ wR G (ad 3) k2 r2 ++ wK (ad 4)) H := hP
            have hD : va_D A (wX G ad ho rn ln dr ro lt rf th u_6.2 ++ wR G (ad 1) kd r ++ wR G (ad 2) u_6.1.1 u_6.1.2 ++ wR G (ad 3) k2 r2 ++ wK (ad 4)) := hD
            refine hret _ _ _ _ _ _ (pTwo r (ix t) (ix t2) (ix mi)) ((u_6.1.1, u_6.1.2), u_6.2) dX0_twoTold_35 ?_ hP hD hS (Nat.le_of_ble_eq_true rfl) (Nat.le_of_ble_eq_true rfl)
            refine ⟨by rw [eS_t hw_1, eS_t hw_2, eS_t hw_4, eW_0 hw_5], ?_⟩
            exact rfl
      · skip
        refine lv_iconst (v := 1) hx hb dX0_twoTold_15 (by decide) ?_
        refine lv_goto (tgt := 20) hx hb dX0_twoTold_16 (by decide) ?_
        have eb_20 : (1 : Int32) = bI (decide (t ≠ t2)) := bI_T (decide_eq_true (c_3))
        rw [eb_20]
        refine lv_iconst (v := (-1)) hx hb dX0_twoTold_20 (by decide) ?_
        refine y_Sv (wN := fun _ => (wX G ad ho rn ln dr ro lt rf th sb ++ wR G (ad 1) kd r ++ wR G (ad 2) k1 r1 ++ wR G (ad 3) k2 r2 ++ wK (ad 4))) (wNx := fun u9 => (wX G ad ho rn ln dr ro lt rf th sb ++ wR G (ad 1) kd r ++ wR G (ad 2) k1 r1 ++ wR G (ad 3) k2 r2 ++ wK (ad 4))) ⟨C0, hK, hP, hD, hS, hA⟩ hZ ((m_must l hl0 G (decide (t ≠ t2)) (-1))) (va_cwS 2 hts (lw_S q286 q287 q86 q288) rfl rfl rfl (by decide +kernel) ⟨Nat.le_of_ble_eq_true rfl, Nat.le_of_ble_eq_true rfl⟩) [] [0, 2, 4, 6, 8, 10, 12, 14, 16, 18, 20, 22, 24, 26, 28, 30, 32, 34, 36, 38, 40, 42, 44, 46, 48, 50, 52, 54, 56, 58, 60] [0, 2, 4, 6, 8, 10, 12, 14, 16, 18, 20, 22, 24, 26, 28, 30, 32, 34, 36, 38, 40, 42, 44, 46, 48, 50, 52, 54, 56, 58, 60, 1] rfl (fun _ => rfl) (fun _ _ _ => rfl) rfl rfl rfl hl.1 rfl (Nat.le_of_ble_eq_true rfl) dX0_twoTold_21 ⟨(Nat.le_of_ble_eq_true rfl), (Nat.le_of_ble_eq_true rfl)⟩ (fun q9 u9 ee H locs hw_7 hP hD hS => ?_) (fun u_7 H locs hw_7 hP hD hS => ?_)
        · skip
          refine hthr _ _ _ _ _ _ _ q9 () ee ?_ hP hD hS (Nat.le_of_ble_eq_true rfl) (Nat.le_of_ble_eq_true rfl)
          obtain ⟨h8, h9⟩ := hw_7
          have e9 : eS (tB r t) (-1) (eS (tB r t2) (-1) (eS (decide (t ≠ t2)) (-1) (eW (wBy mi.toInt 0 99) 0))) = ee.2.1 := by rw [eS_t hw_1, eS_t hw_2, eS_f h8]; exact h9.symm
          exact ⟨e9.symm, by rw [e9, h9]; decide⟩
        · skip
          refine W.widen (k := 3) (n := 21) (Nat.le_of_ble_eq_true rfl) (Nat.le_of_ble_eq_true rfl) ?_
          obtain ⟨hj_t, et_t⟩ := tB_ix hN hw_1
          rw [et_t] at hl
          obtain ⟨hj_t2, et_t2⟩ := tB_ix hN hw_2
          rw [et_t2] at hl
          refine lv_iload_n hx hb dX0_twoTold_24 rfl (lv_at hl 3 rfl) ?_
          refine y_Sv (wN := fun _ => (wX G ad ho rn ln dr ro lt rf th sb ++ wR G (ad 1) kd r ++ wR G (ad 2) k1 r1 ++ wR G (ad 3) k2 r2 ++ wK (ad 4))) (wNx := fun u9 => (wX G ad ho rn ln dr ro lt rf th sb ++ wR G (ad 1) kd r ++ wR G (ad 2) k1 r1 ++ wR G (ad 3) k2 r2 ++ wK (ad 4))) ⟨C0, hK, hP, hD, hS, hA⟩ hZ ((m_mustBeMinutes l hl0 G mi)) (va_cwS 1 hts (lw_S q786 q787 q86 q788) rfl rfl rfl (by decide +kernel) ⟨Nat.le_of_ble_eq_true rfl, Nat.le_of_ble_eq_true rfl⟩) [] [0, 2, 4, 6, 8, 10, 12, 14, 16, 18, 20, 22, 24, 26, 28, 30, 32, 34, 36, 38, 40, 42, 44, 46, 48, 50, 52, 54, 56, 58, 60] [0, 2, 4, 6, 8, 10, 12, 14, 16, 18, 20, 22, 24, 26, 28, 30, 32, 34, 36, 38, 40, 42, 44, 46, 48, 50, 52, 54, 56, 58, 60, 1] rfl (fun _ => rfl) (fun _ _ _ => rfl) rfl rfl rfl hl.1 rfl (Nat.le_of_ble_eq_true rfl) dX0_twoTold_25 ⟨(Nat.le_of_ble_eq_true rfl), (Nat.le_of_ble_eq_true rfl)⟩ (fun q9 u9 ee H locs hw_8 hP hD hS => ?_) (fun u_8 H locs hw_8 hP hD hS => ?_)
          · skip
            refine hthr _ _ _ _ _ _ _ q9 () ee ?_ hP hD hS (Nat.le_of_ble_eq_true rfl) (Nat.le_of_ble_eq_true rfl)
            obtain ⟨h8, h9⟩ := hw_8
            have e9 : eS (tB r t) (-1) (eS (tB r t2) (-1) (eS (decide (t ≠ t2)) (-1) (eW (wBy mi.toInt 0 99) 0))) = ee.2.1 := by rw [eS_t hw_1, eS_t hw_2, eS_t hw_7, eW_n h9]; exact h8.symm
            exact ⟨e9.symm, by rw [e9, h8]; exact h9⟩
          · skip
            refine W.widen (k := 5) (n := 35) (Nat.le_of_ble_eq_true rfl) (Nat.le_of_ble_eq_true rfl) ?_
            obtain ⟨hj_mi, et_mi⟩ := wB_ix (n := 99) (by omega) hw_8
            rw [et_mi] at hl
            refine lv_aload_n hx hb dX0_twoTold_28 rfl (lv_at hl 0 rfl) ?_
            refine lv_iload_n hx hb dX0_twoTold_29 rfl (lv_at hl 1 rfl) ?_
            refine lv_iload_n hx hb dX0_twoTold_30 rfl (lv_at hl 2 rfl) ?_
            refine lv_iload_n hx hb dX0_twoTold_31 rfl (lv_at hl 3 rfl) ?_
            refine x_Vi (wN := fun u_9 => (wX G ad ho rn ln dr ro lt rf th u_9.2 ++ wR G (ad 1) kd r ++ wR G (ad 2) u_9.1.1 u_9.1.2 ++ wR G (ad 3) k2 r2 ++ wK (ad 4))) ⟨C0, hK, hP, hD, hS, hA⟩ 0 rfl (ci := 0) rfl rfl ((m_restingPulls l G ad kd k1 k2 r r1 r2 ho rn ln dr ro lt rf th sb hr hp hk (ix t) (ix t2) (ix mi)  (by omega) (by omega) (by omega))) (cwV 3 hts (lw_V q950 q952 qs53 q86 q953) rfl rfl rfl (by decide +kernel) ⟨Nat.le_of_ble_eq_true rfl, Nat.le_of_ble_eq_true rfl⟩) [0, 1, 2, 3, 4, 5, 6, 7, 8, 9, 10, 11, 12, 13, 14, 15, 16, 17, 18, 19, 20, 21, 22, 23, 24, 25, 26, 27, 28, 29, 30] [1, 3, 5, 7, 9, 11, 13, 15, 17, 19, 21, 23, 25, 27, 29, 31, 33, 35, 37, 39, 41, 43, 45, 47, 49, 51, 53, 55, 57, 59, 61] rfl (fun _ => rfl) rfl rfl hl.1 rfl (Nat.le_of_ble_eq_true rfl) dX0_twoTold_32 ⟨(Nat.le_of_ble_eq_true rfl), (Nat.le_of_ble_eq_true rfl)⟩ (fun r_9 u_9 H locs hw_9 hP hD hS => ?_)
            have hw_9 : (pTwo r (ix t) (ix t2) (ix mi) : Int32) = r_9 := hw_9.symm
            subst hw_9
            have hP : va_P G.1 vwCl (wX G ad ho rn ln dr ro lt rf th u_9.2 ++ wR G (ad 1) kd r ++ wR G (ad 2) u_9.1.1 u_9.1.2 ++ wR G (ad 3) k2 r2 ++ wK (ad 4)) H := hP
            have hD : va_D A (wX G ad ho rn ln dr ro lt rf th u_9.2 ++ wR G (ad 1) kd r ++ wR G (ad 2) u_9.1.1 u_9.1.2 ++ wR G (ad 3) k2 r2 ++ wK (ad 4)) := hD
            refine hret _ _ _ _ _ _ (pTwo r (ix t) (ix t2) (ix mi)) ((u_9.1.1, u_9.1.2), u_9.2) dX0_twoTold_35 ?_ hP hD hS (Nat.le_of_ble_eq_true rfl) (Nat.le_of_ble_eq_true rfl)
            refine ⟨by rw [eS_t hw_1, eS_t hw_2, eS_t hw_7, eW_0 hw_8], ?_⟩
            exact rfl

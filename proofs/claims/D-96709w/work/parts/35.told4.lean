/-! what is told and done, by checks, 4 (printed by tools/told4.py) -/
def pTh (r : Rw) (t : Nat) (w : Int32) : Int32 := if w = 0 then r 0 t else if w = 1 then r 1 t else if w = 2 then r 2 t else if w = 3 then r 3 t else if w = 4 then r 4 t else if w = 5 then pHabit (r 0 t) (r 1 t) (decide (pSet r 1 &&& (b1 t ^^^ -1) ≠ 0)) else if w = 6 then pGrip (r 0 t) (r 1 t) else bI (pHeld r t)
theorem sw7 {w : Int32} (h : inR w 0 7 = true) (e : w.toInt < 0 ∨ (6 : Int) < w.toInt) : w = nI 7 := by
  obtain ⟨h1, h2⟩ := iR_ix (n := 7) (by omega) h
  rw [h2, nI_toInt (by omega)] at e
  rw [h2, show ix w = 7 by omega]
def x3f (x1 x2 x3 : Int32) (j : Nat) : Nat := if j = 0 then ix x1 else if j = 1 then ix x2 else ix x3
set_option maxHeartbeats 4000000 in
set_option maxRecDepth 100000 in
theorem m_turnIt (l : Launch) (hl0 : l.stackTraces = false) (G : xG) (ad : Nat → Nat → Nat) (kd k1 k2 : Nat → Option Nat) (r r1 r2 : Rw) (ho rn ln dr : Int32) (ro lt rf th sb : Nat → Int32) (hr : Ok r) (hp : r 5 3 = 0) (hk : kOk (ad 4) kd r) (t kc fc : Int32) : yCi l G yX0_turnIt cX0_turnIt 5 (some .int) ({ frames := 10, cells := 4, slots := 28, locals := 171 } : Room) [.ref (ad 0 0), .int t, .int kc, .int fc] (wX G ad ho rn ln dr ro lt rf th sb ++ wR G (ad 1) kd r ++ wR G (ad 2) k1 r1 ++ wR G (ad 3) k2 r2 ++ wK (ad 4)) (S := Unit) (SX := Unit) (fun v _ => eS (tB r t) (-1) (eS (inR kc 0 5) (-2) (eW (wBy fc.toInt 0 9) 0)) = 0 ∧ v = 10 * r 0 (ix t) + r 1 (ix t)) (fun _ => (wX G ad ho rn ln dr ro lt rf th sb ++ wR G (ad 1) (va_up kd (ix t) (some ((ad 4) (ix kc)))) (pTurn r (ix t) (ix kc) (ix fc)) ++ wR G (ad 2) k1 r1 ++ wR G (ad 3) k2 r2 ++ wK (ad 4))) (fun n _ => n = eS (tB r t) (-1) (eS (inR kc 0 5) (-2) (eW (wBy fc.toInt 0 9) 0)) ∧ eS (tB r t) (-1) (eS (inR kc 0 5) (-2) (eW (wBy fc.toInt 0 9) 0)) ≠ 0) (fun _ => (wX G ad ho rn ln dr ro lt rf th sb ++ wR G (ad 1) kd r ++ wR G (ad 2) k1 r1 ++ wR G (ad 3) k2 r2 ++ wK (ad 4))) := by
  refine y_openi (by decide) (Nat.le_of_ble_eq_true rfl) (fun _ _ _ => rfl) ?_
  intro p e s m args below meth c A Q ls C0 hK hZ hP hD hA hl hret hthr
  obtain ⟨hx, hb, hml, hown, hts⟩ := id C0
  have hS : va_S A s.heap s.heap [] := va_S.rf
  have hP : va_P G.1 vwCl (wX G ad ho rn ln dr ro lt rf th sb ++ wR G (ad 1) kd r ++ wR G (ad 2) k1 r1 ++ wR G (ad 3) k2 r2 ++ wK (ad 4)) s.heap := hP
  have hD : va_D A (wX G ad ho rn ln dr ro lt rf th sb ++ wR G (ad 1) kd r ++ wR G (ad 2) k1 r1 ++ wR G (ad 3) k2 r2 ++ wK (ad 4)) := hD
  have hl : lv_has ls 5 [(0, .ref (ad 0 0)), (1, .int t), (2, .int kc), (3, .int fc)] := hl
  have hr0 := hr.n
  have hN := hr.le
  refine lv_aload_n hx hb dX0_turnIt_0 rfl (lv_at hl 0 rfl) ?_
  refine lv_iload_n hx hb dX0_turnIt_1 rfl (lv_at hl 1 rfl) ?_
  refine y_Vv (wN := fun _ => (wX G ad ho rn ln dr ro lt rf th sb ++ wR G (ad 1) kd r ++ wR G (ad 2) k1 r1 ++ wR G (ad 3) k2 r2 ++ wK (ad 4))) (wNx := fun u9 => (wX G ad ho rn ln dr ro lt rf th sb ++ wR G (ad 1) kd r ++ wR G (ad 2) k1 r1 ++ wR G (ad 3) k2 r2 ++ wK (ad 4))) ⟨C0, hK, hP, hD, hS, hA⟩ hZ 0 rfl (ci := 0) rfl rfl ((m_mustBeThing l hl0 G ad kd k1 k2 r r1 r2 ho rn ln dr ro lt rf th sb hr hp hk t)) (cwV 1 hts (lw_V q699 q701 qs14 q86 q702) rfl rfl rfl (by decide +kernel) ⟨Nat.le_of_ble_eq_true rfl, Nat.le_of_ble_eq_true rfl⟩) [0, 1, 2, 3, 4, 5, 6, 7, 8, 9, 10, 11, 12, 13, 14, 15, 16, 17, 18, 19, 20, 21, 22, 23, 24, 25, 26, 27, 28, 29, 30] [1, 3, 5, 7, 9, 11, 13, 15, 17, 19, 21, 23, 25, 27, 29, 31, 33, 35, 37, 39, 41, 43, 45, 47, 49, 51, 53, 55, 57, 59, 61] [1, 3, 5, 7, 9, 11, 13, 15, 17, 19, 21, 23, 25, 27, 29, 31, 33, 35, 37, 39, 41, 43, 45, 47, 49, 51, 53, 55, 57, 59, 61, 63] rfl (fun _ => rfl) (fun _ _ _ => rfl) rfl rfl rfl hl.1 rfl (Nat.le_of_ble_eq_true rfl) dX0_turnIt_2 ⟨(Nat.le_of_ble_eq_true rfl), (Nat.le_of_ble_eq_true rfl)⟩ (fun q9 u9 ee H locs hw_1 hP hD hS => ?_) (fun u_1 H locs hw_1 hP hD hS => ?_)
  · skip
    refine hthr _ _ _ _ _ _ _ q9 () ee ?_ hP hD hS (Nat.le_of_ble_eq_true rfl) (Nat.le_of_ble_eq_true rfl)
    obtain ⟨h8, h9⟩ := hw_1
    have e9 : eS (tB r t) (-1) (eS (inR kc 0 5) (-2) (eW (wBy fc.toInt 0 9) 0)) = ee.2.1 := by rw [eS_f h8]; exact h9.symm
    exact ⟨e9.symm, by rw [e9, h9]; decide⟩
  · skip
    refine W.widen (k := 1) (n := 7) (Nat.le_of_ble_eq_true rfl) (Nat.le_of_ble_eq_true rfl) ?_
    obtain ⟨hj_t, et_t⟩ := tB_ix hN hw_1
    rw [et_t] at hl
    refine lv_iload_n hx hb dX0_turnIt_5 rfl (lv_at hl 2 rfl) ?_
    refine lv_i2l (v := kc.toInt64) hx hb dX0_turnIt_6 rfl ?_
    refine lv_lconst (v := 0) hx hb dX0_turnIt_7 (by decide) ?_
    refine lv_ldc2 (v := 5) hx hb hown (hts _ q764) dX0_turnIt_8 ?_
    refine x_Si (wN := fun _ => (wX G ad ho rn ln dr ro lt rf th sb ++ wR G (ad 1) kd r ++ wR G (ad 2) k1 r1 ++ wR G (ad 3) k2 r2 ++ wK (ad 4))) ⟨C0, hK, hP, hD, hS, hA⟩ ((m_in l G kc.toInt64 0 5)) (va_cwS 3 hts (lw_S q706 q427 q86 q428) rfl rfl rfl (by decide +kernel) ⟨Nat.le_of_ble_eq_true rfl, Nat.le_of_ble_eq_true rfl⟩) [] [0, 2, 4, 6, 8, 10, 12, 14, 16, 18, 20, 22, 24, 26, 28, 30, 32, 34, 36, 38, 40, 42, 44, 46, 48, 50, 52, 54, 56, 58, 60] rfl (fun _ => rfl) rfl rfl hl.1 rfl (Nat.le_of_ble_eq_true rfl) dX0_turnIt_11 ⟨(Nat.le_of_ble_eq_true rfl), (Nat.le_of_ble_eq_true rfl)⟩ (fun r_2 u_2 H locs hw_2 hP hD hS => ?_)
    have hw_2 : r_2 = bI (inR kc 0 5) := hw_2.trans (congrArg bI (inL_inR rfl rfl))
    have hw_2 : (bI (inR kc 0 5) : Int32) = r_2 := hw_2.symm
    subst hw_2
    refine lv_bipush (v := (-2)) hx hb dX0_turnIt_14 (by decide) ?_
    refine y_Sv (wN := fun _ => (wX G ad ho rn ln dr ro lt rf th sb ++ wR G (ad 1) kd r ++ wR G (ad 2) k1 r1 ++ wR G (ad 3) k2 r2 ++ wK (ad 4))) (wNx := fun u9 => (wX G ad ho rn ln dr ro lt rf th sb ++ wR G (ad 1) kd r ++ wR G (ad 2) k1 r1 ++ wR G (ad 3) k2 r2 ++ wK (ad 4))) ⟨C0, hK, hP, hD, hS, hA⟩ hZ ((m_must l hl0 G (inR kc 0 5) (-2))) (va_cwS 2 hts (lw_S q286 q287 q86 q288) rfl rfl rfl (by decide +kernel) ⟨Nat.le_of_ble_eq_true rfl, Nat.le_of_ble_eq_true rfl⟩) [] [0, 2, 4, 6, 8, 10, 12, 14, 16, 18, 20, 22, 24, 26, 28, 30, 32, 34, 36, 38, 40, 42, 44, 46, 48, 50, 52, 54, 56, 58, 60] [0, 2, 4, 6, 8, 10, 12, 14, 16, 18, 20, 22, 24, 26, 28, 30, 32, 34, 36, 38, 40, 42, 44, 46, 48, 50, 52, 54, 56, 58, 60, 1] rfl (fun _ => rfl) (fun _ _ _ => rfl) rfl rfl rfl hl.1 rfl (Nat.le_of_ble_eq_true rfl) dX0_turnIt_16 ⟨(Nat.le_of_ble_eq_true rfl), (Nat.le_of_ble_eq_true rfl)⟩ (fun q9 u9 ee H locs hw_3 hP hD hS => ?_) (fun u_3 H locs hw_3 hP hD hS => ?_)
    · skip
      refine hthr _ _ _ _ _ _ _ q9 () ee ?_ hP hD hS (Nat.le_of_ble_eq_true rfl) (Nat.le_of_ble_eq_true rfl)
      obtain ⟨h8, h9⟩ := hw_3
      have e9 : eS (tB r t) (-1) (eS (inR kc 0 5) (-2) (eW (wBy fc.toInt 0 9) 0)) = ee.2.1 := by rw [eS_t hw_1, eS_f h8]; exact h9.symm
      exact ⟨e9.symm, by rw [e9, h9]; decide⟩
    · skip
      refine W.widen (k := 2) (n := 14) (Nat.le_of_ble_eq_true rfl) (Nat.le_of_ble_eq_true rfl) ?_
      obtain ⟨hj_kc, et_kc⟩ := iR_ix (n := 5) (by omega) hw_3
      rw [et_kc] at hl
      refine lv_iload_n hx hb dX0_turnIt_19 rfl (lv_at hl 3 rfl) ?_
      refine lv_i2l (v := fc.toInt64) hx hb dX0_turnIt_20 rfl ?_
      refine lv_lconst (v := 0) hx hb dX0_turnIt_21 (by decide) ?_
      refine lv_ldc2 (v := 9) hx hb hown (hts _ q739) dX0_turnIt_22 ?_
      refine y_Sv (wN := fun _ => (wX G ad ho rn ln dr ro lt rf th sb ++ wR G (ad 1) kd r ++ wR G (ad 2) k1 r1 ++ wR G (ad 3) k2 r2 ++ wK (ad 4))) (wNx := fun u9 => (wX G ad ho rn ln dr ro lt rf th sb ++ wR G (ad 1) kd r ++ wR G (ad 2) k1 r1 ++ wR G (ad 3) k2 r2 ++ wK (ad 4))) ⟨C0, hK, hP, hD, hS, hA⟩ hZ ((m_within l hl0 G fc.toInt64 0 9)) (va_cwS 3 hts (lw_S q283 q284 q86 q285) rfl rfl rfl (by decide +kernel) ⟨Nat.le_of_ble_eq_true rfl, Nat.le_of_ble_eq_true rfl⟩) [] [0, 2, 4, 6, 8, 10, 12, 14, 16, 18, 20, 22, 24, 26, 28, 30, 32, 34, 36, 38, 40, 42, 44, 46, 48, 50, 52, 54, 56, 58, 60] [0, 2, 4, 6, 8, 10, 12, 14, 16, 18, 20, 22, 24, 26, 28, 30, 32, 34, 36, 38, 40, 42, 44, 46, 48, 50, 52, 54, 56, 58, 60, 1] rfl (fun _ => rfl) (fun _ _ _ => rfl) rfl rfl rfl hl.1 rfl (Nat.le_of_ble_eq_true rfl) dX0_turnIt_25 ⟨(Nat.le_of_ble_eq_true rfl), (Nat.le_of_ble_eq_true rfl)⟩ (fun q9 u9 ee H locs hw_4 hP hD hS => ?_) (fun u_4 H locs hw_4 hP hD hS => ?_)
      · skip
        refine hthr _ _ _ _ _ _ _ q9 () ee ?_ hP hD hS (Nat.le_of_ble_eq_true rfl) (Nat.le_of_ble_eq_true rfl)
        obtain ⟨h8, h9⟩ := hw_4
        rw [i2l_toInt] at h8 h9
        have h8 : ee.2.1 = wBy _ 0 9 := h8
        have h9 : wBy _ 0 9 ≠ 0 := h9
        have e9 : eS (tB r t) (-1) (eS (inR kc 0 5) (-2) (eW (wBy fc.toInt 0 9) 0)) = ee.2.1 := by rw [eS_t hw_1, eS_t hw_3, eW_n h9]; exact h8.symm
        exact ⟨e9.symm, by rw [e9, h8]; exact h9⟩
      · skip
        refine W.widen (k := 4) (n := 28) (Nat.le_of_ble_eq_true rfl) (Nat.le_of_ble_eq_true rfl) ?_
        rw [i2l_toInt] at hw_4
        have hw_4 : wBy _ 0 9 = 0 := hw_4
        obtain ⟨hj_fc, et_fc⟩ := wB_ix (n := 9) (by omega) hw_4
        rw [et_fc] at hl
        obtain ⟨c0, hc0, ec0⟩ := hr.kd hj_t
        refine lv_bipush (v := 10) hx hb dX0_turnIt_28 (by decide) ?_
        refine lv_aload_n hx hb dX0_turnIt_30 rfl (lv_at hl 0 rfl) ?_
        refine va_get (D := G.1) (ci := 0) (v := .ref ((ad 1) 0)) (C := RX0) (T := TX0) (N := 13) hx hb hts in_X0 hown hK.1 hP 0 rfl rfl 1 (by decide) (hts _ q222) (fun _ h9 => h9) rfl dX0_turnIt_31 ?_
        refine va_getN (D := G.1) (ci := 7) (v := .ref ((ad 1) 1)) (C := RX8) (T := TX8) (N := 9) hx hb hts in_X8 hown hK.1 hP 7 rfl rfl 1 (by decide) (va_Nw.use rfl (hK.2.F 5 rfl)) (fun _ h9 => h9) rfl dX0_turnIt_34 ?_
        refine lv_iload_n hx hb dX0_turnIt_37 rfl (lv_at hl 1 rfl) ?_
        refine x_aald hx hb hK.1 hP 8 3 rfl rfl (vp_in_nI (by omega) (by decide)) (x := (ad 4) c0) (hk.at hj_t (by omega) ec0 hc0) dX0_turnIt_38 ?_
        rcases (show c0 = 0 ∨ c0 = 1 ∨ c0 = 2 ∨ c0 = 3 ∨ c0 = 4 ∨ c0 = 5 by omega) with rfl | rfl | rfl | rfl | rfl | rfl
        · skip
          refine x_Ui (wN := fun _ => (wX G ad ho rn ln dr ro lt rf th sb ++ wR G (ad 1) kd r ++ wR G (ad 2) k1 r1 ++ wR G (ad 3) k2 r2 ++ wK (ad 4))) ⟨C0, hK, hP, hD, hS, hA⟩ 25 rfl (ci := 1) rfl rfl ((m_X2_kind l G ((ad 4) 0) 1 _ rfl)) (va_cwA (owner := "PulledFromUnder$Kind") 0 hts (lw_U q708 q710 q723 q724 q88 q725) rfl rfl rfl (hK.2.D 11 rfl) (by decide +kernel) ⟨Nat.le_of_ble_eq_true rfl, Nat.le_of_ble_eq_true rfl⟩) [25] [0, 2, 4, 6, 8, 10, 12, 14, 16, 18, 20, 22, 24, 26, 28, 30, 32, 34, 36, 38, 40, 42, 44, 46, 48, 1, 52, 54, 56, 58, 60] rfl (fun _ => rfl) rfl rfl hl.1 rfl (Nat.le_of_ble_eq_true rfl) dX0_turnIt_39 ⟨(Nat.le_of_ble_eq_true rfl), (Nat.le_of_ble_eq_true rfl)⟩ (fun r_5 u_5 H locs hw_5 hP hD hS => ?_)
          have hw_5 : (nI 0 : Int32) = r_5 := hw_5.symm
          subst hw_5
          refine x_imul hx hb dX0_turnIt_42 (v := 10 * (nI 0)) rfl ?_
          refine lv_aload_n hx hb dX0_turnIt_43 rfl (lv_at hl 0 rfl) ?_
          refine va_get (D := G.1) (ci := 0) (v := .ref ((ad 1) 0)) (C := RX0) (T := TX0) (N := 13) hx hb hts in_X0 hown hK.1 hP 0 rfl rfl 1 (by decide) (hts _ q222) (fun _ h9 => h9) rfl dX0_turnIt_44 ?_
          refine va_getN (D := G.1) (ci := 7) (v := .ref ((ad 1) 2)) (C := RX8) (T := TX8) (N := 9) hx hb hts in_X8 hown hK.1 hP 7 rfl rfl 2 (by decide) (va_Nw.use rfl (hK.2.F 6 rfl)) (fun _ h9 => h9) rfl dX0_turnIt_47 ?_
          refine lv_iload_n hx hb dX0_turnIt_50 rfl (lv_at hl 1 rfl) ?_
          refine x_ialdn (k := (ix t)) hx hb hK.1 hP 9 0 rfl rfl (by omega) (by decide) (v := (r 1) (ix t)) rfl dX0_turnIt_51 ?_
          refine x_iadd hx hb dX0_turnIt_52 (v := (10 * (nI 0)) + ((r 1) (ix t))) rfl ?_
          refine lv_istore (lv' := [(4, .int ((10 * (nI 0)) + ((r 1) (ix t)))), (0, .ref (ad 0 0)), (1, .int (nI (ix t))), (2, .int (nI (ix kc))), (3, .int (nI (ix fc)))]) hx hb dX0_turnIt_53 hl (by decide) rfl (fun ls hl => ?_)
          refine lv_aload_n hx hb dX0_turnIt_55 rfl (lv_at hl 1 rfl) ?_
          refine va_get (D := G.1) (ci := 0) (v := .ref ((ad 1) 0)) (C := RX0) (T := TX0) (N := 13) hx hb hts in_X0 hown hK.1 hP 0 rfl rfl 1 (by decide) (hts _ q222) (fun _ h9 => h9) rfl dX0_turnIt_56 ?_
          refine va_getN (D := G.1) (ci := 7) (v := .ref ((ad 1) 1)) (C := RX8) (T := TX8) (N := 9) hx hb hts in_X8 hown hK.1 hP 7 rfl rfl 1 (by decide) (va_Nw.use rfl (hK.2.F 5 rfl)) (fun _ h9 => h9) rfl dX0_turnIt_59 ?_
          refine lv_iload_n hx hb dX0_turnIt_62 rfl (lv_at hl 2 rfl) ?_
          refine lv_aload_n hx hb dX0_turnIt_63 rfl (lv_at hl 1 rfl) ?_
          refine va_get (D := G.1) (ci := 0) (v := .ref (ad 0 1)) (C := RX0) (T := TX0) (N := 13) hx hb hts in_X0 hown hK.1 hP 0 rfl rfl 0 (by decide) (hts _ q221) (fun _ h9 => h9) rfl dX0_turnIt_64 ?_
          refine lv_iload_n hx hb dX0_turnIt_67 rfl (lv_at hl 3 rfl) ?_
          refine x_aald hx hb hK.1 hP 1 3 rfl rfl (vp_in_nI (by omega) (by decide)) (x := (ad 4) (ix kc)) (congrArg (fun j => some (ad 4 j)) (nI_clamp (by omega))) dX0_turnIt_68 ?_
          refine x_aastn (k := (ix t)) hx hb hK.1 hP hD hS 8 3 rfl rfl (kAny hK hP 25 (fun c hc => by rcases (show c = 0 ∨ c = 1 ∨ c = 2 ∨ c = 3 ∨ c = 4 ∨ c = 5 by omega) with rfl | rfl | rfl | rfl | rfl | rfl <;> rfl) (show ix kc < 6 by omega)) (by omega) (by decide) dX0_turnIt_69 (fun H locs hP hD hS => ?_)
          have hP : va_P G.1 vwCl (wX G ad ho rn ln dr ro lt rf th sb ++ wR G (ad 1) (va_up kd (ix t) (some ((ad 4) (ix kc)))) r ++ wR G (ad 2) k1 r1 ++ wR G (ad 3) k2 r2 ++ wK (ad 4)) H := hP
          have hD : va_D A (wX G ad ho rn ln dr ro lt rf th sb ++ wR G (ad 1) (va_up kd (ix t) (some ((ad 4) (ix kc)))) r ++ wR G (ad 2) k1 r1 ++ wR G (ad 3) k2 r2 ++ wK (ad 4)) := hD
          refine lv_aload_n hx hb dX0_turnIt_70 rfl (lv_at hl 1 rfl) ?_
          refine va_get (D := G.1) (ci := 0) (v := .ref ((ad 1) 0)) (C := RX0) (T := TX0) (N := 13) hx hb hts in_X0 hown hK.1 hP 0 rfl rfl 1 (by decide) (hts _ q222) (fun _ h9 => h9) rfl dX0_turnIt_71 ?_
          refine va_getN (D := G.1) (ci := 7) (v := .ref ((ad 1) 2)) (C := RX8) (T := TX8) (N := 9) hx hb hts in_X8 hown hK.1 hP 7 rfl rfl 2 (by decide) (va_Nw.use rfl (hK.2.F 6 rfl)) (fun _ h9 => h9) rfl dX0_turnIt_74 ?_
          refine lv_iload_n hx hb dX0_turnIt_77 rfl (lv_at hl 2 rfl) ?_
          refine lv_iload_n hx hb dX0_turnIt_78 rfl (lv_at hl 4 rfl) ?_
          refine x_iastn (k := (ix t)) hx hb hK.1 hP hD hS 9 0 rfl rfl (by omega) (by decide) (g := upd (r 1) (ix t) (nI (ix fc))) rfl dX0_turnIt_79 (fun H locs hP hD hS => ?_)
          have hP : va_P G.1 vwCl (wX G ad ho rn ln dr ro lt rf th sb ++ wR G (ad 1) (va_up kd (ix t) (some ((ad 4) (ix kc)))) (sf r 1 (upd (r 1) (ix t) (nI (ix fc)))) ++ wR G (ad 2) k1 r1 ++ wR G (ad 3) k2 r2 ++ wK (ad 4)) H := hP
          have hD : va_D A (wX G ad ho rn ln dr ro lt rf th sb ++ wR G (ad 1) (va_up kd (ix t) (some ((ad 4) (ix kc)))) (sf r 1 (upd (r 1) (ix t) (nI (ix fc)))) ++ wR G (ad 2) k1 r1 ++ wR G (ad 3) k2 r2 ++ wK (ad 4)) := hD
          refine lv_iload hx hb dX0_turnIt_80 (lv_at hl 0 rfl) ?_
          refine hret _ _ _ _ _ _ ((10 * (nI 0)) + ((r 1) (ix t))) () dX0_turnIt_82 ?_ hP hD hS (Nat.le_of_ble_eq_true rfl) (Nat.le_of_ble_eq_true rfl)
          refine ⟨by rw [eS_t hw_1, eS_t hw_3, eW_0 hw_4], ?_⟩
          rw [ec0]
        · skip
          refine x_Ui (wN := fun _ => (wX G ad ho rn ln dr ro lt rf th sb ++ wR G (ad 1) kd r ++ wR G (ad 2) k1 r1 ++ wR G (ad 3) k2 r2 ++ wK (ad 4))) ⟨C0, hK, hP, hD, hS, hA⟩ 26 rfl (ci := 2) rfl rfl ((m_X3_kind l G ((ad 4) 1) 2 _ rfl)) (va_cwA (owner := "PulledFromUnder$Kind") 0 hts (lw_U q708 q710 q717 q718 q89 q719) rfl rfl rfl (hK.2.D 11 rfl) (by decide +kernel) ⟨Nat.le_of_ble_eq_true rfl, Nat.le_of_ble_eq_true rfl⟩) [26] [0, 2, 4, 6, 8, 10, 12, 14, 16, 18, 20, 22, 24, 26, 28, 30, 32, 34, 36, 38, 40, 42, 44, 46, 48, 50, 1, 54, 56, 58, 60] rfl (fun _ => rfl) rfl rfl hl.1 rfl (Nat.le_of_ble_eq_true rfl) dX0_turnIt_39 ⟨(Nat.le_of_ble_eq_true rfl), (Nat.le_of_ble_eq_true rfl)⟩ (fun r_6 u_6 H locs hw_6 hP hD hS => ?_)
          have hw_6 : (nI 1 : Int32) = r_6 := hw_6.symm
          subst hw_6
          refine x_imul hx hb dX0_turnIt_42 (v := 10 * (nI 1)) rfl ?_
          refine lv_aload_n hx hb dX0_turnIt_43 rfl (lv_at hl 0 rfl) ?_
          refine va_get (D := G.1) (ci := 0) (v := .ref ((ad 1) 0)) (C := RX0) (T := TX0) (N := 13) hx hb hts in_X0 hown hK.1 hP 0 rfl rfl 1 (by decide) (hts _ q222) (fun _ h9 => h9) rfl dX0_turnIt_44 ?_
          refine va_getN (D := G.1) (ci := 7) (v := .ref ((ad 1) 2)) (C := RX8) (T := TX8) (N := 9) hx hb hts in_X8 hown hK.1 hP 7 rfl rfl 2 (by decide) (va_Nw.use rfl (hK.2.F 6 rfl)) (fun _ h9 => h9) rfl dX0_turnIt_47 ?_
          refine lv_iload_n hx hb dX0_turnIt_50 rfl (lv_at hl 1 rfl) ?_
          refine x_ialdn (k := (ix t)) hx hb hK.1 hP 9 0 rfl rfl (by omega) (by decide) (v := (r 1) (ix t)) rfl dX0_turnIt_51 ?_
          refine x_iadd hx hb dX0_turnIt_52 (v := (10 * (nI 1)) + ((r 1) (ix t))) rfl ?_
          refine lv_istore (lv' := [(4, .int ((10 * (nI 1)) + ((r 1) (ix t)))), (0, .ref (ad 0 0)), (1, .int (nI (ix t))), (2, .int (nI (ix kc))), (3, .int (nI (ix fc)))]) hx hb dX0_turnIt_53 hl (by decide) rfl (fun ls hl => ?_)
          refine lv_aload_n hx hb dX0_turnIt_55 rfl (lv_at hl 1 rfl) ?_
          refine va_get (D := G.1) (ci := 0) (v := .ref ((ad 1) 0)) (C := RX0) (T := TX0) (N := 13) hx hb hts in_X0 hown hK.1 hP 0 rfl rfl 1 (by decide) (hts _ q222) (fun _ h9 => h9) rfl dX0_turnIt_56 ?_
          refine va_getN (D := G.1) (ci := 7) (v := .ref ((ad 1) 1)) (C := RX8) (T := TX8) (N := 9) hx hb hts in_X8 hown hK.1 hP 7 rfl rfl 1 (by decide) (va_Nw.use rfl (hK.2.F 5 rfl)) (fun _ h9 => h9) rfl dX0_turnIt_59 ?_
          refine lv_iload_n hx hb dX0_turnIt_62 rfl (lv_at hl 2 rfl) ?_
          refine lv_aload_n hx hb dX0_turnIt_63 rfl (lv_at hl 1 rfl) ?_
          refine va_get (D := G.1) (ci := 0) (v := .ref (ad 0 1)) (C := RX0) (T := TX0) (N := 13) hx hb hts in_X0 hown hK.1 hP 0 rfl rfl 0 (by decide) (hts _ q221) (fun _ h9 => h9) rfl dX0_turnIt_64 ?_
          refine lv_iload_n hx hb dX0_turnIt_67 rfl (lv_at hl 3 rfl) ?_
          refine x_aald hx hb hK.1 hP 1 3 rfl rfl (vp_in_nI (by omega) (by decide)) (x := (ad 4) (ix kc)) (congrArg (fun j => some (ad 4 j)) (nI_clamp (by omega))) dX0_turnIt_68 ?_
          refine x_aastn (k := (ix t)) hx hb hK.1 hP hD hS 8 3 rfl rfl (kAny hK hP 25 (fun c hc => by rcases (show c = 0 ∨ c = 1 ∨ c = 2 ∨ c = 3 ∨ c = 4 ∨ c = 5 by omega) with rfl | rfl | rfl | rfl | rfl | rfl <;> rfl) (show ix kc < 6 by omega)) (by omega) (by decide) dX0_turnIt_69 (fun H locs hP hD hS => ?_)
          have hP : va_P G.1 vwCl (wX G ad ho rn ln dr ro lt rf th sb ++ wR G (ad 1) (va_up kd (ix t) (some ((ad 4) (ix kc)))) r ++ wR G (ad 2) k1 r1 ++ wR G (ad 3) k2 r2 ++ wK (ad 4)) H := hP
          have hD : va_D A (wX G ad ho rn ln dr ro lt rf th sb ++ wR G (ad 1) (va_up kd (ix t) (some ((ad 4) (ix kc)))) r ++ wR G (ad 2) k1 r1 ++ wR G (ad 3) k2 r2 ++ wK (ad 4)) := hD
          refine lv_aload_n hx hb dX0_turnIt_70 rfl (lv_at hl 1 rfl) ?_
          refine va_get (D := G.1) (ci := 0) (v := .ref ((ad 1) 0)) (C := RX0) (T := TX0) (N := 13) hx hb hts in_X0 hown hK.1 hP 0 rfl rfl 1 (by decide) (hts _ q222) (fun _ h9 => h9) rfl dX0_turnIt_71 ?_
          refine va_getN (D := G.1) (ci := 7) (v := .ref ((ad 1) 2)) (C := RX8) (T := TX8) (N := 9) hx hb hts in_X8 hown hK.1 hP 7 rfl rfl 2 (by decide) (va_Nw.use rfl (hK.2.F 6 rfl)) (fun _ h9 => h9) rfl dX0_turnIt_74 ?_
          refine lv_iload_n hx hb dX0_turnIt_77 rfl (lv_at hl 2 rfl) ?_
          refine lv_iload_n hx hb dX0_turnIt_78 rfl (lv_at hl 4 rfl) ?_
          refine x_iastn (k := (ix t)) hx hb hK.1 hP hD hS 9 0 rfl rfl (by omega) (by decide) (g := upd (r 1) (ix t) (nI (ix fc))) rfl dX0_turnIt_79 (fun H locs hP hD hS => ?_)
          have hP : va_P G.1 vwCl (wX G ad ho rn ln dr ro lt rf th sb ++ wR G (ad 1) (va_up kd (ix t) (some ((ad 4) (ix kc)))) (sf r 1 (upd (r 1) (ix t) (nI (ix fc)))) ++ wR G (ad 2) k1 r1 ++ wR G (ad 3) k2 r2 ++ wK (ad 4)) H := hP
          have hD : va_D A (wX G ad ho rn ln dr ro lt rf th sb ++ wR G (ad 1) (va_up kd (ix t) (some ((ad 4) (ix kc)))) (sf r 1 (upd (r 1) (ix t) (nI (ix fc)))) ++ wR G (ad 2) k1 r1 ++ wR G (ad 3) k2 r2 ++ wK (ad 4)) := hD
          refine lv_iload hx hb dX0_turnIt_80 (lv_at hl 0 rfl) ?_
          refine hret _ _ _ _ _ _ ((10 * (nI 1)) + ((r 1) (ix t))) () dX0_turnIt_82 ?_ hP hD hS (Nat.le_of_ble_eq_true rfl) (Nat.le_of_ble_eq_true rfl)
          refine ⟨by rw [eS_t hw_1, eS_t hw_3, eW_0 hw_4], ?_⟩
          rw [ec0]
        · skip
          refine x_Ui (wN := fun _ => (wX G ad ho rn ln dr ro lt rf th sb ++ wR G (ad 1) kd r ++ wR G (ad 2) k1 r1 ++ wR G (ad 3) k2 r2 ++ wK (ad 4))) ⟨C0, hK, hP, hD, hS, hA⟩ 27 rfl (ci := 3) rfl rfl ((m_X4_kind l G ((ad 4) 2) 3 _ rfl)) (va_cwA (owner := "PulledFromUnder$Kind") 0 hts (lw_U q708 q710 q720 q721 q90 q722) rfl rfl rfl (hK.2.D 11 rfl) (by decide +kernel) ⟨Nat.le_of_ble_eq_true rfl, Nat.le_of_ble_eq_true rfl⟩) [27] [0, 2, 4, 6, 8, 10, 12, 14, 16, 18, 20, 22, 24, 26, 28, 30, 32, 34, 36, 38, 40, 42, 44, 46, 48, 50, 52, 1, 56, 58, 60] rfl (fun _ => rfl) rfl rfl hl.1 rfl (Nat.le_of_ble_eq_true rfl) dX0_turnIt_39 ⟨(Nat.le_of_ble_eq_true rfl), (Nat.le_of_ble_eq_true rfl)⟩ (fun r_7 u_7 H locs hw_7 hP hD hS => ?_)
          have hw_7 : (nI 2 : Int32) = r_7 := hw_7.symm
          subst hw_7
          refine x_imul hx hb dX0_turnIt_42 (v := 10 * (nI 2)) rfl ?_
          refine lv_aload_n hx hb dX0_turnIt_43 rfl (lv_at hl 0 rfl) ?_
          refine va_get (D := G.1) (ci := 0) (v := .ref ((ad 1) 0)) (C := RX0) (T := TX0) (N := 13) hx hb hts in_X0 hown hK.1 hP 0 rfl rfl 1 (by decide) (hts _ q222) (fun _ h9 => h9) rfl dX0_turnIt_44 ?_
          refine va_getN (D := G.1) (ci := 7) (v := .ref ((ad 1) 2)) (C := RX8) (T := TX8) (N := 9) hx hb hts in_X8 hown hK.1 hP 7 rfl rfl 2 (by decide) (va_Nw.use rfl (hK.2.F 6 rfl)) (fun _ h9 => h9) rfl dX0_turnIt_47 ?_
          refine lv_iload_n hx hb dX0_turnIt_50 rfl (lv_at hl 1 rfl) ?_
          refine x_ialdn (k := (ix t)) hx hb hK.1 hP 9 0 rfl rfl (by omega) (by decide) (v := (r 1) (ix t)) rfl dX0_turnIt_51 ?_
          refine x_iadd hx hb dX0_turnIt_52 (v := (10 * (nI 2)) + ((r 1) (ix t))) rfl ?_
          refine lv_istore (lv' := [(4, .int ((10 * (nI 2)) + ((r 1) (ix t)))), (0, .ref (ad 0 0)), (1, .int (nI (ix t))), (2, .int (nI (ix kc))), (3, .int (nI (ix fc)))]) hx hb dX0_turnIt_53 hl (by decide) rfl (fun ls hl => ?_)
          refine lv_aload_n hx hb dX0_turnIt_55 rfl (lv_at hl 1 rfl) ?_
          refine va_get (D := G.1) (ci := 0) (v := .ref ((ad 1) 0)) (C := RX0) (T := TX0) (N := 13) hx hb hts in_X0 hown hK.1 hP 0 rfl rfl 1 (by decide) (hts _ q222) (fun _ h9 => h9) rfl dX0_turnIt_56 ?_
          refine va_getN (D := G.1) (ci := 7) (v := .ref ((ad 1) 1)) (C := RX8) (T := TX8) (N := 9) hx hb hts in_X8 hown hK.1 hP 7 rfl rfl 1 (by decide) (va_Nw.use rfl (hK.2.F 5 rfl)) (fun _ h9 => h9) rfl dX0_turnIt_59 ?_
          refine lv_iload_n hx hb dX0_turnIt_62 rfl (lv_at hl 2 rfl) ?_
          refine lv_aload_n hx hb dX0_turnIt_63 rfl (lv_at hl 1 rfl) ?_
          refine va_get (D := G.1) (ci := 0) (v := .ref (ad 0 1)) (C := RX0) (T := TX0) (N := 13) hx hb hts in_X0 hown hK.1 hP 0 rfl rfl 0 (by decide) (hts _ q221) (fun _ h9 => h9) rfl dX0_turnIt_64 ?_
          refine lv_iload_n hx hb dX0_turnIt_67 rfl (lv_at hl 3 rfl) ?_
          refine x_aald hx hb hK.1 hP 1 3 rfl rfl (vp_in_nI (by omega) (by decide)) (x := (ad 4) (ix kc)) (congrArg (fun j => some (ad 4 j)) (nI_clamp (by omega))) dX0_turnIt_68 ?_
          refine x_aastn (k := (ix t)) hx hb hK.1 hP hD hS 8 3 rfl rfl (kAny hK hP 25 (fun c hc => by rcases (show c = 0 ∨ c = 1 ∨ c = 2 ∨ c = 3 ∨ c = 4 ∨ c = 5 by omega) with rfl | rfl | rfl | rfl | rfl | rfl <;> rfl) (show ix kc < 6 by omega)) (by omega) (by decide) dX0_turnIt_69 (fun H locs hP hD hS => ?_)
          have hP : va_P G.1 vwCl (wX G ad ho rn ln dr ro lt rf th sb ++ wR G (ad 1) (va_up kd (ix t) (some ((ad 4) (ix kc)))) r ++ wR G (ad 2) k1 r1 ++ wR G (ad 3) k2 r2 ++ wK (ad 4)) H := hP
          have hD : va_D A (wX G ad ho rn ln dr ro lt rf th sb ++ wR G (ad 1) (va_up kd (ix t) (some ((ad 4) (ix kc)))) r ++ wR G (ad 2) k1 r1 ++ wR G (ad 3) k2 r2 ++ wK (ad 4)) := hD
          refine lv_aload_n hx hb dX0_turnIt_70 rfl (lv_at hl 1 rfl) ?_
          refine va_get (D := G.1) (ci := 0) (v := .ref ((ad 1) 0)) (C := RX0) (T := TX0) (N := 13) hx hb hts in_X0 hown hK.1 hP 0 rfl rfl 1 (by decide) (hts _ q222) (fun _ h9 => h9) rfl dX0_turnIt_71 ?_
          refine va_getN (D := G.1) (ci := 7) (v := .ref ((ad 1) 2)) (C := RX8) (T := TX8) (N := 9) hx hb hts in_X8 hown hK.1 hP 7 rfl rfl 2 (by decide) (va_Nw.use rfl (hK.2.F 6 rfl)) (fun _ h9 => h9) rfl dX0_turnIt_74 ?_
          refine lv_iload_n hx hb dX0_turnIt_77 rfl (lv_at hl 2 rfl) ?_
          refine lv_iload_n hx hb dX0_turnIt_78 rfl (lv_at hl 4 rfl) ?_
          refine x_iastn (k := (ix t)) hx hb hK.1 hP hD hS 9 0 rfl rfl (by omega) (by decide) (g := upd (r 1) (ix t) (nI (ix fc))) rfl dX0_turnIt_79 (fun H locs hP hD hS => ?_)
          have hP : va_P G.1 vwCl (wX G ad ho rn ln dr ro lt rf th sb ++ wR G (ad 1) (va_up kd (ix t) (some ((ad 4) (ix kc)))) (sf r 1 (upd (r 1) (ix t) (nI (ix fc)))) ++ wR G (ad 2) k1 r1 ++ wR G (ad 3) k2 r2 ++ wK (ad 4)) H := hP
          have hD : va_D A (wX G ad ho rn ln dr ro lt rf th sb ++ wR G (ad 1) (va_up kd (ix t) (some ((ad 4) (ix kc)))) (sf r 1 (upd (r 1) (ix t) (nI (ix fc)))) ++ wR G (ad 2) k1 r1 ++ wR G (ad 3) k2 r2 ++ wK (ad 4)) := hD
          refine lv_iload hx hb dX0_turnIt_80 (lv_at hl 0 rfl) ?_
          refine hret _ _ _ _ _ _ ((10 * (nI 2)) + ((r 1) (ix t))) () dX0_turnIt_82 ?_ hP hD hS (Nat.le_of_ble_eq_true rfl) (Nat.le_of_ble_eq_true rfl)
          refine ⟨by rw [eS_t hw_1, eS_t hw_3, eW_0 hw_4], ?_⟩
          rw [ec0]
        · skip
          refine x_Ui (wN := fun _ => (wX G ad ho rn ln dr ro lt rf th sb ++ wR G (ad 1) kd r ++ wR G (ad 2) k1 r1 ++ wR G (ad 3) k2 r2 ++ wK (ad 4))) ⟨C0, hK, hP, hD, hS, hA⟩ 28 rfl (ci := 4) rfl rfl ((m_X5_kind l G ((ad 4) 3) 4 _ rfl)) (va_cwA (owner := "PulledFromUnder$Kind") 0 hts (lw_U q708 q710 q714 q715 q91 q716) rfl rfl rfl (hK.2.D 11 rfl) (by decide +kernel) ⟨Nat.le_of_ble_eq_true rfl, Nat.le_of_ble_eq_true rfl⟩) [28] [0, 2, 4, 6, 8, 10, 12, 14, 16, 18, 20, 22, 24, 26, 28, 30, 32, 34, 36, 38, 40, 42, 44, 46, 48, 50, 52, 54, 1, 58, 60] rfl (fun _ => rfl) rfl rfl hl.1 rfl (Nat.le_of_ble_eq_true rfl) dX0_turnIt_39 ⟨(Nat.le_of_ble_eq_true rfl), (Nat.le_of_ble_eq_true rfl)⟩ (fun r_8 u_8 H locs hw_8 hP hD hS => ?_)
          have hw_8 : (nI 3 : Int32) = r_8 := hw_8.symm
          subst hw_8
          refine x_imul hx hb dX0_turnIt_42 (v := 10 * (nI 3)) rfl ?_
          refine lv_aload_n hx hb dX0_turnIt_43 rfl (lv_at hl 0 rfl) ?_
          refine va_get (D := G.1) (ci := 0) (v := .ref ((ad 1) 0)) (C := RX0) (T := TX0) (N := 13) hx hb hts in_X0 hown hK.1 hP 0 rfl rfl 1 (by decide) (hts _ q222) (fun _ h9 => h9) rfl dX0_turnIt_44 ?_
          refine va_getN (D := G.1) (ci := 7) (v := .ref ((ad 1) 2)) (C := RX8) (T := TX8) (N := 9) hx hb hts in_X8 hown hK.1 hP 7 rfl rfl 2 (by decide) (va_Nw.use rfl (hK.2.F 6 rfl)) (fun _ h9 => h9) rfl dX0_turnIt_47 ?_
          refine lv_iload_n hx hb dX0_turnIt_50 rfl (lv_at hl 1 rfl) ?_
          refine x_ialdn (k := (ix t)) hx hb hK.1 hP 9 0 rfl rfl (by omega) (by decide) (v := (r 1) (ix t)) rfl dX0_turnIt_51 ?_
          refine x_iadd hx hb dX0_turnIt_52 (v := (10 * (nI 3)) + ((r 1) (ix t))) rfl ?_
          refine lv_istore (lv' := [(4, .int ((10 * (nI 3)) + ((r 1) (ix t)))), (0, .ref (ad 0 0)), (1, .int (nI (ix t))), (2, .int (nI (ix kc))), (3, .int (nI (ix fc)))]) hx hb dX0_turnIt_53 hl (by decide) rfl (fun ls hl => ?_)
          refine lv_aload_n hx hb dX0_turnIt_55 rfl (lv_at hl 1 rfl) ?_
          refine va_get (D := G.1) (ci := 0) (v := .ref ((ad 1) 0)) (C := RX0) (T := TX0) (N := 13) hx hb hts in_X0 hown hK.1 hP 0 rfl rfl 1 (by decide) (hts _ q222) (fun _ h9 => h9) rfl dX0_turnIt_56 ?_
          refine va_getN (D := G.1) (ci := 7) (v := .ref ((ad 1) 1)) (C := RX8) (T := TX8) (N := 9) hx hb hts in_X8 hown hK.1 hP 7 rfl rfl 1 (by decide) (va_Nw.use rfl (hK.2.F 5 rfl)) (fun _ h9 => h9) rfl dX0_turnIt_59 ?_
          refine lv_iload_n hx hb dX0_turnIt_62 rfl (lv_at hl 2 rfl) ?_
          refine lv_aload_n hx hb dX0_turnIt_63 rfl (lv_at hl 1 rfl) ?_
          refine va_get (D := G.1) (ci := 0) (v := .ref (ad 0 1)) (C := RX0) (T := TX0) (N := 13) hx hb hts in_X0 hown hK.1 hP 0 rfl rfl 0 (by decide) (hts _ q221) (fun _ h9 => h9) rfl dX0_turnIt_64 ?_
          refine lv_iload_n hx hb dX0_turnIt_67 rfl (lv_at hl 3 rfl) ?_
          refine x_aald hx hb hK.1 hP 1 3 rfl rfl (vp_in_nI (by omega) (by decide)) (x := (ad 4) (ix kc)) (congrArg (fun j => some (ad 4 j)) (nI_clamp (by omega))) dX0_turnIt_68 ?_
          refine x_aastn (k := (ix t)) hx hb hK.1 hP hD hS 8 3 rfl rfl (kAny hK hP 25 (fun c hc => by rcases (show c = 0 ∨ c = 1 ∨ c = 2 ∨ c = 3 ∨ c = 4 ∨ c = 5 by omega) with rfl | rfl | rfl | rfl | rfl | rfl <;> rfl) (show ix kc < 6 by omega)) (by omega) (by decide) dX0_turnIt_69 (fun H locs hP hD hS => ?_)
          have hP : va_P G.1 vwCl (wX G ad ho rn ln dr ro lt rf th sb ++ wR G (ad 1) (va_up kd (ix t) (some ((ad 4) (ix kc)))) r ++ wR G (ad 2) k1 r1 ++ wR G (ad 3) k2 r2 ++ wK (ad 4)) H := hP
          have hD : va_D A (wX G ad ho rn ln dr ro lt rf th sb ++ wR G (ad 1) (va_up kd (ix t) (some ((ad 4) (ix kc)))) r ++ wR G (ad 2) k1 r1 ++ wR G (ad 3) k2 r2 ++ wK (ad 4)) := hD
          refine lv_aload_n hx hb dX0_turnIt_70 rfl (lv_at hl 1 rfl) ?_
          refine va_get (D := G.1) (ci := 0) (v := .ref ((ad 1) 0)) (C := RX0) (T := TX0) (N := 13) hx hb hts in_X0 hown hK.1 hP 0 rfl rfl 1 (by decide) (hts _ q222) (fun _ h9 => h9) rfl dX0_turnIt_71 ?_
          refine va_getN (D := G.1) (ci := 7) (v := .ref ((ad 1) 2)) (C := RX8) (T := TX8) (N := 9) hx hb hts in_X8 hown hK.1 hP 7 rfl rfl 2 (by decide) (va_Nw.use rfl (hK.2.F 6 rfl)) (fun _ h9 => h9) rfl dX0_turnIt_74 ?_
          refine lv_iload_n hx hb dX0_turnIt_77 rfl (lv_at hl 2 rfl) ?_
          refine lv_iload_n hx hb dX0_turnIt_78 rfl (lv_at hl 4 rfl) ?_
          refine x_iastn (k := (ix t)) hx hb hK.1 hP hD hS 9 0 rfl rfl (by omega) (by decide) (g := upd (r 1) (ix t) (nI (ix fc))) rfl dX0_turnIt_79 (fun H locs hP hD hS => ?_)
          have hP : va_P G.1 vwCl (wX G ad ho rn ln dr ro lt rf th sb ++ wR G (ad 1) (va_up kd (ix t) (some ((ad 4) (ix kc)))) (sf r 1 (upd (r 1) (ix t) (nI (ix fc)))) ++ wR G (ad 2) k1 r1 ++ wR G (ad 3) k2 r2 ++ wK (ad 4)) H := hP
          have hD : va_D A (wX G ad ho rn ln dr ro lt rf th sb ++ wR G (ad 1) (va_up kd (ix t) (some ((ad 4) (ix kc)))) (sf r 1 (upd (r 1) (ix t) (nI (ix fc)))) ++ wR G (ad 2) k1 r1 ++ wR G (ad 3) k2 r2 ++ wK (ad 4)) := hD
          refine lv_iload hx hb dX0_turnIt_80 (lv_at hl 0 rfl) ?_
          refine hret _ _ _ _ _ _ ((10 * (nI 3)) + ((r 1) (ix t))) () dX0_turnIt_82 ?_ hP hD hS (Nat.le_of_ble_eq_true rfl) (Nat.le_of_ble_eq_true rfl)
          refine ⟨by rw [eS_t hw_1, eS_t hw_3, eW_0 hw_4], ?_⟩
          rw [ec0]
        · skip
          refine x_Ui (wN := fun _ => (wX G ad ho rn ln dr ro lt rf th sb ++ wR G (ad 1) kd r ++ wR G (ad 2) k1 r1 ++ wR G (ad 3) k2 r2 ++ wK (ad 4))) ⟨C0, hK, hP, hD, hS, hA⟩ 29 rfl (ci := 5) rfl rfl ((m_X6_kind l G ((ad 4) 4) 5 _ rfl)) (va_cwA (owner := "PulledFromUnder$Kind") 0 hts (lw_U q708 q710 q726 q727 q92 q728) rfl rfl rfl (hK.2.D 11 rfl) (by decide +kernel) ⟨Nat.le_of_ble_eq_true rfl, Nat.le_of_ble_eq_true rfl⟩) [29] [0, 2, 4, 6, 8, 10, 12, 14, 16, 18, 20, 22, 24, 26, 28, 30, 32, 34, 36, 38, 40, 42, 44, 46, 48, 50, 52, 54, 56, 1, 60] rfl (fun _ => rfl) rfl rfl hl.1 rfl (Nat.le_of_ble_eq_true rfl) dX0_turnIt_39 ⟨(Nat.le_of_ble_eq_true rfl), (Nat.le_of_ble_eq_true rfl)⟩ (fun r_9 u_9 H locs hw_9 hP hD hS => ?_)
          have hw_9 : (nI 4 : Int32) = r_9 := hw_9.symm
          subst hw_9
          refine x_imul hx hb dX0_turnIt_42 (v := 10 * (nI 4)) rfl ?_
          refine lv_aload_n hx hb dX0_turnIt_43 rfl (lv_at hl 0 rfl) ?_
          refine va_get (D := G.1) (ci := 0) (v := .ref ((ad 1) 0)) (C := RX0) (T := TX0) (N := 13) hx hb hts in_X0 hown hK.1 hP 0 rfl rfl 1 (by decide) (hts _ q222) (fun _ h9 => h9) rfl dX0_turnIt_44 ?_
          refine va_getN (D := G.1) (ci := 7) (v := .ref ((ad 1) 2)) (C := RX8) (T := TX8) (N := 9) hx hb hts in_X8 hown hK.1 hP 7 rfl rfl 2 (by decide) (va_Nw.use rfl (hK.2.F 6 rfl)) (fun _ h9 => h9) rfl dX0_turnIt_47 ?_
          refine lv_iload_n hx hb dX0_turnIt_50 rfl (lv_at hl 1 rfl) ?_
          refine x_ialdn (k := (ix t)) hx hb hK.1 hP 9 0 rfl rfl (by omega) (by decide) (v := (r 1) (ix t)) rfl dX0_turnIt_51 ?_
          refine x_iadd hx hb dX0_turnIt_52 (v := (10 * (nI 4)) + ((r 1) (ix t))) rfl ?_
          refine lv_istore (lv' := [(4, .int ((10 * (nI 4)) + ((r 1) (ix t)))), (0, .ref (ad 0 0)), (1, .int (nI (ix t))), (2, .int (nI (ix kc))), (3, .int (nI (ix fc)))]) hx hb dX0_turnIt_53 hl (by decide) rfl (fun ls hl => ?_)
          refine lv_aload_n hx hb dX0_turnIt_55 rfl (lv_at hl 1 rfl) ?_
          refine va_get (D := G.1) (ci := 0) (v := .ref ((ad 1) 0)) (C := RX0) (T := TX0) (N := 13) hx hb hts in_X0 hown hK.1 hP 0 rfl rfl 1 (by decide) (hts _ q222) (fun _ h9 => h9) rfl dX0_turnIt_56 ?_
          refine va_getN (D := G.1) (ci := 7) (v := .ref ((ad 1) 1)) (C := RX8) (T := TX8) (N := 9) hx hb hts in_X8 hown hK.1 hP 7 rfl rfl 1 (by decide) (va_Nw.use rfl (hK.2.F 5 rfl)) (fun _ h9 => h9) rfl dX0_turnIt_59 ?_
          refine lv_iload_n hx hb dX0_turnIt_62 rfl (lv_at hl 2 rfl) ?_
          refine lv_aload_n hx hb dX0_turnIt_63 rfl (lv_at hl 1 rfl) ?_
          refine va_get (D := G.1) (ci := 0) (v := .ref (ad 0 1)) (C := RX0) (T := TX0) (N := 13) hx hb hts in_X0 hown hK.1 hP 0 rfl rfl 0 (by decide) (hts _ q221) (fun _ h9 => h9) rfl dX0_turnIt_64 ?_
          refine lv_iload_n hx hb dX0_turnIt_67 rfl (lv_at hl 3 rfl) ?_
          refine x_aald hx hb hK.1 hP 1 3 rfl rfl (vp_in_nI (by omega) (by decide)) (x := (ad 4) (ix kc)) (congrArg (fun j => some (ad 4 j)) (nI_clamp (by omega))) dX0_turnIt_68 ?_
          refine x_aastn (k := (ix t)) hx hb hK.1 hP hD hS 8 3 rfl rfl (kAny hK hP 25 (fun c hc => by rcases (show c = 0 ∨ c = 1 ∨ c = 2 ∨ c = 3 ∨ c = 4 ∨ c = 5 by omega) with rfl | rfl | rfl | rfl | rfl | rfl <;> rfl) (show ix kc < 6 by omega)) (by omega) (by decide) dX0_turnIt_69 (fun H locs hP hD hS => ?_)
          have hP : va_P G.1 vwCl (wX G ad ho rn ln dr ro lt rf th sb ++ wR G (ad 1) (va_up kd (ix t) (some ((ad 4) (ix kc)))) r ++ wR G (ad 2) k1 r1 ++ wR G (ad 3) k2 r2 ++ wK (ad 4)) H := hP
          have hD : va_D A (wX G ad ho rn ln dr ro lt rf th sb ++ wR G (ad 1) (va_up kd (ix t) (some ((ad 4) (ix kc)))) r ++ wR G (ad 2) k1 r1 ++ wR G (ad 3) k2 r2 ++ wK (ad 4)) := hD
          refine lv_aload_n hx hb dX0_turnIt_70 rfl (lv_at hl 1 rfl) ?_
          refine va_get (D := G.1) (ci := 0) (v := .ref ((ad 1) 0)) (C := RX0) (T := TX0) (N := 13) hx hb hts in_X0 hown hK.1 hP 0 rfl rfl 1 (by decide) (hts _ q222) (fun _ h9 => h9) rfl dX0_turnIt_71 ?_
          refine va_getN (D := G.1) (ci := 7) (v := .ref ((ad 1) 2)) (C := RX8) (T := TX8) (N := 9) hx hb hts in_X8 hown hK.1 hP 7 rfl rfl 2 (by decide) (va_Nw.use rfl (hK.2.F 6 rfl)) (fun _ h9 => h9) rfl dX0_turnIt_74 ?_
          refine lv_iload_n hx hb dX0_turnIt_77 rfl (lv_at hl 2 rfl) ?_
          refine lv_iload_n hx hb dX0_turnIt_78 rfl (lv_at hl 4 rfl) ?_
          refine x_iastn (k := (ix t)) hx hb hK.1 hP hD hS 9 0 rfl rfl (by omega) (by decide) (g := upd (r 1) (ix t) (nI (ix fc))) rfl dX0_turnIt_79 (fun H locs hP hD hS => ?_)
          have hP : va_P G.1 vwCl (wX G ad ho rn ln dr ro lt rf th sb ++ wR G (ad 1) (va_up kd (ix t) (some ((ad 4) (ix kc)))) (sf r 1 (upd (r 1) (ix t) (nI (ix fc)))) ++ wR G (ad 2) k1 r1 ++ wR G (ad 3) k2 r2 ++ wK (ad 4)) H := hP
          have hD : va_D A (wX G ad ho rn ln dr ro lt rf th sb ++ wR G (ad 1) (va_up kd (ix t) (some ((ad 4) (ix kc)))) (sf r 1 (upd (r 1) (ix t) (nI (ix fc)))) ++ wR G (ad 2) k1 r1 ++ wR G (ad 3) k2 r2 ++ wK (ad 4)) := hD
          refine lv_iload hx hb dX0_turnIt_80 (lv_at hl 0 rfl) ?_
          refine hret _ _ _ _ _ _ ((10 * (nI 4)) + ((r 1) (ix t))) () dX0_turnIt_82 ?_ hP hD hS (Nat.le_of_ble_eq_true rfl) (Nat.le_of_ble_eq_true rfl)
          refine ⟨by rw [eS_t hw_1, eS_t hw_3, eW_0 hw_4], ?_⟩
          rw [ec0]
        · skip
          refine x_Ui (wN := fun _ => (wX G ad ho rn ln dr ro lt rf th sb ++ wR G (ad 1) kd r ++ wR G (ad 2) k1 r1 ++ wR G (ad 3) k2 r2 ++ wK (ad 4))) ⟨C0, hK, hP, hD, hS, hA⟩ 30 rfl (ci := 6) rfl rfl ((m_X7_kind l G ((ad 4) 5) 6 _ rfl)) (va_cwA (owner := "PulledFromUnder$Kind") 0 hts (lw_U q708 q710 q711 q712 q93 q713) rfl rfl rfl (hK.2.D 11 rfl) (by decide +kernel) ⟨Nat.le_of_ble_eq_true rfl, Nat.le_of_ble_eq_true rfl⟩) [30] [0, 2, 4, 6, 8, 10, 12, 14, 16, 18, 20, 22, 24, 26, 28, 30, 32, 34, 36, 38, 40, 42, 44, 46, 48, 50, 52, 54, 56, 58, 1] rfl (fun _ => rfl) rfl rfl hl.1 rfl (Nat.le_of_ble_eq_true rfl) dX0_turnIt_39 ⟨(Nat.le_of_ble_eq_true rfl), (Nat.le_of_ble_eq_true rfl)⟩ (fun r_10 u_10 H locs hw_10 hP hD hS => ?_)
          have hw_10 : (nI 5 : Int32) = r_10 := hw_10.symm
          subst hw_10
          refine x_imul hx hb dX0_turnIt_42 (v := 10 * (nI 5)) rfl ?_
          refine lv_aload_n hx hb dX0_turnIt_43 rfl (lv_at hl 0 rfl) ?_
          refine va_get (D := G.1) (ci := 0) (v := .ref ((ad 1) 0)) (C := RX0) (T := TX0) (N := 13) hx hb hts in_X0 hown hK.1 hP 0 rfl rfl 1 (by decide) (hts _ q222) (fun _ h9 => h9) rfl dX0_turnIt_44 ?_
          refine va_getN (D := G.1) (ci := 7) (v := .ref ((ad 1) 2)) (C := RX8) (T := TX8) (N := 9) hx hb hts in_X8 hown hK.1 hP 7 rfl rfl 2 (by decide) (va_Nw.use rfl (hK.2.F 6 rfl)) (fun _ h9 => h9) rfl dX0_turnIt_47 ?_
          refine lv_iload_n hx hb dX0_turnIt_50 rfl (lv_at hl 1 rfl) ?_
          refine x_ialdn (k := (ix t)) hx hb hK.1 hP 9 0 rfl rfl (by omega) (by decide) (v := (r 1) (ix t)) rfl dX0_turnIt_51 ?_
          refine x_iadd hx hb dX0_turnIt_52 (v := (10 * (nI 5)) + ((r 1) (ix t))) rfl ?_
          refine lv_istore (lv' := [(4, .int ((10 * (nI 5)) + ((r 1) (ix t)))), (0, .ref (ad 0 0)), (1, .int (nI (ix t))), (2, .int (nI (ix kc))), (3, .int (nI (ix fc)))]) hx hb dX0_turnIt_53 hl (by decide) rfl (fun ls hl => ?_)
          refine lv_aload_n hx hb dX0_turnIt_55 rfl (lv_at hl 1 rfl) ?_
          refine va_get (D := G.1) (ci := 0) (v := .ref ((ad 1) 0)) (C := RX0) (T := TX0) (N := 13) hx hb hts in_X0 hown hK.1 hP 0 rfl rfl 1 (by decide) (hts _ q222) (fun _ h9 => h9) rfl dX0_turnIt_56 ?_
          refine va_getN (D := G.1) (ci := 7) (v := .ref ((ad 1) 1)) (C := RX8) (T := TX8) (N := 9) hx hb hts in_X8 hown hK.1 hP 7 rfl rfl 1 (by decide) (va_Nw.use rfl (hK.2.F 5 rfl)) (fun _ h9 => h9) rfl dX0_turnIt_59 ?_
          refine lv_iload_n hx hb dX0_turnIt_62 rfl (lv_at hl 2 rfl) ?_
          refine lv_aload_n hx hb dX0_turnIt_63 rfl (lv_at hl 1 rfl) ?_
          refine va_get (D := G.1) (ci := 0) (v := .ref (ad 0 1)) (C := RX0) (T := TX0) (N := 13) hx hb hts in_X0 hown hK.1 hP 0 rfl rfl 0 (by decide) (hts _ q221) (fun _ h9 => h9) rfl dX0_turnIt_64 ?_
          refine lv_iload_n hx hb dX0_turnIt_67 rfl (lv_at hl 3 rfl) ?_
          refine x_aald hx hb hK.1 hP 1 3 rfl rfl (vp_in_nI (by omega) (by decide)) (x := (ad 4) (ix kc)) (congrArg (fun j => some (ad 4 j)) (nI_clamp (by omega))) dX0_turnIt_68 ?_
          refine x_aastn (k := (ix t)) hx hb hK.1 hP hD hS 8 3 rfl rfl (kAny hK hP 25 (fun c hc => by rcases (show c = 0 ∨ c = 1 ∨ c = 2 ∨ c = 3 ∨ c = 4 ∨ c = 5 by omega) with rfl | rfl | rfl | rfl | rfl | rfl <;> rfl) (show ix kc < 6 by omega)) (by omega) (by decide) dX0_turnIt_69 (fun H locs hP hD hS => ?_)
          have hP : va_P G.1 vwCl (wX G ad ho rn ln dr ro lt rf th sb ++ wR G (ad 1) (va_up kd (ix t) (some ((ad 4) (ix kc)))) r ++ wR G (ad 2) k1 r1 ++ wR G (ad 3) k2 r2 ++ wK (ad 4)) H := hP
          have hD : va_D A (wX G ad ho rn ln dr ro lt rf th sb ++ wR G (ad 1) (va_up kd (ix t) (some ((ad 4) (ix kc)))) r ++ wR G (ad 2) k1 r1 ++ wR G (ad 3) k2 r2 ++ wK (ad 4)) := hD
          refine lv_aload_n hx hb dX0_turnIt_70 rfl (lv_at hl 1 rfl) ?_
          refine va_get (D := G.1) (ci := 0) (v := .ref ((ad 1) 0)) (C := RX0) (T := TX0) (N := 13) hx hb hts in_X0 hown hK.1 hP 0 rfl rfl 1 (by decide) (hts _ q222) (fun _ h9 => h9) rfl dX0_turnIt_71 ?_
          refine va_getN (D := G.1) (ci := 7) (v := .ref ((ad 1) 2)) (C := RX8) (T := TX8) (N := 9) hx hb hts in_X8 hown hK.1 hP 7 rfl rfl 2 (by decide) (va_Nw.use rfl (hK.2.F 6 rfl)) (fun _ h9 => h9) rfl dX0_turnIt_74 ?_
          refine lv_iload_n hx hb dX0_turnIt_77 rfl (lv_at hl 2 rfl) ?_
          refine lv_iload_n hx hb dX0_turnIt_78 rfl (lv_at hl 4 rfl) ?_
          refine x_iastn (k := (ix t)) hx hb hK.1 hP hD hS 9 0 rfl rfl (by omega) (by decide) (g := upd (r 1) (ix t) (nI (ix fc))) rfl dX0_turnIt_79 (fun H locs hP hD hS => ?_)
          have hP : va_P G.1 vwCl (wX G ad ho rn ln dr ro lt rf th sb ++ wR G (ad 1) (va_up kd (ix t) (some ((ad 4) (ix kc)))) (sf r 1 (upd (r 1) (ix t) (nI (ix fc)))) ++ wR G (ad 2) k1 r1 ++ wR G (ad 3) k2 r2 ++ wK (ad 4)) H := hP
          have hD : va_D A (wX G ad ho rn ln dr ro lt rf th sb ++ wR G (ad 1) (va_up kd (ix t) (some ((ad 4) (ix kc)))) (sf r 1 (upd (r 1) (ix t) (nI (ix fc)))) ++ wR G (ad 2) k1 r1 ++ wR G (ad 3) k2 r2 ++ wK (ad 4)) := hD
          refine lv_iload hx hb dX0_turnIt_80 (lv_at hl 0 rfl) ?_
          refine hret _ _ _ _ _ _ ((10 * (nI 5)) + ((r 1) (ix t))) () dX0_turnIt_82 ?_ hP hD hS (Nat.le_of_ble_eq_true rfl) (Nat.le_of_ble_eq_true rfl)
          refine ⟨by rw [eS_t hw_1, eS_t hw_3, eW_0 hw_4], ?_⟩
          rw [ec0]
set_option maxHeartbeats 4000000 in
set_option maxRecDepth 100000 in
theorem m_thingTold (l : Launch) (hl0 : l.stackTraces = false) (G : xG) (ad : Nat → Nat → Nat) (kd k1 k2 : Nat → Option Nat) (r r1 r2 : Rw) (ho rn ln dr : Int32) (ro lt rf th sb : Nat → Int32) (hr : Ok r) (hp : r 5 3 = 0) (hk : kOk (ad 4) kd r) (t w : Int32) : yCi l G yX0_thingTold cX0_thingTold 3 (some .int) ({ frames := 10, cells := 2, slots := 14, locals := 171 } : Room) [.ref (ad 0 0), .int t, .int w] (wX G ad ho rn ln dr ro lt rf th sb ++ wR G (ad 1) kd r ++ wR G (ad 2) k1 r1 ++ wR G (ad 3) k2 r2 ++ wK (ad 4)) (S := Unit) (SX := Unit) (fun v _ => eS (tB r t) (-1) (eS (inR w 0 7) (-2) 0) = 0 ∧ v = pTh r (ix t) w) (fun _ => (wX G ad ho rn ln dr ro lt rf th sb ++ wR G (ad 1) kd r ++ wR G (ad 2) k1 r1 ++ wR G (ad 3) k2 r2 ++ wK (ad 4))) (fun n _ => n = eS (tB r t) (-1) (eS (inR w 0 7) (-2) 0) ∧ eS (tB r t) (-1) (eS (inR w 0 7) (-2) 0) ≠ 0) (fun _ => (wX G ad ho rn ln dr ro lt rf th sb ++ wR G (ad 1) kd r ++ wR G (ad 2) k1 r1 ++ wR G (ad 3) k2 r2 ++ wK (ad 4))) := by
  refine y_openi (by decide) (Nat.le_of_ble_eq_true rfl) (fun _ _ _ => rfl) ?_
  intro p e s m args below meth c A Q ls C0 hK hZ hP hD hA hl hret hthr
  obtain ⟨hx, hb, hml, hown, hts⟩ := id C0
  have hS : va_S A s.heap s.heap [] := va_S.rf
  have hP : va_P G.1 vwCl (wX G ad ho rn ln dr ro lt rf th sb ++ wR G (ad 1) kd r ++ wR G (ad 2) k1 r1 ++ wR G (ad 3) k2 r2 ++ wK (ad 4)) s.heap := hP
  have hD : va_D A (wX G ad ho rn ln dr ro lt rf th sb ++ wR G (ad 1) kd r ++ wR G (ad 2) k1 r1 ++ wR G (ad 3) k2 r2 ++ wK (ad 4)) := hD
  have hl : lv_has ls 3 [(0, .ref (ad 0 0)), (1, .int t), (2, .int w)] := hl
  have hr0 := hr.n
  have hN := hr.le
  refine lv_aload_n hx hb dX0_thingTold_0 rfl (lv_at hl 0 rfl) ?_
  refine lv_iload_n hx hb dX0_thingTold_1 rfl (lv_at hl 1 rfl) ?_
  refine y_Vv (wN := fun _ => (wX G ad ho rn ln dr ro lt rf th sb ++ wR G (ad 1) kd r ++ wR G (ad 2) k1 r1 ++ wR G (ad 3) k2 r2 ++ wK (ad 4))) (wNx := fun u9 => (wX G ad ho rn ln dr ro lt rf th sb ++ wR G (ad 1) kd r ++ wR G (ad 2) k1 r1 ++ wR G (ad 3) k2 r2 ++ wK (ad 4))) ⟨C0, hK, hP, hD, hS, hA⟩ hZ 0 rfl (ci := 0) rfl rfl ((m_mustBeThing l hl0 G ad kd k1 k2 r r1 r2 ho rn ln dr ro lt rf th sb hr hp hk t)) (cwV 1 hts (lw_V q699 q701 qs14 q86 q702) rfl rfl rfl (by decide +kernel) ⟨Nat.le_of_ble_eq_true rfl, Nat.le_of_ble_eq_true rfl⟩) [0, 1, 2, 3, 4, 5, 6, 7, 8, 9, 10, 11, 12, 13, 14, 15, 16, 17, 18, 19, 20, 21, 22, 23, 24, 25, 26, 27, 28, 29, 30] [1, 3, 5, 7, 9, 11, 13, 15, 17, 19, 21, 23, 25, 27, 29, 31, 33, 35, 37, 39, 41, 43, 45, 47, 49, 51, 53, 55, 57, 59, 61] [1, 3, 5, 7, 9, 11, 13, 15, 17, 19, 21, 23, 25, 27, 29, 31, 33, 35, 37, 39, 41, 43, 45, 47, 49, 51, 53, 55, 57, 59, 61, 63] rfl (fun _ => rfl) (fun _ _ _ => rfl) rfl rfl rfl hl.1 rfl (Nat.le_of_ble_eq_true rfl) dX0_thingTold_2 ⟨(Nat.le_of_ble_eq_true rfl), (Nat.le_of_ble_eq_true rfl)⟩ (fun q9 u9 ee H locs hw_1 hP hD hS => ?_) (fun u_1 H locs hw_1 hP hD hS => ?_)
  · skip
    refine hthr _ _ _ _ _ _ _ q9 () ee ?_ hP hD hS (Nat.le_of_ble_eq_true rfl) (Nat.le_of_ble_eq_true rfl)
    obtain ⟨h8, h9⟩ := hw_1
    have e9 : eS (tB r t) (-1) (eS (inR w 0 7) (-2) 0) = ee.2.1 := by rw [eS_f h8]; exact h9.symm
    exact ⟨e9.symm, by rw [e9, h9]; decide⟩
  · skip
    refine W.widen (k := 1) (n := 7) (Nat.le_of_ble_eq_true rfl) (Nat.le_of_ble_eq_true rfl) ?_
    obtain ⟨hj_t, et_t⟩ := tB_ix hN hw_1
    rw [et_t] at hl
    refine lv_iload_n hx hb dX0_thingTold_5 rfl (lv_at hl 2 rfl) ?_
    refine lv_i2l (v := w.toInt64) hx hb dX0_thingTold_6 rfl ?_
    refine lv_lconst (v := 0) hx hb dX0_thingTold_7 (by decide) ?_
    refine lv_ldc2 (v := 7) hx hb hown (hts _ q707) dX0_thingTold_8 ?_
    refine x_Si (wN := fun _ => (wX G ad ho rn ln dr ro lt rf th sb ++ wR G (ad 1) kd r ++ wR G (ad 2) k1 r1 ++ wR G (ad 3) k2 r2 ++ wK (ad 4))) ⟨C0, hK, hP, hD, hS, hA⟩ ((m_in l G w.toInt64 0 7)) (va_cwS 3 hts (lw_S q706 q427 q86 q428) rfl rfl rfl (by decide +kernel) ⟨Nat.le_of_ble_eq_true rfl, Nat.le_of_ble_eq_true rfl⟩) [] [0, 2, 4, 6, 8, 10, 12, 14, 16, 18, 20, 22, 24, 26, 28, 30, 32, 34, 36, 38, 40, 42, 44, 46, 48, 50, 52, 54, 56, 58, 60] rfl (fun _ => rfl) rfl rfl hl.1 rfl (Nat.le_of_ble_eq_true rfl) dX0_thingTold_11 ⟨(Nat.le_of_ble_eq_true rfl), (Nat.le_of_ble_eq_true rfl)⟩ (fun r_2 u_2 H locs hw_2 hP hD hS => ?_)
    have hw_2 : r_2 = bI (inR w 0 7) := hw_2.trans (congrArg bI (inL_inR rfl rfl))
    have hw_2 : (bI (inR w 0 7) : Int32) = r_2 := hw_2.symm
    subst hw_2
    refine lv_bipush (v := (-2)) hx hb dX0_thingTold_14 (by decide) ?_
    refine y_Sv (wN := fun _ => (wX G ad ho rn ln dr ro lt rf th sb ++ wR G (ad 1) kd r ++ wR G (ad 2) k1 r1 ++ wR G (ad 3) k2 r2 ++ wK (ad 4))) (wNx := fun u9 => (wX G ad ho rn ln dr ro lt rf th sb ++ wR G (ad 1) kd r ++ wR G (ad 2) k1 r1 ++ wR G (ad 3) k2 r2 ++ wK (ad 4))) ⟨C0, hK, hP, hD, hS, hA⟩ hZ ((m_must l hl0 G (inR w 0 7) (-2))) (va_cwS 2 hts (lw_S q286 q287 q86 q288) rfl rfl rfl (by decide +kernel) ⟨Nat.le_of_ble_eq_true rfl, Nat.le_of_ble_eq_true rfl⟩) [] [0, 2, 4, 6, 8, 10, 12, 14, 16, 18, 20, 22, 24, 26, 28, 30, 32, 34, 36, 38, 40, 42, 44, 46, 48, 50, 52, 54, 56, 58, 60] [0, 2, 4, 6, 8, 10, 12, 14, 16, 18, 20, 22, 24, 26, 28, 30, 32, 34, 36, 38, 40, 42, 44, 46, 48, 50, 52, 54, 56, 58, 60, 1] rfl (fun _ => rfl) (fun _ _ _ => rfl) rfl rfl rfl hl.1 rfl (Nat.le_of_ble_eq_true rfl) dX0_thingTold_16 ⟨(Nat.le_of_ble_eq_true rfl), (Nat.le_of_ble_eq_true rfl)⟩ (fun q9 u9 ee H locs hw_3 hP hD hS => ?_) (fun u_3 H locs hw_3 hP hD hS => ?_)
    · skip
      refine hthr _ _ _ _ _ _ _ q9 () ee ?_ hP hD hS (Nat.le_of_ble_eq_true rfl) (Nat.le_of_ble_eq_true rfl)
      obtain ⟨h8, h9⟩ := hw_3
      have e9 : eS (tB r t) (-1) (eS (inR w 0 7) (-2) 0) = ee.2.1 := by rw [eS_t hw_1, eS_f h8]; exact h9.symm
      exact ⟨e9.symm, by rw [e9, h9]; decide⟩
    · skip
      refine W.widen (k := 2) (n := 14) (Nat.le_of_ble_eq_true rfl) (Nat.le_of_ble_eq_true rfl) ?_
      have hin7 := hw_3
      obtain ⟨c0, hc0, ec0⟩ := hr.kd hj_t
      refine lv_iload_n hx hb dX0_thingTold_19 rfl (lv_at hl 2 rfl) ?_
      rcases sw w 6 with ⟨k_4, hk_4, e_4⟩ | e_4
      · skip
        rcases (show k_4 = 0 ∨ k_4 = 1 ∨ k_4 = 2 ∨ k_4 = 3 ∨ k_4 = 4 ∨ k_4 = 5 ∨ k_4 = 6 by omega) with rfl | rfl | rfl | rfl | rfl | rfl | rfl
        · skip
          refine lv_tableIn (tgt := 64) hx hb dX0_thingTold_20 (by rw [e_4]; decide) (by rw [e_4]; decide) (by rw [e_4]; rfl) (by decide) ?_
          refine lv_aload_n hx hb dX0_thingTold_64 rfl (lv_at hl 0 rfl) ?_
          refine va_get (D := G.1) (ci := 0) (v := .ref ((ad 1) 0)) (C := RX0) (T := TX0) (N := 13) hx hb hts in_X0 hown hK.1 hP 0 rfl rfl 1 (by decide) (hts _ q222) (fun _ h9 => h9) rfl dX0_thingTold_65 ?_
          refine va_getN (D := G.1) (ci := 7) (v := .ref ((ad 1) 1)) (C := RX8) (T := TX8) (N := 9) hx hb hts in_X8 hown hK.1 hP 7 rfl rfl 1 (by decide) (va_Nw.use rfl (hK.2.F 5 rfl)) (fun _ h9 => h9) rfl dX0_thingTold_68 ?_
          refine lv_iload_n hx hb dX0_thingTold_71 rfl (lv_at hl 1 rfl) ?_
          refine x_aald hx hb hK.1 hP 8 3 rfl rfl (vp_in_nI (by omega) (by decide)) (x := (ad 4) c0) (hk.at hj_t (by omega) ec0 hc0) dX0_thingTold_72 ?_
          rcases (show c0 = 0 ∨ c0 = 1 ∨ c0 = 2 ∨ c0 = 3 ∨ c0 = 4 ∨ c0 = 5 by omega) with rfl | rfl | rfl | rfl | rfl | rfl
          · skip
            refine x_Ui (wN := fun _ => (wX G ad ho rn ln dr ro lt rf th sb ++ wR G (ad 1) kd r ++ wR G (ad 2) k1 r1 ++ wR G (ad 3) k2 r2 ++ wK (ad 4))) ⟨C0, hK, hP, hD, hS, hA⟩ 25 rfl (ci := 1) rfl rfl ((m_X2_kind l G ((ad 4) 0) 1 _ rfl)) (va_cwA (owner := "PulledFromUnder$Kind") 0 hts (lw_U q708 q710 q723 q724 q88 q725) rfl rfl rfl (hK.2.D 11 rfl) (by decide +kernel) ⟨Nat.le_of_ble_eq_true rfl, Nat.le_of_ble_eq_true rfl⟩) [25] [0, 2, 4, 6, 8, 10, 12, 14, 16, 18, 20, 22, 24, 26, 28, 30, 32, 34, 36, 38, 40, 42, 44, 46, 48, 1, 52, 54, 56, 58, 60] rfl (fun _ => rfl) rfl rfl hl.1 rfl (Nat.le_of_ble_eq_true rfl) dX0_thingTold_73 ⟨(Nat.le_of_ble_eq_true rfl), (Nat.le_of_ble_eq_true rfl)⟩ (fun r_5 u_5 H locs hw_5 hP hD hS => ?_)
            have hw_5 : (nI 0 : Int32) = r_5 := hw_5.symm
            subst hw_5
            refine hret _ _ _ _ _ _ (nI 0) () dX0_thingTold_76 ?_ hP hD hS (Nat.le_of_ble_eq_true rfl) (Nat.le_of_ble_eq_true rfl)
            refine ⟨by rw [eS_t hw_1, eS_t hw_3], ?_⟩
            rw [e_4]
            exact ec0.symm
          · skip
            refine x_Ui (wN := fun _ => (wX G ad ho rn ln dr ro lt rf th sb ++ wR G (ad 1) kd r ++ wR G (ad 2) k1 r1 ++ wR G (ad 3) k2 r2 ++ wK (ad 4))) ⟨C0, hK, hP, hD, hS, hA⟩ 26 rfl (ci := 2) rfl rfl ((m_X3_kind l G ((ad 4) 1) 2 _ rfl)) (va_cwA (owner := "PulledFromUnder$Kind") 0 hts (lw_U q708 q710 q717 q718 q89 q719) rfl rfl rfl (hK.2.D 11 rfl) (by decide +kernel) ⟨Nat.le_of_ble_eq_true rfl, Nat.le_of_ble_eq_true rfl⟩) [26] [0, 2, 4, 6, 8, 10, 12, 14, 16, 18, 20, 22, 24, 26, 28, 30, 32, 34, 36, 38, 40, 42, 44, 46, 48, 50, 1, 54, 56, 58, 60] rfl (fun _ => rfl) rfl rfl hl.1 rfl (Nat.le_of_ble_eq_true rfl) dX0_thingTold_73 ⟨(Nat.le_of_ble_eq_true rfl), (Nat.le_of_ble_eq_true rfl)⟩ (fun r_6 u_6 H locs hw_6 hP hD hS => ?_)
            have hw_6 : (nI 1 : Int32) = r_6 := hw_6.symm
            subst hw_6
            refine hret _ _ _ _ _ _ (nI 1) () dX0_thingTold_76 ?_ hP hD hS (Nat.le_of_ble_eq_true rfl) (Nat.le_of_ble_eq_true rfl)
            refine ⟨by rw [eS_t hw_1, eS_t hw_3], ?_⟩
            rw [e_4]
            exact ec0.symm
          · skip
            refine x_Ui (wN := fun _ => (wX G ad ho rn ln dr ro lt rf th sb ++ wR G (ad 1) kd r ++ wR G (ad 2) k1 r1 ++ wR G (ad 3) k2 r2 ++ wK (ad 4))) ⟨C0, hK, hP, hD, hS, hA⟩ 27 rfl (ci := 3) rfl rfl ((m_X4_kind l G ((ad 4) 2) 3 _ rfl)) (va_cwA (owner := "PulledFromUnder$Kind") 0 hts (lw_U q708 q710 q720 q721 q90 q722) rfl rfl rfl (hK.2.D 11 rfl) (by decide +kernel) ⟨Nat.le_of_ble_eq_true rfl, Nat.le_of_ble_eq_true rfl⟩) [27] [0, 2, 4, 6, 8, 10, 12, 14, 16, 18, 20, 22, 24, 26, 28, 30, 32, 34, 36, 38, 40, 42, 44, 46, 48, 50, 52, 1, 56, 58, 60] rfl (fun _ => rfl) rfl rfl hl.1 rfl (Nat.le_of_ble_eq_true rfl) dX0_thingTold_73 ⟨(Nat.le_of_ble_eq_true rfl), (Nat.le_of_ble_eq_true rfl)⟩ (fun r_7 u_7 H locs hw_7 hP hD hS => ?_)
            have hw_7 : (nI 2 : Int32) = r_7 := hw_7.symm
            subst hw_7
            refine hret _ _ _ _ _ _ (nI 2) () dX0_thingTold_76 ?_ hP hD hS (Nat.le_of_ble_eq_true rfl) (Nat.le_of_ble_eq_true rfl)
            refine ⟨by rw [eS_t hw_1, eS_t hw_3], ?_⟩
            rw [e_4]
            exact ec0.symm
          · skip
            refine x_Ui (wN := fun _ => (wX G ad ho rn ln dr ro lt rf th sb ++ wR G (ad 1) kd r ++ wR G (ad 2) k1 r1 ++ wR G (ad 3) k2 r2 ++ wK (ad 4))) ⟨C0, hK, hP, hD, hS, hA⟩ 28 rfl (ci := 4) rfl rfl ((m_X5_kind l G ((ad 4) 3) 4 _ rfl)) (va_cwA (owner := "PulledFromUnder$Kind") 0 hts (lw_U q708 q710 q714 q715 q91 q716) rfl rfl rfl (hK.2.D 11 rfl) (by decide +kernel) ⟨Nat.le_of_ble_eq_true rfl, Nat.le_of_ble_eq_true rfl⟩) [28] [0, 2, 4, 6, 8, 10, 12, 14, 16, 18, 20, 22, 24, 26, 28, 30, 32, 34, 36, 38, 40, 42, 44, 46, 48, 50, 52, 54, 1, 58, 60] rfl (fun _ => rfl) rfl rfl hl.1 rfl (Nat.le_of_ble_eq_true rfl) dX0_thingTold_73 ⟨(Nat.le_of_ble_eq_true rfl), (Nat.le_of_ble_eq_true rfl)⟩ (fun r_8 u_8 H locs hw_8 hP hD hS => ?_)
            have hw_8 : (nI 3 : Int32) = r_8 := hw_8.symm
            subst hw_8
            refine hret _ _ _ _ _ _ (nI 3) () dX0_thingTold_76 ?_ hP hD hS (Nat.le_of_ble_eq_true rfl) (Nat.le_of_ble_eq_true rfl)
            refine ⟨by rw [eS_t hw_1, eS_t hw_3], ?_⟩
            rw [e_4]
            exact ec0.symm
          · skip
            refine x_Ui (wN := fun _ => (wX G ad ho rn ln dr ro lt rf th sb ++ wR G (ad 1) kd r ++ wR G (ad 2) k1 r1 ++ wR G (ad 3) k2 r2 ++ wK (ad 4))) ⟨C0, hK, hP, hD, hS, hA⟩ 29 rfl (ci := 5) rfl rfl ((m_X6_kind l G ((ad 4) 4) 5 _ rfl)) (va_cwA (owner := "PulledFromUnder$Kind") 0 hts (lw_U q708 q710 q726 q727 q92 q728) rfl rfl rfl (hK.2.D 11 rfl) (by decide +kernel) ⟨Nat.le_of_ble_eq_true rfl, Nat.le_of_ble_eq_true rfl⟩) [29] [0, 2, 4, 6, 8, 10, 12, 14, 16, 18, 20, 22, 24, 26, 28, 30, 32, 34, 36, 38, 40, 42, 44, 46, 48, 50, 52, 54, 56, 1, 60] rfl (fun _ => rfl) rfl rfl hl.1 rfl (Nat.le_of_ble_eq_true rfl) dX0_thingTold_73 ⟨(Nat.le_of_ble_eq_true rfl), (Nat.le_of_ble_eq_true rfl)⟩ (fun r_9 u_9 H locs hw_9 hP hD hS => ?_)
            have hw_9 : (nI 4 : Int32) = r_9 := hw_9.symm
            subst hw_9
            refine hret _ _ _ _ _ _ (nI 4) () dX0_thingTold_76 ?_ hP hD hS (Nat.le_of_ble_eq_true rfl) (Nat.le_of_ble_eq_true rfl)
            refine ⟨by rw [eS_t hw_1, eS_t hw_3], ?_⟩
            rw [e_4]
            exact ec0.symm
          · skip
            refine x_Ui (wN := fun _ => (wX G ad ho rn ln dr ro lt rf th sb ++ wR G (ad 1) kd r ++ wR G (ad 2) k1 r1 ++ wR G (ad 3) k2 r2 ++ wK (ad 4))) ⟨C0, hK, hP, hD, hS, hA⟩ 30 rfl (ci := 6) rfl rfl ((m_X7_kind l G ((ad 4) 5) 6 _ rfl)) (va_cwA (owner := "PulledFromUnder$Kind") 0 hts (lw_U q708 q710 q711 q712 q93 q713) rfl rfl rfl (hK.2.D 11 rfl) (by decide +kernel) ⟨Nat.le_of_ble_eq_true rfl, Nat.le_of_ble_eq_true rfl⟩) [30] [0, 2, 4, 6, 8, 10, 12, 14, 16, 18, 20, 22, 24, 26, 28, 30, 32, 34, 36, 38, 40, 42, 44, 46, 48, 50, 52, 54, 56, 58, 1] rfl (fun _ => rfl) rfl rfl hl.1 rfl (Nat.le_of_ble_eq_true rfl) dX0_thingTold_73 ⟨(Nat.le_of_ble_eq_true rfl), (Nat.le_of_ble_eq_true rfl)⟩ (fun r_10 u_10 H locs hw_10 hP hD hS => ?_)
            have hw_10 : (nI 5 : Int32) = r_10 := hw_10.symm
            subst hw_10
            refine hret _ _ _ _ _ _ (nI 5) () dX0_thingTold_76 ?_ hP hD hS (Nat.le_of_ble_eq_true rfl) (Nat.le_of_ble_eq_true rfl)
            refine ⟨by rw [eS_t hw_1, eS_t hw_3], ?_⟩
            rw [e_4]
            exact ec0.symm
        · skip
          refine lv_tableIn (tgt := 77) hx hb dX0_thingTold_20 (by rw [e_4]; decide) (by rw [e_4]; decide) (by rw [e_4]; rfl) (by decide) ?_
          refine lv_aload_n hx hb dX0_thingTold_77 rfl (lv_at hl 0 rfl) ?_
          refine va_get (D := G.1) (ci := 0) (v := .ref ((ad 1) 0)) (C := RX0) (T := TX0) (N := 13) hx hb hts in_X0 hown hK.1 hP 0 rfl rfl 1 (by decide) (hts _ q222) (fun _ h9 => h9) rfl dX0_thingTold_78 ?_
          refine va_getN (D := G.1) (ci := 7) (v := .ref ((ad 1) 2)) (C := RX8) (T := TX8) (N := 9) hx hb hts in_X8 hown hK.1 hP 7 rfl rfl 2 (by decide) (va_Nw.use rfl (hK.2.F 6 rfl)) (fun _ h9 => h9) rfl dX0_thingTold_81 ?_
          refine lv_iload_n hx hb dX0_thingTold_84 rfl (lv_at hl 1 rfl) ?_
          refine x_ialdn (k := (ix t)) hx hb hK.1 hP 9 0 rfl rfl (by omega) (by decide) (v := (r 1) (ix t)) rfl dX0_thingTold_85 ?_
          refine hret _ _ _ _ _ _ ((r 1) (ix t)) () dX0_thingTold_86 ?_ hP hD hS (Nat.le_of_ble_eq_true rfl) (Nat.le_of_ble_eq_true rfl)
          refine ⟨by rw [eS_t hw_1, eS_t hw_3], ?_⟩
          rw [e_4]
          rfl
        · skip
          refine lv_tableIn (tgt := 87) hx hb dX0_thingTold_20 (by rw [e_4]; decide) (by rw [e_4]; decide) (by rw [e_4]; rfl) (by decide) ?_
          refine lv_aload_n hx hb dX0_thingTold_87 rfl (lv_at hl 0 rfl) ?_
          refine va_get (D := G.1) (ci := 0) (v := .ref ((ad 1) 0)) (C := RX0) (T := TX0) (N := 13) hx hb hts in_X0 hown hK.1 hP 0 rfl rfl 1 (by decide) (hts _ q222) (fun _ h9 => h9) rfl dX0_thingTold_88 ?_
          refine va_getN (D := G.1) (ci := 7) (v := .ref ((ad 1) 3)) (C := RX8) (T := TX8) (N := 9) hx hb hts in_X8 hown hK.1 hP 7 rfl rfl 3 (by decide) (va_Nw.use rfl (hK.2.F 7 rfl)) (fun _ h9 => h9) rfl dX0_thingTold_91 ?_
          refine lv_iload_n hx hb dX0_thingTold_94 rfl (lv_at hl 1 rfl) ?_
          refine x_ialdn (k := (ix t)) hx hb hK.1 hP 10 0 rfl rfl (by omega) (by decide) (v := (r 2) (ix t)) rfl dX0_thingTold_95 ?_
          refine hret _ _ _ _ _ _ ((r 2) (ix t)) () dX0_thingTold_96 ?_ hP hD hS (Nat.le_of_ble_eq_true rfl) (Nat.le_of_ble_eq_true rfl)
          refine ⟨by rw [eS_t hw_1, eS_t hw_3], ?_⟩
          rw [e_4]
          rfl
        · skip
          refine lv_tableIn (tgt := 97) hx hb dX0_thingTold_20 (by rw [e_4]; decide) (by rw [e_4]; decide) (by rw [e_4]; rfl) (by decide) ?_
          refine lv_aload_n hx hb dX0_thingTold_97 rfl (lv_at hl 0 rfl) ?_
          refine va_get (D := G.1) (ci := 0) (v := .ref ((ad 1) 0)) (C := RX0) (T := TX0) (N := 13) hx hb hts in_X0 hown hK.1 hP 0 rfl rfl 1 (by decide) (hts _ q222) (fun _ h9 => h9) rfl dX0_thingTold_98 ?_
          refine va_getN (D := G.1) (ci := 7) (v := .ref ((ad 1) 4)) (C := RX8) (T := TX8) (N := 9) hx hb hts in_X8 hown hK.1 hP 7 rfl rfl 4 (by decide) (va_Nw.use rfl (hK.2.F 9 rfl)) (fun _ h9 => h9) rfl dX0_thingTold_101 ?_
          refine lv_iload_n hx hb dX0_thingTold_104 rfl (lv_at hl 1 rfl) ?_
          refine x_ialdn (k := (ix t)) hx hb hK.1 hP 11 0 rfl rfl (by omega) (by decide) (v := (r 3) (ix t)) rfl dX0_thingTold_105 ?_
          refine hret _ _ _ _ _ _ ((r 3) (ix t)) () dX0_thingTold_106 ?_ hP hD hS (Nat.le_of_ble_eq_true rfl) (Nat.le_of_ble_eq_true rfl)
          refine ⟨by rw [eS_t hw_1, eS_t hw_3], ?_⟩
          rw [e_4]
          rfl
        · skip
          refine lv_tableIn (tgt := 107) hx hb dX0_thingTold_20 (by rw [e_4]; decide) (by rw [e_4]; decide) (by rw [e_4]; rfl) (by decide) ?_
          refine lv_aload_n hx hb dX0_thingTold_107 rfl (lv_at hl 0 rfl) ?_
          refine va_get (D := G.1) (ci := 0) (v := .ref ((ad 1) 0)) (C := RX0) (T := TX0) (N := 13) hx hb hts in_X0 hown hK.1 hP 0 rfl rfl 1 (by decide) (hts _ q222) (fun _ h9 => h9) rfl dX0_thingTold_108 ?_
          refine va_getN (D := G.1) (ci := 7) (v := .ref ((ad 1) 5)) (C := RX8) (T := TX8) (N := 9) hx hb hts in_X8 hown hK.1 hP 7 rfl rfl 5 (by decide) (va_Nw.use rfl (hK.2.F 10 rfl)) (fun _ h9 => h9) rfl dX0_thingTold_111 ?_
          refine lv_iload_n hx hb dX0_thingTold_114 rfl (lv_at hl 1 rfl) ?_
          refine x_ialdn (k := (ix t)) hx hb hK.1 hP 12 0 rfl rfl (by omega) (by decide) (v := (r 4) (ix t)) rfl dX0_thingTold_115 ?_
          refine hret _ _ _ _ _ _ ((r 4) (ix t)) () dX0_thingTold_116 ?_ hP hD hS (Nat.le_of_ble_eq_true rfl) (Nat.le_of_ble_eq_true rfl)
          refine ⟨by rw [eS_t hw_1, eS_t hw_3], ?_⟩
          rw [e_4]
          rfl
        · skip
          refine lv_tableIn (tgt := 117) hx hb dX0_thingTold_20 (by rw [e_4]; decide) (by rw [e_4]; decide) (by rw [e_4]; rfl) (by decide) ?_
          refine lv_aload_n hx hb dX0_thingTold_117 rfl (lv_at hl 0 rfl) ?_
          refine va_get (D := G.1) (ci := 0) (v := .ref ((ad 1) 0)) (C := RX0) (T := TX0) (N := 13) hx hb hts in_X0 hown hK.1 hP 0 rfl rfl 1 (by decide) (hts _ q222) (fun _ h9 => h9) rfl dX0_thingTold_118 ?_
          refine lv_iload_n hx hb dX0_thingTold_121 rfl (lv_at hl 1 rfl) ?_
          refine x_Vi (wN := fun _ => (wX G ad ho rn ln dr ro lt rf th sb ++ wR G (ad 1) kd r ++ wR G (ad 2) k1 r1 ++ wR G (ad 3) k2 r2 ++ wK (ad 4))) ⟨C0, hK, hP, hD, hS, hA⟩ 7 rfl (ci := 7) rfl rfl ((m_habit l G (ad 1) (ad 4) kd r hr hk (ix t) hj_t)) (cwV 1 hts (lw_V q729 q639 q640 q94 q641) rfl rfl rfl (by decide +kernel) ⟨Nat.le_of_ble_eq_true rfl, Nat.le_of_ble_eq_true rfl⟩) [7, 8, 9, 10, 11, 12, 25, 26, 27, 28, 29, 30] [0, 2, 4, 6, 8, 10, 12, 1, 3, 5, 7, 9, 11, 26, 28, 30, 32, 34, 36, 38, 40, 42, 44, 46, 48, 13, 15, 17, 19, 21, 23] rfl (fun _ => rfl) rfl rfl hl.1 rfl (Nat.le_of_ble_eq_true rfl) dX0_thingTold_122 ⟨(Nat.le_of_ble_eq_true rfl), (Nat.le_of_ble_eq_true rfl)⟩ (fun r_11 u_11 H locs hw_11 hP hD hS => ?_)
          have hw_11 : (pHabit (r 0 (ix t)) (r 1 (ix t)) (decide (pSet r 1 &&& (b1 (ix t) ^^^ -1) ≠ 0)) : Int32) = r_11 := hw_11.symm
          subst hw_11
          refine hret _ _ _ _ _ _ (pHabit (r 0 (ix t)) (r 1 (ix t)) (decide (pSet r 1 &&& (b1 (ix t) ^^^ -1) ≠ 0))) () dX0_thingTold_125 ?_ hP hD hS (Nat.le_of_ble_eq_true rfl) (Nat.le_of_ble_eq_true rfl)
          refine ⟨by rw [eS_t hw_1, eS_t hw_3], ?_⟩
          rw [e_4]
          rfl
        · skip
          refine lv_tableIn (tgt := 126) hx hb dX0_thingTold_20 (by rw [e_4]; decide) (by rw [e_4]; decide) (by rw [e_4]; rfl) (by decide) ?_
          refine lv_aload_n hx hb dX0_thingTold_126 rfl (lv_at hl 0 rfl) ?_
          refine va_get (D := G.1) (ci := 0) (v := .ref ((ad 1) 0)) (C := RX0) (T := TX0) (N := 13) hx hb hts in_X0 hown hK.1 hP 0 rfl rfl 1 (by decide) (hts _ q222) (fun _ h9 => h9) rfl dX0_thingTold_127 ?_
          refine lv_iload_n hx hb dX0_thingTold_130 rfl (lv_at hl 1 rfl) ?_
          refine x_Vi (wN := fun _ => (wX G ad ho rn ln dr ro lt rf th sb ++ wR G (ad 1) kd r ++ wR G (ad 2) k1 r1 ++ wR G (ad 3) k2 r2 ++ wK (ad 4))) ⟨C0, hK, hP, hD, hS, hA⟩ 7 rfl (ci := 7) rfl rfl ((m_grip l G (ad 1) (ad 4) kd r hr hk (ix t) hj_t)) (cwV 1 hts (lw_V q730 q591 q592 q94 q593) rfl rfl rfl (by decide +kernel) ⟨Nat.le_of_ble_eq_true rfl, Nat.le_of_ble_eq_true rfl⟩) [7, 8, 9, 10, 11, 12, 25, 26, 27, 28, 29, 30] [0, 2, 4, 6, 8, 10, 12, 1, 3, 5, 7, 9, 11, 26, 28, 30, 32, 34, 36, 38, 40, 42, 44, 46, 48, 13, 15, 17, 19, 21, 23] rfl (fun _ => rfl) rfl rfl hl.1 rfl (Nat.le_of_ble_eq_true rfl) dX0_thingTold_131 ⟨(Nat.le_of_ble_eq_true rfl), (Nat.le_of_ble_eq_true rfl)⟩ (fun r_12 u_12 H locs hw_12 hP hD hS => ?_)
          have hw_12 : (pGrip (r 0 (ix t)) (r 1 (ix t)) : Int32) = r_12 := hw_12.symm
          subst hw_12
          refine hret _ _ _ _ _ _ (pGrip (r 0 (ix t)) (r 1 (ix t))) () dX0_thingTold_134 ?_ hP hD hS (Nat.le_of_ble_eq_true rfl) (Nat.le_of_ble_eq_true rfl)
          refine ⟨by rw [eS_t hw_1, eS_t hw_3], ?_⟩
          rw [e_4]
          rfl
      · skip
        refine lv_tableOut (tgt := 135) hx hb dX0_thingTold_20 e_4 (by decide) ?_
        refine lv_aload_n hx hb dX0_thingTold_135 rfl (lv_at hl 0 rfl) ?_
        refine va_get (D := G.1) (ci := 0) (v := .ref ((ad 1) 0)) (C := RX0) (T := TX0) (N := 13) hx hb hts in_X0 hown hK.1 hP 0 rfl rfl 1 (by decide) (hts _ q222) (fun _ h9 => h9) rfl dX0_thingTold_136 ?_
        refine lv_iload_n hx hb dX0_thingTold_139 rfl (lv_at hl 1 rfl) ?_
        refine x_Vi (wN := fun _ => (wX G ad ho rn ln dr ro lt rf th sb ++ wR G (ad 1) kd r ++ wR G (ad 2) k1 r1 ++ wR G (ad 3) k2 r2 ++ wK (ad 4))) ⟨C0, hK, hP, hD, hS, hA⟩ 7 rfl (ci := 7) rfl rfl ((m_isHeld l G (ad 1) (ad 4) kd r hr hk (ix t) hj_t)) (cwV 1 hts (lw_V q731 q631 q632 q94 q633) rfl rfl rfl (by decide +kernel) ⟨Nat.le_of_ble_eq_true rfl, Nat.le_of_ble_eq_true rfl⟩) [7, 8, 9, 10, 11, 12, 25, 26, 27, 28, 29, 30] [0, 2, 4, 6, 8, 10, 12, 1, 3, 5, 7, 9, 11, 26, 28, 30, 32, 34, 36, 38, 40, 42, 44, 46, 48, 13, 15, 17, 19, 21, 23] rfl (fun _ => rfl) rfl rfl hl.1 rfl (Nat.le_of_ble_eq_true rfl) dX0_thingTold_140 ⟨(Nat.le_of_ble_eq_true rfl), (Nat.le_of_ble_eq_true rfl)⟩ (fun r_13 u_13 H locs hw_13 hP hD hS => ?_)
        have hw_13 : (bI (pHeld r (ix t)) : Int32) = r_13 := hw_13.symm
        subst hw_13
        refine lv_if_eq (tgt := 150) hx hb dX0_thingTold_143 (by decide) (fun c_14 => ?_) (fun c_14 => ?_)
        · skip
          refine lv_iconst (v := 0) hx hb dX0_thingTold_150 (by decide) ?_
          refine hret _ _ _ _ _ _ 0 () dX0_thingTold_151 ?_ hP hD hS (Nat.le_of_ble_eq_true rfl) (Nat.le_of_ble_eq_true rfl)
          refine ⟨by rw [eS_t hw_1, eS_t hw_3], ?_⟩
          rw [sw7 hin7 e_4]
          exact bI_F (by have h9 := c_14; simpa [bI_0] using h9)
        · skip
          refine lv_iconst (v := 1) hx hb dX0_thingTold_146 (by decide) ?_
          refine lv_goto (tgt := 151) hx hb dX0_thingTold_147 (by decide) ?_
          refine hret _ _ _ _ _ _ 1 () dX0_thingTold_151 ?_ hP hD hS (Nat.le_of_ble_eq_true rfl) (Nat.le_of_ble_eq_true rfl)
          refine ⟨by rw [eS_t hw_1, eS_t hw_3], ?_⟩
          rw [sw7 hin7 e_4]
          exact bI_T (by have h9 := c_14; simpa [bI_0] using h9)

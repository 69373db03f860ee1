/-! the model: minutes on, falls (printed by tools/model3.py) -/
/-! the model: minutes on, falls, towers, pulls in mind -/
set_option maxRecDepth 100000
set_option maxHeartbeats 4000000 in
set_option maxRecDepth 100000 in
theorem m9_standingIn (l : Launch) (G : xG) (am : Nat → Nat) (r rm r2 r4 : Rw) (ho rn ln pl sd : Int32) (lt ro rf nb : Nat → Int32) (hr : Ok r) (hp : r 5 3 = 0) (hrm : Ok rm) : xCi l G yX9_standingIn cX9_standingIn 1 (some .int) ({ frames := 2, cells := 0, slots := 0, locals := 44 } : Room) [.ref (am 0)] (wM G am ho rn ln pl sd lt ro rf nb ++ [(am 1, .inl (G.2 0, 54, .inl (row r)))] ++ [(am 2, .inl (G.2 0, 54, .inl (row rm)))] ++ [(am 3, .inl (G.2 0, 54, .inl (row r2)))] ++ [(am 4, .inl (G.2 0, 54, .inl (row r4)))]) (S := Unit) (fun v _ => v = pStN rm) (fun _ => (wM G am ho rn ln pl sd lt ro rf nb ++ [(am 1, .inl (G.2 0, 54, .inl (row r)))] ++ [(am 2, .inl (G.2 0, 54, .inl (row rm)))] ++ [(am 3, .inl (G.2 0, 54, .inl (row r2)))] ++ [(am 4, .inl (G.2 0, 54, .inl (row r4)))])) := by
  refine x_openi (by decide) (Nat.le_of_ble_eq_true rfl) (fun _ _ _ => rfl) ?_
  intro p e s m args below meth c A Q ls C0 hK hP hD hA hl hret
  obtain ⟨hx, hb, hml, hown, hts⟩ := id C0
  have hS : va_S A s.heap s.heap [] := va_S.rf
  have hP : va_P G.1 vwCl (wM G am ho rn ln pl sd lt ro rf nb ++ [(am 1, .inl (G.2 0, 54, .inl (row r)))] ++ [(am 2, .inl (G.2 0, 54, .inl (row rm)))] ++ [(am 3, .inl (G.2 0, 54, .inl (row r2)))] ++ [(am 4, .inl (G.2 0, 54, .inl (row r4)))]) s.heap := hP
  have hD : va_D A (wM G am ho rn ln pl sd lt ro rf nb ++ [(am 1, .inl (G.2 0, 54, .inl (row r)))] ++ [(am 2, .inl (G.2 0, 54, .inl (row rm)))] ++ [(am 3, .inl (G.2 0, 54, .inl (row r2)))] ++ [(am 4, .inl (G.2 0, 54, .inl (row r4)))]) := hD
  have hl : lv_has ls 1 [(0, .ref (am 0))] := hl
  have hr0 := hr.n
  have hN := hr.le
  have hrm0 := hrm.n
  have hNm := hrm.le
  refine lv_aload_n hx hb dX9_standingIn_0 rfl (lv_at hl 0 rfl) ?_
  refine va_get (D := G.1) (ci := 8) (v := .ref (am 2)) (C := RX9) (T := TX9) (N := 13) hx hb hts in_X9 hown hK.1 hP 0 rfl rfl 1 (by decide) (hts _ q1163) (fun _ h9 => h9) rfl dX9_standingIn_1 ?_
  refine lv_iconst (v := 0) hx hb dX9_standingIn_4 (by decide) ?_
  refine x_Si (wN := fun _ => (wM G am ho rn ln pl sd lt ro rf nb ++ [(am 1, .inl (G.2 0, 54, .inl (row r)))] ++ [(am 2, .inl (G.2 0, 54, .inl (row rm)))] ++ [(am 3, .inl (G.2 0, 54, .inl (row r2)))] ++ [(am 4, .inl (G.2 0, 54, .inl (row r4)))])) ⟨C0, hK, hP, hD, hS, hA⟩ ((m9_setOf l G (am 2) rm hrm 0)) (va_cwS 2 hts (lw_S q1281 q1282 q95 q1283) rfl rfl rfl (by decide +kernel) ⟨Nat.le_of_ble_eq_true rfl, Nat.le_of_ble_eq_true rfl⟩) [6] [0, 2, 4, 6, 8, 10, 1, 14, 16] rfl (fun _ => rfl) rfl rfl hl.1 rfl (Nat.le_of_ble_eq_true rfl) dX9_standingIn_5 ⟨(Nat.le_of_ble_eq_true rfl), (Nat.le_of_ble_eq_true rfl)⟩ (fun r_1 u_1 H locs hw_1 hP hD hS => ?_)
  have hw_1 : (pSet rm 0 : Int32) = r_1 := hw_1.symm
  subst hw_1
  rw [show (pSet rm 0 : Int32) = nI (bn (pHow rm 0) (mny rm)) from (pSet_bn hNm)]
  refine x_Si (wN := fun _ => (wM G am ho rn ln pl sd lt ro rf nb ++ [(am 1, .inl (G.2 0, 54, .inl (row r)))] ++ [(am 2, .inl (G.2 0, 54, .inl (row rm)))] ++ [(am 3, .inl (G.2 0, 54, .inl (row r2)))] ++ [(am 4, .inl (G.2 0, 54, .inl (row r4)))])) ⟨C0, hK, hP, hD, hS, hA⟩ ((m9_bits l G (bn (pHow rm 0) (mny rm)) (bn_1024 hNm))) (va_cwS 1 hts (lw_S q1269 q1270 q95 q1271) rfl rfl rfl (by decide +kernel) ⟨Nat.le_of_ble_eq_true rfl, Nat.le_of_ble_eq_true rfl⟩) [] [0, 2, 4, 6, 8, 10, 12, 14, 16] rfl (fun _ => rfl) rfl rfl hl.1 rfl (Nat.le_of_ble_eq_true rfl) dX9_standingIn_8 ⟨(Nat.le_of_ble_eq_true rfl), (Nat.le_of_ble_eq_true rfl)⟩ (fun r_2 u_2 H locs hw_2 hP hD hS => ?_)
  have hw_2 : (nI (pc (bn (pHow rm 0) (mny rm))) : Int32) = r_2 := hw_2.symm
  subst hw_2
  refine hret _ _ _ _ _ _ (nI (pc (bn (pHow rm 0) (mny rm)))) () dX9_standingIn_11 ?_ hP hD hS (Nat.le_of_ble_eq_true rfl) (Nat.le_of_ble_eq_true rfl)
  exact pStN_pc hNm
set_option maxHeartbeats 4000000 in
set_option maxRecDepth 100000 in
theorem n_behind (l : Launch) (G : xG) (am : Nat → Nat) (r rm r2 r4 : Rw) (ho rn ln pl sd : Int32) (lt ro rf nb : Nat → Int32) (hr : Ok r) (hp : r 5 3 = 0) (t mi w : Int32) : xCi l G yX9_behind cX9_behind 5 (some .int) ({ frames := 6, cells := 0, slots := 0, locals := 131 } : Room) [.ref (am 0), .int t, .int mi, .int w] (wM G am ho rn ln pl sd lt ro rf nb ++ [(am 1, .inl (G.2 0, 54, .inl (row r)))] ++ [(am 2, .inl (G.2 0, 54, .inl (row rm)))] ++ [(am 3, .inl (G.2 0, 54, .inl (row r2)))] ++ [(am 4, .inl (G.2 0, 54, .inl (row r4)))]) (S := Rw) (fun v _ => v = sel (eS (tB r t) (-1) (eW (wBy mi.toInt 0 99) (eS (inR w 0 2) (-2) 0))) (pBeh r (ix t) (ix mi) w) (eS (tB r t) (-1) (eW (wBy mi.toInt 0 99) (eS (inR w 0 2) (-2) 0)))) (fun u => (wM G am ho rn ln pl sd lt ro (sel (eS (tB r t) (-1) (eW (wBy mi.toInt 0 99) (eS (inR w 0 2) (-2) 0))) rf (rfU rf (eS (tB r t) (-1) (eW (wBy mi.toInt 0 99) (eS (inR w 0 2) (-2) 0))))) nb ++ [(am 1, .inl (G.2 0, 54, .inl (row r)))] ++ [(am 2, .inl (G.2 0, 54, .inl (row u)))] ++ [(am 3, .inl (G.2 0, 54, .inl (row r2)))] ++ [(am 4, .inl (G.2 0, 54, .inl (row r4)))])) := by
  refine x_openi (by decide) (Nat.le_of_ble_eq_true rfl) (fun _ _ _ => rfl) ?_
  intro p e s m args below meth c A Q ls C0 hK hP hD hA hl hret
  obtain ⟨hx, hb, hml, hown, hts⟩ := id C0
  have hS : va_S A s.heap s.heap [] := va_S.rf
  have hP : va_P G.1 vwCl (wM G am ho rn ln pl sd lt ro rf nb ++ [(am 1, .inl (G.2 0, 54, .inl (row r)))] ++ [(am 2, .inl (G.2 0, 54, .inl (row rm)))] ++ [(am 3, .inl (G.2 0, 54, .inl (row r2)))] ++ [(am 4, .inl (G.2 0, 54, .inl (row r4)))]) s.heap := hP
  have hD : va_D A (wM G am ho rn ln pl sd lt ro rf nb ++ [(am 1, .inl (G.2 0, 54, .inl (row r)))] ++ [(am 2, .inl (G.2 0, 54, .inl (row rm)))] ++ [(am 3, .inl (G.2 0, 54, .inl (row r2)))] ++ [(am 4, .inl (G.2 0, 54, .inl (row r4)))]) := hD
  have hl : lv_has ls 5 [(0, .ref (am 0)), (1, .int t), (2, .int mi), (3, .int w)] := hl
  have hr0 := hr.n
  have hN := hr.le
  refine lv_aload_n hx hb dX9_behind_0 rfl (lv_at hl 0 rfl) ?_
  refine lv_iload_n hx hb dX9_behind_1 rfl (lv_at hl 1 rfl) ?_
  refine x_Vi (wN := fun _ => (wM G am ho rn ln pl sd lt ro rf nb ++ [(am 1, .inl (G.2 0, 54, .inl (row r)))] ++ [(am 2, .inl (G.2 0, 54, .inl (row rm)))] ++ [(am 3, .inl (G.2 0, 54, .inl (row r2)))] ++ [(am 4, .inl (G.2 0, 54, .inl (row r4)))])) ⟨C0, hK, hP, hD, hS, hA⟩ 0 rfl (ci := 8) rfl rfl ((m9_isThing l G am r rm r2 r4 ho rn ln pl sd lt ro rf nb hr hp t)) (cwV 1 hts (lw_V q1247 q1249 qs73 q95 q1250) rfl rfl rfl (by decide +kernel) ⟨Nat.le_of_ble_eq_true rfl, Nat.le_of_ble_eq_true rfl⟩) [0, 1, 2, 3, 4, 5, 6, 7, 8] [1, 3, 5, 7, 9, 11, 13, 15, 17] rfl (fun _ => rfl) rfl rfl hl.1 rfl (Nat.le_of_ble_eq_true rfl) dX9_behind_2 ⟨(Nat.le_of_ble_eq_true rfl), (Nat.le_of_ble_eq_true rfl)⟩ (fun r_1 u_1 H locs hw_1 hP hD hS => ?_)
  have hw_1 : (bI (tB r t) : Int32) = r_1 := hw_1.symm
  subst hw_1
  refine lv_if_eq (tgt := 17) hx hb dX9_behind_5 (by decide) (fun c_2 => ?_) (fun c_2 => ?_)
  · skip
    refine lv_iconst (v := (-1)) hx hb dX9_behind_17 (by decide) ?_
    refine lv_istore (lv' := [(4, .int (-1)), (0, .ref (am 0)), (1, .int t), (2, .int mi), (3, .int w)]) hx hb dX9_behind_18 hl (by decide) rfl (fun ls hl => ?_)
    refine lv_iload hx hb dX9_behind_20 (lv_at hl 0 rfl) ?_
    refine lv_if_ne (tgt := 38) hx hb dX9_behind_22 (by decide) (fun c_3 => ?_) (fun c_3 => ?_)
    · skip
      refine lv_iload hx hb dX9_behind_38 (lv_at hl 0 rfl) ?_
      refine lv_if_eq (tgt := 50) hx hb dX9_behind_40 (by decide) (fun c_4 => ?_) (fun c_4 => ?_)
      · skip
        exact absurd c_4 (by decide)
      · skip
        refine lv_aload_n hx hb dX9_behind_43 rfl (lv_at hl 1 rfl) ?_
        refine lv_iload hx hb dX9_behind_44 (lv_at hl 0 rfl) ?_
        refine x_Vi (wN := fun _ => (wM G am ho rn ln pl sd lt ro (rfU rf (-1)) nb ++ [(am 1, .inl (G.2 0, 54, .inl (row r)))] ++ [(am 2, .inl (G.2 0, 54, .inl (row rm)))] ++ [(am 3, .inl (G.2 0, 54, .inl (row r2)))] ++ [(am 4, .inl (G.2 0, 54, .inl (row r4)))])) ⟨C0, hK, hP, hD, hS, hA⟩ 0 rfl (ci := 8) rfl rfl ((m9_no l G am ho rn ln pl sd lt ro rf nb (-1) noOk_k.1)) (cwV 1 hts (lw_V q1206 q1208 qs66 q95 q1209) rfl rfl rfl (by decide +kernel) ⟨Nat.le_of_ble_eq_true rfl, Nat.le_of_ble_eq_true rfl⟩) [0, 1, 2, 3, 4] [1, 3, 5, 7, 9, 10, 12, 14, 16] rfl (fun _ => rfl) rfl rfl hl.1 rfl (Nat.le_of_ble_eq_true rfl) dX9_behind_46 ⟨(Nat.le_of_ble_eq_true rfl), (Nat.le_of_ble_eq_true rfl)⟩ (fun r_5 u_5 H locs hw_5 hP hD hS => ?_)
        have hw_5 : ((-1) : Int32) = r_5 := hw_5.symm
        subst hw_5
        have hP : va_P G.1 vwCl (wM G am ho rn ln pl sd lt ro (rfU rf (-1)) nb ++ [(am 1, .inl (G.2 0, 54, .inl (row r)))] ++ [(am 2, .inl (G.2 0, 54, .inl (row rm)))] ++ [(am 3, .inl (G.2 0, 54, .inl (row r2)))] ++ [(am 4, .inl (G.2 0, 54, .inl (row r4)))]) H := hP
        have hD : va_D A (wM G am ho rn ln pl sd lt ro (rfU rf (-1)) nb ++ [(am 1, .inl (G.2 0, 54, .inl (row r)))] ++ [(am 2, .inl (G.2 0, 54, .inl (row rm)))] ++ [(am 3, .inl (G.2 0, 54, .inl (row r2)))] ++ [(am 4, .inl (G.2 0, 54, .inl (row r4)))]) := hD
        have hE : eS (tB r t) (-1) (eW (wBy mi.toInt 0 99) (eS (inR w 0 2) (-2) 0)) = (-1) := by rw [eS_f (show tB r t = false from (by have h9 := c_2; simpa [bI_0] using h9))]
        have hne : ((-1) : Int32) ≠ 0 := (by decide)
        have hP : va_P G.1 vwCl (wM G am ho rn ln pl sd lt ro (sel (eS (tB r t) (-1) (eW (wBy mi.toInt 0 99) (eS (inR w 0 2) (-2) 0))) rf (rfU rf (eS (tB r t) (-1) (eW (wBy mi.toInt 0 99) (eS (inR w 0 2) (-2) 0))))) nb ++ [(am 1, .inl (G.2 0, 54, .inl (row r)))] ++ [(am 2, .inl (G.2 0, 54, .inl (row rm)))] ++ [(am 3, .inl (G.2 0, 54, .inl (row r2)))] ++ [(am 4, .inl (G.2 0, 54, .inl (row r4)))]) H := by rw [hE]; simp only [sel_n hne]; exact hP
        have hD : va_D A (wM G am ho rn ln pl sd lt ro (sel (eS (tB r t) (-1) (eW (wBy mi.toInt 0 99) (eS (inR w 0 2) (-2) 0))) rf (rfU rf (eS (tB r t) (-1) (eW (wBy mi.toInt 0 99) (eS (inR w 0 2) (-2) 0))))) nb ++ [(am 1, .inl (G.2 0, 54, .inl (row r)))] ++ [(am 2, .inl (G.2 0, 54, .inl (row rm)))] ++ [(am 3, .inl (G.2 0, 54, .inl (row r2)))] ++ [(am 4, .inl (G.2 0, 54, .inl (row r4)))]) := by rw [hE]; simp only [sel_n hne]; exact hD
        refine hret _ _ _ _ _ _ (-1) rm dX9_behind_49 ?_ hP hD hS (Nat.le_of_ble_eq_true rfl) (Nat.le_of_ble_eq_true rfl)
        rw [hE, sel_n hne]
    · skip
      exact absurd c_3 (by decide)
  · skip
    obtain ⟨hj_t, et_t⟩ := tB_ix hN (by first | exact bI_n0 c_2 | exact bI_0.mp c_2)
    rw [et_t] at hl
    refine lv_iload_n hx hb dX9_behind_8 rfl (lv_at hl 2 rfl) ?_
    refine lv_bipush (v := 99) hx hb dX9_behind_9 (by decide) ?_
    refine x_Si (wN := fun _ => (wM G am ho rn ln pl sd lt ro rf nb ++ [(am 1, .inl (G.2 0, 54, .inl (row r)))] ++ [(am 2, .inl (G.2 0, 54, .inl (row rm)))] ++ [(am 3, .inl (G.2 0, 54, .inl (row r2)))] ++ [(am 4, .inl (G.2 0, 54, .inl (row r4)))])) ⟨C0, hK, hP, hD, hS, hA⟩ ((m9_wrongBy l G mi 99)) (va_cwS 2 hts (lw_S q1302 q1303 q95 q1304) rfl rfl rfl (by decide +kernel) ⟨Nat.le_of_ble_eq_true rfl, Nat.le_of_ble_eq_true rfl⟩) [] [0, 2, 4, 6, 8, 10, 12, 14, 16] rfl (fun _ => rfl) rfl rfl hl.1 rfl (Nat.le_of_ble_eq_true rfl) dX9_behind_11 ⟨(Nat.le_of_ble_eq_true rfl), (Nat.le_of_ble_eq_true rfl)⟩ (fun r_6 u_6 H locs hw_6 hP hD hS => ?_)
    have hw_6 : r_6 = wBy mi.toInt 0 99 := hw_6.trans rfl
    have hw_6 : (wBy mi.toInt 0 99 : Int32) = r_6 := hw_6.symm
    subst hw_6
    refine lv_goto (tgt := 18) hx hb dX9_behind_14 (by decide) ?_
    refine lv_istore (lv' := [(4, .int (wBy mi.toInt 0 99)), (0, .ref (am 0)), (1, .int (nI (ix t))), (2, .int mi), (3, .int w)]) hx hb dX9_behind_18 hl (by decide) rfl (fun ls hl => ?_)
    refine lv_iload hx hb dX9_behind_20 (lv_at hl 0 rfl) ?_
    refine lv_if_ne (tgt := 38) hx hb dX9_behind_22 (by decide) (fun c_7 => ?_) (fun c_7 => ?_)
    · skip
      refine lv_iload hx hb dX9_behind_38 (lv_at hl 0 rfl) ?_
      refine lv_if_eq (tgt := 50) hx hb dX9_behind_40 (by decide) (fun c_8 => ?_) (fun c_8 => ?_)
      · skip
        exact absurd c_8 c_7
      · skip
        refine lv_aload_n hx hb dX9_behind_43 rfl (lv_at hl 1 rfl) ?_
        refine lv_iload hx hb dX9_behind_44 (lv_at hl 0 rfl) ?_
        refine x_Vi (wN := fun _ => (wM G am ho rn ln pl sd lt ro (rfU rf (wBy mi.toInt 0 99)) nb ++ [(am 1, .inl (G.2 0, 54, .inl (row r)))] ++ [(am 2, .inl (G.2 0, 54, .inl (row rm)))] ++ [(am 3, .inl (G.2 0, 54, .inl (row r2)))] ++ [(am 4, .inl (G.2 0, 54, .inl (row r4)))])) ⟨C0, hK, hP, hD, hS, hA⟩ 0 rfl (ci := 8) rfl rfl ((m9_no l G am ho rn ln pl sd lt ro rf nb (wBy mi.toInt 0 99) (cOk.no cOk_WW c_8))) (cwV 1 hts (lw_V q1206 q1208 qs66 q95 q1209) rfl rfl rfl (by decide +kernel) ⟨Nat.le_of_ble_eq_true rfl, Nat.le_of_ble_eq_true rfl⟩) [0, 1, 2, 3, 4] [1, 3, 5, 7, 9, 10, 12, 14, 16] rfl (fun _ => rfl) rfl rfl hl.1 rfl (Nat.le_of_ble_eq_true rfl) dX9_behind_46 ⟨(Nat.le_of_ble_eq_true rfl), (Nat.le_of_ble_eq_true rfl)⟩ (fun r_9 u_9 H locs hw_9 hP hD hS => ?_)
        have hw_9 : (wBy mi.toInt 0 99 : Int32) = r_9 := hw_9.symm
        subst hw_9
        have hP : va_P G.1 vwCl (wM G am ho rn ln pl sd lt ro (rfU rf (wBy mi.toInt 0 99)) nb ++ [(am 1, .inl (G.2 0, 54, .inl (row r)))] ++ [(am 2, .inl (G.2 0, 54, .inl (row rm)))] ++ [(am 3, .inl (G.2 0, 54, .inl (row r2)))] ++ [(am 4, .inl (G.2 0, 54, .inl (row r4)))]) H := hP
        have hD : va_D A (wM G am ho rn ln pl sd lt ro (rfU rf (wBy mi.toInt 0 99)) nb ++ [(am 1, .inl (G.2 0, 54, .inl (row r)))] ++ [(am 2, .inl (G.2 0, 54, .inl (row rm)))] ++ [(am 3, .inl (G.2 0, 54, .inl (row r2)))] ++ [(am 4, .inl (G.2 0, 54, .inl (row r4)))]) := hD
        have hE : eS (tB r t) (-1) (eW (wBy mi.toInt 0 99) (eS (inR w 0 2) (-2) 0)) = wBy mi.toInt 0 99 := by rw [eS_t (show tB r t = true from (by have h9 := c_2; simpa [bI_0] using h9)), eW_n c_7]
        have hne : (wBy mi.toInt 0 99 : Int32) ≠ 0 := c_8
        have hP : va_P G.1 vwCl (wM G am ho rn ln pl sd lt ro (sel (eS (tB r t) (-1) (eW (wBy mi.toInt 0 99) (eS (inR w 0 2) (-2) 0))) rf (rfU rf (eS (tB r t) (-1) (eW (wBy mi.toInt 0 99) (eS (inR w 0 2) (-2) 0))))) nb ++ [(am 1, .inl (G.2 0, 54, .inl (row r)))] ++ [(am 2, .inl (G.2 0, 54, .inl (row rm)))] ++ [(am 3, .inl (G.2 0, 54, .inl (row r2)))] ++ [(am 4, .inl (G.2 0, 54, .inl (row r4)))]) H := by rw [hE]; simp only [sel_n hne]; exact hP
        have hD : va_D A (wM G am ho rn ln pl sd lt ro (sel (eS (tB r t) (-1) (eW (wBy mi.toInt 0 99) (eS (inR w 0 2) (-2) 0))) rf (rfU rf (eS (tB r t) (-1) (eW (wBy mi.toInt 0 99) (eS (inR w 0 2) (-2) 0))))) nb ++ [(am 1, .inl (G.2 0, 54, .inl (row r)))] ++ [(am 2, .inl (G.2 0, 54, .inl (row rm)))] ++ [(am 3, .inl (G.2 0, 54, .inl (row r2)))] ++ [(am 4, .inl (G.2 0, 54, .inl (row r4)))]) := by rw [hE]; simp only [sel_n hne]; exact hD
        refine hret _ _ _ _ _ _ (wBy mi.toInt 0 99) rm dX9_behind_49 ?_ hP hD hS (Nat.le_of_ble_eq_true rfl) (Nat.le_of_ble_eq_true rfl)
        rw [hE, sel_n hne]
    · skip
      obtain ⟨hj_mi, et_mi⟩ := wB_ix (n := 99) (by omega) (show wBy mi.toInt 0 99 = 0 from c_7)
      rw [et_mi] at hl
      refine lv_iload_n hx hb dX9_behind_25 rfl (lv_at hl 4 rfl) ?_
      refine lv_iconst (v := 0) hx hb dX9_behind_26 (by decide) ?_
      refine lv_iconst (v := 2) hx hb dX9_behind_27 (by decide) ?_
      refine x_Si (wN := fun _ => (wM G am ho rn ln pl sd lt ro rf nb ++ [(am 1, .inl (G.2 0, 54, .inl (row r)))] ++ [(am 2, .inl (G.2 0, 54, .inl (row rm)))] ++ [(am 3, .inl (G.2 0, 54, .inl (row r2)))] ++ [(am 4, .inl (G.2 0, 54, .inl (row r4)))])) ⟨C0, hK, hP, hD, hS, hA⟩ ((m9_isIn l G w 0 2)) (va_cwS 3 hts (lw_S q1233 q1234 q95 q1235) rfl rfl rfl (by decide +kernel) ⟨Nat.le_of_ble_eq_true rfl, Nat.le_of_ble_eq_true rfl⟩) [] [0, 2, 4, 6, 8, 10, 12, 14, 16] rfl (fun _ => rfl) rfl rfl hl.1 rfl (Nat.le_of_ble_eq_true rfl) dX9_behind_28 ⟨(Nat.le_of_ble_eq_true rfl), (Nat.le_of_ble_eq_true rfl)⟩ (fun r_10 u_10 H locs hw_10 hP hD hS => ?_)
      have hw_10 : r_10 = bI (inR w 0 2) := hw_10.trans rfl
      have hw_10 : (bI (inR w 0 2) : Int32) = r_10 := hw_10.symm
      subst hw_10
      refine lv_if_ne (tgt := 38) hx hb dX9_behind_31 (by decide) (fun c_11 => ?_) (fun c_11 => ?_)
      · skip
        refine lv_iload hx hb dX9_behind_38 (lv_at hl 0 rfl) ?_
        refine lv_if_eq (tgt := 50) hx hb dX9_behind_40 (by decide) (fun c_12 => ?_) (fun c_12 => ?_)
        · skip
          refine lv_aload_n hx hb dX9_behind_50 rfl (lv_at hl 1 rfl) ?_
          refine lv_iload_n hx hb dX9_behind_51 rfl (lv_at hl 3 rfl) ?_
          refine x_Vv (wN := fun _ => (wM G am ho rn ln pl sd lt ro rf nb ++ [(am 1, .inl (G.2 0, 54, .inl (row r)))] ++ [(am 2, .inl (G.2 0, 54, .inl (row (pMins r (ix mi)))))] ++ [(am 3, .inl (G.2 0, 54, .inl (row r2)))] ++ [(am 4, .inl (G.2 0, 54, .inl (row r4)))])) ⟨C0, hK, hP, hD, hS, hA⟩ 0 rfl (ci := 8) rfl rfl ((m9_takes l G am r rm r2 r4 ho rn ln pl sd lt ro rf nb hr hp (ix mi) (by omega))) (cwV 1 hts (lw_V q1329 q1331 qs75 q95 q1332) rfl rfl rfl (by decide +kernel) ⟨Nat.le_of_ble_eq_true rfl, Nat.le_of_ble_eq_true rfl⟩) [0, 1, 2, 3, 4, 5, 6, 7, 8] [1, 3, 5, 7, 9, 11, 13, 15, 17] rfl (fun _ => rfl) rfl rfl hl.1 rfl (Nat.le_of_ble_eq_true rfl) dX9_behind_52 ⟨(Nat.le_of_ble_eq_true rfl), (Nat.le_of_ble_eq_true rfl)⟩ (fun u_13 H locs hw_13 hP hD hS => ?_)
          have hP : va_P G.1 vwCl (wM G am ho rn ln pl sd lt ro rf nb ++ [(am 1, .inl (G.2 0, 54, .inl (row r)))] ++ [(am 2, .inl (G.2 0, 54, .inl (row (pMins r (ix mi)))))] ++ [(am 3, .inl (G.2 0, 54, .inl (row r2)))] ++ [(am 4, .inl (G.2 0, 54, .inl (row r4)))]) H := hP
          have hD : va_D A (wM G am ho rn ln pl sd lt ro rf nb ++ [(am 1, .inl (G.2 0, 54, .inl (row r)))] ++ [(am 2, .inl (G.2 0, 54, .inl (row (pMins r (ix mi)))))] ++ [(am 3, .inl (G.2 0, 54, .inl (row r2)))] ++ [(am 4, .inl (G.2 0, 54, .inl (row r4)))]) := hD
          refine lv_iload_n hx hb dX9_behind_55 rfl (lv_at hl 4 rfl) ?_
          refine lv_if_ne (tgt := 72) hx hb dX9_behind_56 (by decide) (fun c_14 => ?_) (fun c_14 => ?_)
          · skip
            refine lv_iload_n hx hb dX9_behind_72 rfl (lv_at hl 4 rfl) ?_
            refine lv_iconst (v := 1) hx hb dX9_behind_73 (by decide) ?_
            refine lv_icmp_ne (tgt := 90) hx hb dX9_behind_74 (by decide) (fun c_15 => ?_) (fun c_15 => ?_)
            · skip
              refine lv_aload_n hx hb dX9_behind_90 rfl (lv_at hl 1 rfl) ?_
              refine x_Vi (wN := fun _ => (wM G am ho rn ln pl sd lt ro rf nb ++ [(am 1, .inl (G.2 0, 54, .inl (row r)))] ++ [(am 2, .inl (G.2 0, 54, .inl (row (pMins r (ix mi)))))] ++ [(am 3, .inl (G.2 0, 54, .inl (row r2)))] ++ [(am 4, .inl (G.2 0, 54, .inl (row r4)))])) ⟨C0, hK, hP, hD, hS, hA⟩ 0 rfl (ci := 8) rfl rfl ((m9_standingIn l G am r (pMins r (ix mi)) r2 r4 ho rn ln pl sd lt ro rf nb hr hp (Ok.mins hr))) (cwV 0 hts (lw_V q1333 q1335 qs76 q95 q1336) rfl rfl rfl (by decide +kernel) ⟨Nat.le_of_ble_eq_true rfl, Nat.le_of_ble_eq_true rfl⟩) [0, 1, 2, 3, 4, 5, 6, 7, 8] [1, 3, 5, 7, 9, 11, 13, 15, 17] rfl (fun _ => rfl) rfl rfl hl.1 rfl (Nat.le_of_ble_eq_true rfl) dX9_behind_91 ⟨(Nat.le_of_ble_eq_true rfl), (Nat.le_of_ble_eq_true rfl)⟩ (fun r_16 u_16 H locs hw_16 hP hD hS => ?_)
              have hw_16 : (pStN (pMins r (ix mi)) : Int32) = r_16 := hw_16.symm
              subst hw_16
              have hE : eS (tB r t) (-1) (eW (wBy mi.toInt 0 99) (eS (inR w 0 2) (-2) 0)) = 0 := by rw [eS_t (show tB r t = true from (by have h9 := c_2; simpa [bI_0] using h9)), eW_0 c_7, eS_t (show inR w 0 2 = true from (by have h9 := c_11; simpa [bI_0] using h9))]
              have hP : va_P G.1 vwCl (wM G am ho rn ln pl sd lt ro (sel (eS (tB r t) (-1) (eW (wBy mi.toInt 0 99) (eS (inR w 0 2) (-2) 0))) rf (rfU rf (eS (tB r t) (-1) (eW (wBy mi.toInt 0 99) (eS (inR w 0 2) (-2) 0))))) nb ++ [(am 1, .inl (G.2 0, 54, .inl (row r)))] ++ [(am 2, .inl (G.2 0, 54, .inl (row (pMins r (ix mi)))))] ++ [(am 3, .inl (G.2 0, 54, .inl (row r2)))] ++ [(am 4, .inl (G.2 0, 54, .inl (row r4)))]) H := by rw [hE]; simp only [sel_0 rfl]; exact hP
              have hD : va_D A (wM G am ho rn ln pl sd lt ro (sel (eS (tB r t) (-1) (eW (wBy mi.toInt 0 99) (eS (inR w 0 2) (-2) 0))) rf (rfU rf (eS (tB r t) (-1) (eW (wBy mi.toInt 0 99) (eS (inR w 0 2) (-2) 0))))) nb ++ [(am 1, .inl (G.2 0, 54, .inl (row r)))] ++ [(am 2, .inl (G.2 0, 54, .inl (row (pMins r (ix mi)))))] ++ [(am 3, .inl (G.2 0, 54, .inl (row r2)))] ++ [(am 4, .inl (G.2 0, 54, .inl (row r4)))]) := by rw [hE]; simp only [sel_0 rfl]; exact hD
              refine hret _ _ _ _ _ _ (pStN (pMins r (ix mi))) (pMins r (ix mi)) dX9_behind_94 ?_ hP hD hS (Nat.le_of_ble_eq_true rfl) (Nat.le_of_ble_eq_true rfl)
              rw [hE, sel_0 rfl]
              unfold pBeh
              rw [if_neg c_14]
              exact (if_neg c_15).symm
            · skip
              refine lv_aload_n hx hb dX9_behind_77 rfl (lv_at hl 1 rfl) ?_
              refine va_get (D := G.1) (ci := 8) (v := .ref (am 2)) (C := RX9) (T := TX9) (N := 13) hx hb hts in_X9 hown hK.1 hP 0 rfl rfl 1 (by decide) (hts _ q1163) (fun _ h9 => h9) rfl dX9_behind_78 ?_
              refine lv_iload_n hx hb dX9_behind_81 rfl (lv_at hl 2 rfl) ?_
              refine lv_iconst (v := 4) hx hb dX9_behind_82 (by decide) ?_
              refine x_Si (wN := fun _ => (wM G am ho rn ln pl sd lt ro rf nb ++ [(am 1, .inl (G.2 0, 54, .inl (row r)))] ++ [(am 2, .inl (G.2 0, 54, .inl (row (pMins r (ix mi)))))] ++ [(am 3, .inl (G.2 0, 54, .inl (row r2)))] ++ [(am 4, .inl (G.2 0, 54, .inl (row r4)))])) ⟨C0, hK, hP, hD, hS, hA⟩ ((m9_of l G (ix t) 4)) (va_cwS 2 hts (lw_S q1254 q1255 q95 q1256) rfl rfl rfl (by decide +kernel) ⟨Nat.le_of_ble_eq_true rfl, Nat.le_of_ble_eq_true rfl⟩) [] [0, 2, 4, 6, 8, 10, 12, 14, 16] rfl (fun _ => rfl) rfl rfl hl.1 rfl (Nat.le_of_ble_eq_true rfl) dX9_behind_83 ⟨(Nat.le_of_ble_eq_true rfl), (Nat.le_of_ble_eq_true rfl)⟩ (fun r_17 u_17 H locs hw_17 hP hD hS => ?_)
              have hw_17 : (nI (4 + 5 * (ix t) + 4) : Int32) = r_17 := hw_17.symm
              subst hw_17
              refine x_ialdn (k := (4 + 5 * (ix t) + 4)) hx hb hK.1 hP 6 0 rfl rfl (by omega) (by decide) (v := ((pMins r (ix mi)) 4) (ix t)) (row_at _ (by decide)) dX9_behind_86 ?_
              refine lv_goto (tgt := 94) hx hb dX9_behind_87 (by decide) ?_
              have hE : eS (tB r t) (-1) (eW (wBy mi.toInt 0 99) (eS (inR w 0 2) (-2) 0)) = 0 := by rw [eS_t (show tB r t = true from (by have h9 := c_2; simpa [bI_0] using h9)), eW_0 c_7, eS_t (show inR w 0 2 = true from (by have h9 := c_11; simpa [bI_0] using h9))]
              have hP : va_P G.1 vwCl (wM G am ho rn ln pl sd lt ro (sel (eS (tB r t) (-1) (eW (wBy mi.toInt 0 99) (eS (inR w 0 2) (-2) 0))) rf (rfU rf (eS (tB r t) (-1) (eW (wBy mi.toInt 0 99) (eS (inR w 0 2) (-2) 0))))) nb ++ [(am 1, .inl (G.2 0, 54, .inl (row r)))] ++ [(am 2, .inl (G.2 0, 54, .inl (row (pMins r (ix mi)))))] ++ [(am 3, .inl (G.2 0, 54, .inl (row r2)))] ++ [(am 4, .inl (G.2 0, 54, .inl (row r4)))]) H := by rw [hE]; simp only [sel_0 rfl]; exact hP
              have hD : va_D A (wM G am ho rn ln pl sd lt ro (sel (eS (tB r t) (-1) (eW (wBy mi.toInt 0 99) (eS (inR w 0 2) (-2) 0))) rf (rfU rf (eS (tB r t) (-1) (eW (wBy mi.toInt 0 99) (eS (inR w 0 2) (-2) 0))))) nb ++ [(am 1, .inl (G.2 0, 54, .inl (row r)))] ++ [(am 2, .inl (G.2 0, 54, .inl (row (pMins r (ix mi)))))] ++ [(am 3, .inl (G.2 0, 54, .inl (row r2)))] ++ [(am 4, .inl (G.2 0, 54, .inl (row r4)))]) := by rw [hE]; simp only [sel_0 rfl]; exact hD
              refine hret _ _ _ _ _ _ (((pMins r (ix mi)) 4) (ix t)) (pMins r (ix mi)) dX9_behind_94 ?_ hP hD hS (Nat.le_of_ble_eq_true rfl) (Nat.le_of_ble_eq_true rfl)
              rw [hE, sel_0 rfl]
              unfold pBeh
              rw [if_neg c_14]
              exact (if_pos c_15).symm
          · skip
            refine lv_aload_n hx hb dX9_behind_59 rfl (lv_at hl 1 rfl) ?_
            refine va_get (D := G.1) (ci := 8) (v := .ref (am 2)) (C := RX9) (T := TX9) (N := 13) hx hb hts in_X9 hown hK.1 hP 0 rfl rfl 1 (by decide) (hts _ q1163) (fun _ h9 => h9) rfl dX9_behind_60 ?_
            refine lv_iload_n hx hb dX9_behind_63 rfl (lv_at hl 2 rfl) ?_
            refine lv_iconst (v := 3) hx hb dX9_behind_64 (by decide) ?_
            refine x_Si (wN := fun _ => (wM G am ho rn ln pl sd lt ro rf nb ++ [(am 1, .inl (G.2 0, 54, .inl (row r)))] ++ [(am 2, .inl (G.2 0, 54, .inl (row (pMins r (ix mi)))))] ++ [(am 3, .inl (G.2 0, 54, .inl (row r2)))] ++ [(am 4, .inl (G.2 0, 54, .inl (row r4)))])) ⟨C0, hK, hP, hD, hS, hA⟩ ((m9_of l G (ix t) 3)) (va_cwS 2 hts (lw_S q1254 q1255 q95 q1256) rfl rfl rfl (by decide +kernel) ⟨Nat.le_of_ble_eq_true rfl, Nat.le_of_ble_eq_true rfl⟩) [] [0, 2, 4, 6, 8, 10, 12, 14, 16] rfl (fun _ => rfl) rfl rfl hl.1 rfl (Nat.le_of_ble_eq_true rfl) dX9_behind_65 ⟨(Nat.le_of_ble_eq_true rfl), (Nat.le_of_ble_eq_true rfl)⟩ (fun r_18 u_18 H locs hw_18 hP hD hS => ?_)
            have hw_18 : (nI (4 + 5 * (ix t) + 3) : Int32) = r_18 := hw_18.symm
            subst hw_18
            refine x_ialdn (k := (4 + 5 * (ix t) + 3)) hx hb hK.1 hP 6 0 rfl rfl (by omega) (by decide) (v := ((pMins r (ix mi)) 3) (ix t)) (row_at _ (by decide)) dX9_behind_68 ?_
            refine lv_goto (tgt := 94) hx hb dX9_behind_69 (by decide) ?_
            have hE : eS (tB r t) (-1) (eW (wBy mi.toInt 0 99) (eS (inR w 0 2) (-2) 0)) = 0 := by rw [eS_t (show tB r t = true from (by have h9 := c_2; simpa [bI_0] using h9)), eW_0 c_7, eS_t (show inR w 0 2 = true from (by have h9 := c_11; simpa [bI_0] using h9))]
            have hP : va_P G.1 vwCl (wM G am ho rn ln pl sd lt ro (sel (eS (tB r t) (-1) (eW (wBy mi.toInt 0 99) (eS (inR w 0 2) (-2) 0))) rf (rfU rf (eS (tB r t) (-1) (eW (wBy mi.toInt 0 99) (eS (inR w 0 2) (-2) 0))))) nb ++ [(am 1, .inl (G.2 0, 54, .inl (row r)))] ++ [(am 2, .inl (G.2 0, 54, .inl (row (pMins r (ix mi)))))] ++ [(am 3, .inl (G.2 0, 54, .inl (row r2)))] ++ [(am 4, .inl (G.2 0, 54, .inl (row r4)))]) H := by rw [hE]; simp only [sel_0 rfl]; exact hP
            have hD : va_D A (wM G am ho rn ln pl sd lt ro (sel (eS (tB r t) (-1) (eW (wBy mi.toInt 0 99) (eS (inR w 0 2) (-2) 0))) rf (rfU rf (eS (tB r t) (-1) (eW (wBy mi.toInt 0 99) (eS (inR w 0 2) (-2) 0))))) nb ++ [(am 1, .inl (G.2 0, 54, .inl (row r)))] ++ [(am 2, .inl (G.2 0, 54, .inl (row (pMins r (ix mi)))))] ++ [(am 3, .inl (G.2 0, 54, .inl (row r2)))] ++ [(am 4, .inl (G.2 0, 54, .inl (row r4)))]) := by rw [hE]; simp only [sel_0 rfl]; exact hD
            refine hret _ _ _ _ _ _ (((pMins r (ix mi)) 3) (ix t)) (pMins r (ix mi)) dX9_behind_94 ?_ hP hD hS (Nat.le_of_ble_eq_true rfl) (Nat.le_of_ble_eq_true rfl)
            rw [hE, sel_0 rfl]
            unfold pBeh
            exact (if_pos c_14).symm
        · skip
          exact absurd (by rw [← et_mi]; exact c_7) c_12
      · skip
        refine lv_bipush (v := (-2)) hx hb dX9_behind_34 (by decide) ?_
        refine lv_istore (lv' := [(4, .int (-2)), (0, .ref (am 0)), (1, .int (nI (ix t))), (2, .int (nI (ix mi))), (3, .int w)]) hx hb dX9_behind_36 hl (by decide) rfl (fun ls hl => ?_)
        refine lv_iload hx hb dX9_behind_38 (lv_at hl 0 rfl) ?_
        refine lv_if_eq (tgt := 50) hx hb dX9_behind_40 (by decide) (fun c_19 => ?_) (fun c_19 => ?_)
        · skip
          exact absurd c_19 (by decide)
        · skip
          refine lv_aload_n hx hb dX9_behind_43 rfl (lv_at hl 1 rfl) ?_
          refine lv_iload hx hb dX9_behind_44 (lv_at hl 0 rfl) ?_
          refine x_Vi (wN := fun _ => (wM G am ho rn ln pl sd lt ro (rfU rf (-2)) nb ++ [(am 1, .inl (G.2 0, 54, .inl (row r)))] ++ [(am 2, .inl (G.2 0, 54, .inl (row rm)))] ++ [(am 3, .inl (G.2 0, 54, .inl (row r2)))] ++ [(am 4, .inl (G.2 0, 54, .inl (row r4)))])) ⟨C0, hK, hP, hD, hS, hA⟩ 0 rfl (ci := 8) rfl rfl ((m9_no l G am ho rn ln pl sd lt ro rf nb (-2) noOk_k.2.1)) (cwV 1 hts (lw_V q1206 q1208 qs66 q95 q1209) rfl rfl rfl (by decide +kernel) ⟨Nat.le_of_ble_eq_true rfl, Nat.le_of_ble_eq_true rfl⟩) [0, 1, 2, 3, 4] [1, 3, 5, 7, 9, 10, 12, 14, 16] rfl (fun _ => rfl) rfl rfl hl.1 rfl (Nat.le_of_ble_eq_true rfl) dX9_behind_46 ⟨(Nat.le_of_ble_eq_true rfl), (Nat.le_of_ble_eq_true rfl)⟩ (fun r_20 u_20 H locs hw_20 hP hD hS => ?_)
          have hw_20 : ((-2) : Int32) = r_20 := hw_20.symm
          subst hw_20
          have hP : va_P G.1 vwCl (wM G am ho rn ln pl sd lt ro (rfU rf (-2)) nb ++ [(am 1, .inl (G.2 0, 54, .inl (row r)))] ++ [(am 2, .inl (G.2 0, 54, .inl (row rm)))] ++ [(am 3, .inl (G.2 0, 54, .inl (row r2)))] ++ [(am 4, .inl (G.2 0, 54, .inl (row r4)))]) H := hP
          have hD : va_D A (wM G am ho rn ln pl sd lt ro (rfU rf (-2)) nb ++ [(am 1, .inl (G.2 0, 54, .inl (row r)))] ++ [(am 2, .inl (G.2 0, 54, .inl (row rm)))] ++ [(am 3, .inl (G.2 0, 54, .inl (row r2)))] ++ [(am 4, .inl (G.2 0, 54, .inl (row r4)))]) := hD
          have hE : eS (tB r t) (-1) (eW (wBy mi.toInt 0 99) (eS (inR w 0 2) (-2) 0)) = (-2) := by rw [eS_t (show tB r t = true from (by have h9 := c_2; simpa [bI_0] using h9)), eW_0 c_7, eS_f (show inR w 0 2 = false from (by have h9 := c_11; simpa [bI_0] using h9))]
          have hne : ((-2) : Int32) ≠ 0 := (by decide)
          have hP : va_P G.1 vwCl (wM G am ho rn ln pl sd lt ro (sel (eS (tB r t) (-1) (eW (wBy mi.toInt 0 99) (eS (inR w 0 2) (-2) 0))) rf (rfU rf (eS (tB r t) (-1) (eW (wBy mi.toInt 0 99) (eS (inR w 0 2) (-2) 0))))) nb ++ [(am 1, .inl (G.2 0, 54, .inl (row r)))] ++ [(am 2, .inl (G.2 0, 54, .inl (row rm)))] ++ [(am 3, .inl (G.2 0, 54, .inl (row r2)))] ++ [(am 4, .inl (G.2 0, 54, .inl (row r4)))]) H := by rw [hE]; simp only [sel_n hne]; exact hP
          have hD : va_D A (wM G am ho rn ln pl sd lt ro (sel (eS (tB r t) (-1) (eW (wBy mi.toInt 0 99) (eS (inR w 0 2) (-2) 0))) rf (rfU rf (eS (tB r t) (-1) (eW (wBy mi.toInt 0 99) (eS (inR w 0 2) (-2) 0))))) nb ++ [(am 1, .inl (G.2 0, 54, .inl (row r)))] ++ [(am 2, .inl (G.2 0, 54, .inl (row rm)))] ++ [(am 3, .inl (G.2 0, 54, .inl (row r2)))] ++ [(am 4, .inl (G.2 0, 54, .inl (row r4)))]) := by rw [hE]; simp only [sel_n hne]; exact hD
          refine hret _ _ _ _ _ _ (-2) rm dX9_behind_49 ?_ hP hD hS (Nat.le_of_ble_eq_true rfl) (Nat.le_of_ble_eq_true rfl)
          rw [hE, sel_n hne]
set_option maxHeartbeats 4000000 in
set_option maxRecDepth 100000 in
theorem m9_fallsIn (l : Launch) (G : xG) (am : Nat → Nat) (r rm r2 r4 : Rw) (ho rn ln pl sd : Int32) (lt ro rf nb : Nat → Int32) (hr : Ok r) (hp : r 5 3 = 0) (hrm : Ok rm) (t : Nat) (ht : t < 10) : xCi l G yX9_fallsIn cX9_fallsIn 3 (some .int) ({ frames := 4, cells := 0, slots := 0, locals := 88 } : Room) [.ref (am 0), .int (nI t)] (wM G am ho rn ln pl sd lt ro rf nb ++ [(am 1, .inl (G.2 0, 54, .inl (row r)))] ++ [(am 2, .inl (G.2 0, 54, .inl (row rm)))] ++ [(am 3, .inl (G.2 0, 54, .inl (row r2)))] ++ [(am 4, .inl (G.2 0, 54, .inl (row r4)))]) (S := Rw) (fun v _ => v = pFls rm t) (fun u => (wM G am ho rn ln pl sd lt ro rf nb ++ [(am 1, .inl (G.2 0, 54, .inl (row r)))] ++ [(am 2, .inl (G.2 0, 54, .inl (row u)))] ++ [(am 3, .inl (G.2 0, 54, .inl (row r2)))] ++ [(am 4, .inl (G.2 0, 54, .inl (row r4)))])) := by
  refine x_openi (by decide) (Nat.le_of_ble_eq_true rfl) (fun _ _ _ => rfl) ?_
  intro p e s m args below meth c A Q ls C0 hK hP hD hA hl hret
  obtain ⟨hx, hb, hml, hown, hts⟩ := id C0
  have hS : va_S A s.heap s.heap [] := va_S.rf
  have hP : va_P G.1 vwCl (wM G am ho rn ln pl sd lt ro rf nb ++ [(am 1, .inl (G.2 0, 54, .inl (row r)))] ++ [(am 2, .inl (G.2 0, 54, .inl (row rm)))] ++ [(am 3, .inl (G.2 0, 54, .inl (row r2)))] ++ [(am 4, .inl (G.2 0, 54, .inl (row r4)))]) s.heap := hP
  have hD : va_D A (wM G am ho rn ln pl sd lt ro rf nb ++ [(am 1, .inl (G.2 0, 54, .inl (row r)))] ++ [(am 2, .inl (G.2 0, 54, .inl (row rm)))] ++ [(am 3, .inl (G.2 0, 54, .inl (row r2)))] ++ [(am 4, .inl (G.2 0, 54, .inl (row r4)))]) := hD
  have hl : lv_has ls 3 [(0, .ref (am 0)), (1, .int (nI t))] := hl
  have hr0 := hr.n
  have hN := hr.le
  have hrm0 := hrm.n
  have hNm := hrm.le
  refine lv_iconst (v := 0) hx hb dX9_fallsIn_0 (by decide) ?_
  refine lv_istore_n (lv' := [(2, .int 0), (0, .ref (am 0)), (1, .int (nI t))]) hx hb dX9_fallsIn_1 rfl hl (by decide) rfl (fun ls hl => ?_)
  have loop_2 : ∀ (n : Nat) (i : Nat), (i ≤ 100) → (100 < i + n) → (∀ j, j < i → ¬ pMins rm j 3 t = 1) → ∀ (H : Heap) (locs : List Loc) (ls : Array Slot), va_P G.1 vwCl (wM G am ho rn ln pl sd lt ro rf nb ++ [(am 1, .inl (G.2 0, 54, .inl (row r)))] ++ [(am 2, .inl (G.2 0, 54, .inl (row (pMins rm i))))] ++ [(am 3, .inl (G.2 0, 54, .inl (row r2)))] ++ [(am 4, .inl (G.2 0, 54, .inl (row r4)))]) H → va_D A (wM G am ho rn ln pl sd lt ro rf nb ++ [(am 1, .inl (G.2 0, 54, .inl (row r)))] ++ [(am 2, .inl (G.2 0, 54, .inl (row (pMins rm i))))] ++ [(am 3, .inl (G.2 0, 54, .inl (row r2)))] ++ [(am 4, .inl (G.2 0, 54, .inl (row r4)))]) → va_S A s.heap H locs → lv_has ls 3 [(2, .int (nI i)), (0, .ref (am 0)), (1, .int (nI t))] → W p l e ({ frames := 4, cells := 0, slots := 0, locals := 88 } : Room) s m args below meth c H locs 0 0 Q (F0 m 2 ls []) := by
    intro n
    induction n with
    | zero => intro i hi2_0 hi2_1 hi2_2; exact absurd hi2_1 (by omega)
    | succ n ih_2 =>
      intro i hi2_0 hi2_1 hi2_2 H locs ls hP hD hS hl
      refine lv_iload_n hx hb dX9_fallsIn_2 rfl (lv_at hl 0 rfl) ?_
      refine lv_bipush (v := 99) hx hb dX9_fallsIn_3 (by decide) ?_
      refine lv_icmp_gt (tgt := 38) hx hb dX9_fallsIn_5 (by decide) (fun c_1 => ?_) (fun c_1 => ?_)
      · skip
        have g_1 := (nI_ltI (by omega) (by omega)).mp (show nI i > nI 99 from c_1)
        refine lv_bipush (v := (-9)) hx hb dX9_fallsIn_38 (by decide) ?_
        refine hret _ _ _ _ _ _ (-9) (pMins rm i) dX9_fallsIn_40 ?_ hP hD hS (Nat.le_of_ble_eq_true rfl) (Nat.le_of_ble_eq_true rfl)
        unfold pFls
        exact (if_pos (fs_eq (by omega) (fun j hj => decide_eq_false (hi2_2 j (by omega))) (fun z => absurd z (by omega)))).symm
      · skip
        have g_1 := mt (nI_ltI (by omega) (by omega)).mpr (show ¬ (nI i > nI 99) from c_1)
        refine lv_aload_n hx hb dX9_fallsIn_8 rfl (lv_at hl 1 rfl) ?_
        refine va_get (D := G.1) (ci := 8) (v := .ref (am 2)) (C := RX9) (T := TX9) (N := 13) hx hb hts in_X9 hown hK.1 hP 0 rfl rfl 1 (by decide) (hts _ q1163) (fun _ h9 => h9) rfl dX9_fallsIn_9 ?_
        refine lv_iload_n hx hb dX9_fallsIn_12 rfl (lv_at hl 2 rfl) ?_
        refine lv_iconst (v := 3) hx hb dX9_fallsIn_13 (by decide) ?_
        refine x_Si (wN := fun _ => (wM G am ho rn ln pl sd lt ro rf nb ++ [(am 1, .inl (G.2 0, 54, .inl (row r)))] ++ [(am 2, .inl (G.2 0, 54, .inl (row (pMins rm i))))] ++ [(am 3, .inl (G.2 0, 54, .inl (row r2)))] ++ [(am 4, .inl (G.2 0, 54, .inl (row r4)))])) ⟨C0, hK, hP, hD, hS, hA⟩ ((m9_of l G t 3)) (va_cwS 2 hts (lw_S q1254 q1255 q95 q1256) rfl rfl rfl (by decide +kernel) ⟨Nat.le_of_ble_eq_true rfl, Nat.le_of_ble_eq_true rfl⟩) [] [0, 2, 4, 6, 8, 10, 12, 14, 16] rfl (fun _ => rfl) rfl rfl hl.1 rfl (Nat.le_of_ble_eq_true rfl) dX9_fallsIn_14 ⟨(Nat.le_of_ble_eq_true rfl), (Nat.le_of_ble_eq_true rfl)⟩ (fun r_2 u_2 H locs hw_2 hP hD hS => ?_)
        have hw_2 : (nI (4 + 5 * t + 3) : Int32) = r_2 := hw_2.symm
        subst hw_2
        refine x_ialdn (k := (4 + 5 * t + 3)) hx hb hK.1 hP 6 0 rfl rfl (by omega) (by decide) (v := ((pMins rm i) 3) t) (row_at _ (by decide)) dX9_fallsIn_17 ?_
        refine lv_iconst (v := 1) hx hb dX9_fallsIn_18 (by decide) ?_
        refine lv_icmp_ne (tgt := 24) hx hb dX9_fallsIn_19 (by decide) (fun c_3 => ?_) (fun c_3 => ?_)
        · skip
          refine lv_aload_n hx hb dX9_fallsIn_24 rfl (lv_at hl 1 rfl) ?_
          refine va_get (D := G.1) (ci := 8) (v := .ref (am 2)) (C := RX9) (T := TX9) (N := 13) hx hb hts in_X9 hown hK.1 hP 0 rfl rfl 1 (by decide) (hts _ q1163) (fun _ h9 => h9) rfl dX9_fallsIn_25 ?_
          refine lv_iconst (v := 0) hx hb dX9_fallsIn_28 (by decide) ?_
          refine x_Sv (wN := fun _ => (wM G am ho rn ln pl sd lt ro rf nb ++ [(am 1, .inl (G.2 0, 54, .inl (row r)))] ++ [(am 2, .inl (G.2 0, 54, .inl (row (pMin (pMins rm i) 0))))] ++ [(am 3, .inl (G.2 0, 54, .inl (row r2)))] ++ [(am 4, .inl (G.2 0, 54, .inl (row r4)))])) ⟨C0, hK, hP, hD, hS, hA⟩ ((m9_minute l G (am 2) (pMins rm i) (hrm.mins) 0)) (va_cwS 2 hts (lw_S q1275 q1276 q95 q1277) rfl rfl rfl (by decide +kernel) ⟨Nat.le_of_ble_eq_true rfl, Nat.le_of_ble_eq_true rfl⟩) [6] [0, 2, 4, 6, 8, 10, 1, 14, 16] rfl (fun _ => rfl) rfl rfl hl.1 rfl (Nat.le_of_ble_eq_true rfl) dX9_fallsIn_29 ⟨(Nat.le_of_ble_eq_true rfl), (Nat.le_of_ble_eq_true rfl)⟩ (fun u_4 H locs hw_4 hP hD hS => ?_)
          have hP : va_P G.1 vwCl (wM G am ho rn ln pl sd lt ro rf nb ++ [(am 1, .inl (G.2 0, 54, .inl (row r)))] ++ [(am 2, .inl (G.2 0, 54, .inl (row (pMin (pMins rm i) 0))))] ++ [(am 3, .inl (G.2 0, 54, .inl (row r2)))] ++ [(am 4, .inl (G.2 0, 54, .inl (row r4)))]) H := hP
          have hD : va_D A (wM G am ho rn ln pl sd lt ro rf nb ++ [(am 1, .inl (G.2 0, 54, .inl (row r)))] ++ [(am 2, .inl (G.2 0, 54, .inl (row (pMin (pMins rm i) 0))))] ++ [(am 3, .inl (G.2 0, 54, .inl (row r2)))] ++ [(am 4, .inl (G.2 0, 54, .inl (row r4)))]) := hD
          refine lv_iinc (v := nI (i + 1)) (lv' := [(2, .int (nI (i + 1))), (0, .ref (am 0)), (1, .int (nI t))]) hx hb dX9_fallsIn_32 hl (k := 0) rfl (x_inc1 _) (by decide) rfl (fun ls hl => ?_)
          refine lv_goto (tgt := 2) hx hb dX9_fallsIn_35 (by decide) ?_
          exact ih_2 (i + 1) (by omega) (by omega) (fun j hj => if q : j = i then q ▸ c_3 else hi2_2 j (by omega)) _ _ _ hP hD hS (lv_sub hl [0, 1, 2] rfl)
        · skip
          refine lv_iload_n hx hb dX9_fallsIn_22 rfl (lv_at hl 0 rfl) ?_
          refine hret _ _ _ _ _ _ (nI i) (pMins rm i) dX9_fallsIn_23 ?_ hP hD hS (Nat.le_of_ble_eq_true rfl) (Nat.le_of_ble_eq_true rfl)
          have e9 : pFallIn rm t = i := fs_eq (by omega) (fun j hj => decide_eq_false (hi2_2 j hj)) (fun _ => decide_eq_true c_3)
          unfold pFls
          rw [e9, if_neg (by omega)]
  exact loop_2 101 0 (by omega) (by omega) (fun j hj => absurd hj (Nat.not_lt_zero j)) _ _ _ hP hD hS (lv_sub hl [0, 1, 2] rfl)
set_option maxHeartbeats 4000000 in
set_option maxRecDepth 100000 in
theorem m9_fallsOf (l : Launch) (G : xG) (am : Nat → Nat) (r rm r2 r4 : Rw) (ho rn ln pl sd : Int32) (lt ro rf nb : Nat → Int32) (hr : Ok r) (hp : r 5 3 = 0) (t : Nat) (ht : t < 10) : xCi l G yX9_fallsOf cX9_fallsOf 2 (some .int) ({ frames := 5, cells := 0, slots := 0, locals := 110 } : Room) [.ref (am 0), .int (nI t)] (wM G am ho rn ln pl sd lt ro rf nb ++ [(am 1, .inl (G.2 0, 54, .inl (row r)))] ++ [(am 2, .inl (G.2 0, 54, .inl (row rm)))] ++ [(am 3, .inl (G.2 0, 54, .inl (row r2)))] ++ [(am 4, .inl (G.2 0, 54, .inl (row r4)))]) (S := Rw) (fun v _ => v = pFls r t) (fun u => (wM G am ho rn ln pl sd lt ro rf nb ++ [(am 1, .inl (G.2 0, 54, .inl (row r)))] ++ [(am 2, .inl (G.2 0, 54, .inl (row u)))] ++ [(am 3, .inl (G.2 0, 54, .inl (row r2)))] ++ [(am 4, .inl (G.2 0, 54, .inl (row r4)))])) := by
  refine x_openi (by decide) (Nat.le_of_ble_eq_true rfl) (fun _ _ _ => rfl) ?_
  intro p e s m args below meth c A Q ls C0 hK hP hD hA hl hret
  obtain ⟨hx, hb, hml, hown, hts⟩ := id C0
  have hS : va_S A s.heap s.heap [] := va_S.rf
  have hP : va_P G.1 vwCl (wM G am ho rn ln pl sd lt ro rf nb ++ [(am 1, .inl (G.2 0, 54, .inl (row r)))] ++ [(am 2, .inl (G.2 0, 54, .inl (row rm)))] ++ [(am 3, .inl (G.2 0, 54, .inl (row r2)))] ++ [(am 4, .inl (G.2 0, 54, .inl (row r4)))]) s.heap := hP
  have hD : va_D A (wM G am ho rn ln pl sd lt ro rf nb ++ [(am 1, .inl (G.2 0, 54, .inl (row r)))] ++ [(am 2, .inl (G.2 0, 54, .inl (row rm)))] ++ [(am 3, .inl (G.2 0, 54, .inl (row r2)))] ++ [(am 4, .inl (G.2 0, 54, .inl (row r4)))]) := hD
  have hl : lv_has ls 2 [(0, .ref (am 0)), (1, .int (nI t))] := hl
  have hr0 := hr.n
  have hN := hr.le
  refine lv_aload_n hx hb dX9_fallsOf_0 rfl (lv_at hl 0 rfl) ?_
  refine va_get (D := G.1) (ci := 8) (v := .ref (am 1)) (C := RX9) (T := TX9) (N := 13) hx hb hts in_X9 hown hK.1 hP 0 rfl rfl 0 (by decide) (hts _ q1162) (fun _ h9 => h9) rfl dX9_fallsOf_1 ?_
  refine lv_aload_n hx hb dX9_fallsOf_4 rfl (lv_at hl 0 rfl) ?_
  refine va_get (D := G.1) (ci := 8) (v := .ref (am 2)) (C := RX9) (T := TX9) (N := 13) hx hb hts in_X9 hown hK.1 hP 0 rfl rfl 1 (by decide) (hts _ q1163) (fun _ h9 => h9) rfl dX9_fallsOf_5 ?_
  refine x_Sv (wN := fun _ => (wM G am ho rn ln pl sd lt ro rf nb ++ [(am 1, .inl (G.2 0, 54, .inl (row r)))] ++ [(am 2, .inl (G.2 0, 54, .inl (row r)))] ++ [(am 3, .inl (G.2 0, 54, .inl (row r2)))] ++ [(am 4, .inl (G.2 0, 54, .inl (row r4)))])) ⟨C0, hK, hP, hD, hS, hA⟩ ((m9_copies l G (am 1) (am 2) (row r) (row rm))) (va_cwS 2 hts (lw_S q1236 q1237 q95 q1238) rfl rfl rfl (by decide +kernel) ⟨Nat.le_of_ble_eq_true rfl, Nat.le_of_ble_eq_true rfl⟩) [5, 6] [0, 2, 4, 6, 8, 1, 3, 14, 16] rfl (fun _ => rfl) rfl rfl hl.1 rfl (Nat.le_of_ble_eq_true rfl) dX9_fallsOf_8 ⟨(Nat.le_of_ble_eq_true rfl), (Nat.le_of_ble_eq_true rfl)⟩ (fun u_1 H locs hw_1 hP hD hS => ?_)
  have hP : va_P G.1 vwCl (wM G am ho rn ln pl sd lt ro rf nb ++ [(am 1, .inl (G.2 0, 54, .inl (row r)))] ++ [(am 2, .inl (G.2 0, 54, .inl (row r)))] ++ [(am 3, .inl (G.2 0, 54, .inl (row r2)))] ++ [(am 4, .inl (G.2 0, 54, .inl (row r4)))]) H := hP
  have hD : va_D A (wM G am ho rn ln pl sd lt ro rf nb ++ [(am 1, .inl (G.2 0, 54, .inl (row r)))] ++ [(am 2, .inl (G.2 0, 54, .inl (row r)))] ++ [(am 3, .inl (G.2 0, 54, .inl (row r2)))] ++ [(am 4, .inl (G.2 0, 54, .inl (row r4)))]) := hD
  refine lv_aload_n hx hb dX9_fallsOf_11 rfl (lv_at hl 0 rfl) ?_
  refine lv_iload_n hx hb dX9_fallsOf_12 rfl (lv_at hl 1 rfl) ?_
  refine x_Vi (wN := fun u_2 => (wM G am ho rn ln pl sd lt ro rf nb ++ [(am 1, .inl (G.2 0, 54, .inl (row r)))] ++ [(am 2, .inl (G.2 0, 54, .inl (row u_2)))] ++ [(am 3, .inl (G.2 0, 54, .inl (row r2)))] ++ [(am 4, .inl (G.2 0, 54, .inl (row r4)))])) ⟨C0, hK, hP, hD, hS, hA⟩ 0 rfl (ci := 8) rfl rfl ((m9_fallsIn l G am r r r2 r4 ho rn ln pl sd lt ro rf nb hr hp hr t ht)) (cwV 1 hts (lw_V q1345 q1347 qs78 q95 q1348) rfl rfl rfl (by decide +kernel) ⟨Nat.le_of_ble_eq_true rfl, Nat.le_of_ble_eq_true rfl⟩) [0, 1, 2, 3, 4, 5, 6, 7, 8] [1, 3, 5, 7, 9, 11, 13, 15, 17] rfl (fun _ => rfl) rfl rfl hl.1 rfl (Nat.le_of_ble_eq_true rfl) dX9_fallsOf_13 ⟨(Nat.le_of_ble_eq_true rfl), (Nat.le_of_ble_eq_true rfl)⟩ (fun r_2 u_2 H locs hw_2 hP hD hS => ?_)
  have hw_2 : (pFls r t : Int32) = r_2 := hw_2.symm
  subst hw_2
  have hP : va_P G.1 vwCl (wM G am ho rn ln pl sd lt ro rf nb ++ [(am 1, .inl (G.2 0, 54, .inl (row r)))] ++ [(am 2, .inl (G.2 0, 54, .inl (row u_2)))] ++ [(am 3, .inl (G.2 0, 54, .inl (row r2)))] ++ [(am 4, .inl (G.2 0, 54, .inl (row r4)))]) H := hP
  have hD : va_D A (wM G am ho rn ln pl sd lt ro rf nb ++ [(am 1, .inl (G.2 0, 54, .inl (row r)))] ++ [(am 2, .inl (G.2 0, 54, .inl (row u_2)))] ++ [(am 3, .inl (G.2 0, 54, .inl (row r2)))] ++ [(am 4, .inl (G.2 0, 54, .inl (row r4)))]) := hD
  refine hret _ _ _ _ _ _ (pFls r t) u_2 dX9_fallsOf_16 ?_ hP hD hS (Nat.le_of_ble_eq_true rfl) (Nat.le_of_ble_eq_true rfl)
  rfl
set_option maxHeartbeats 4000000 in
set_option maxRecDepth 100000 in
theorem n_falls (l : Launch) (G : xG) (am : Nat → Nat) (r rm r2 r4 : Rw) (ho rn ln pl sd : Int32) (lt ro rf nb : Nat → Int32) (hr : Ok r) (hp : r 5 3 = 0) (t : Int32) : xCi l G yX9_falls cX9_falls 2 (some .int) ({ frames := 6, cells := 0, slots := 0, locals := 131 } : Room) [.ref (am 0), .int t] (wM G am ho rn ln pl sd lt ro rf nb ++ [(am 1, .inl (G.2 0, 54, .inl (row r)))] ++ [(am 2, .inl (G.2 0, 54, .inl (row rm)))] ++ [(am 3, .inl (G.2 0, 54, .inl (row r2)))] ++ [(am 4, .inl (G.2 0, 54, .inl (row r4)))]) (S := Rw) (fun v _ => v = sel (eS (tB r t) (-1) 0) (pFls r (ix t)) (eS (tB r t) (-1) 0)) (fun u => (wM G am ho rn ln pl sd lt ro (sel (eS (tB r t) (-1) 0) rf (rfU rf (eS (tB r t) (-1) 0))) nb ++ [(am 1, .inl (G.2 0, 54, .inl (row r)))] ++ [(am 2, .inl (G.2 0, 54, .inl (row u)))] ++ [(am 3, .inl (G.2 0, 54, .inl (row r2)))] ++ [(am 4, .inl (G.2 0, 54, .inl (row r4)))])) := by
  refine x_openi (by decide) (Nat.le_of_ble_eq_true rfl) (fun _ _ _ => rfl) ?_
  intro p e s m args below meth c A Q ls C0 hK hP hD hA hl hret
  obtain ⟨hx, hb, hml, hown, hts⟩ := id C0
  have hS : va_S A s.heap s.heap [] := va_S.rf
  have hP : va_P G.1 vwCl (wM G am ho rn ln pl sd lt ro rf nb ++ [(am 1, .inl (G.2 0, 54, .inl (row r)))] ++ [(am 2, .inl (G.2 0, 54, .inl (row rm)))] ++ [(am 3, .inl (G.2 0, 54, .inl (row r2)))] ++ [(am 4, .inl (G.2 0, 54, .inl (row r4)))]) s.heap := hP
  have hD : va_D A (wM G am ho rn ln pl sd lt ro rf nb ++ [(am 1, .inl (G.2 0, 54, .inl (row r)))] ++ [(am 2, .inl (G.2 0, 54, .inl (row rm)))] ++ [(am 3, .inl (G.2 0, 54, .inl (row r2)))] ++ [(am 4, .inl (G.2 0, 54, .inl (row r4)))]) := hD
  have hl : lv_has ls 2 [(0, .ref (am 0)), (1, .int t)] := hl
  have hr0 := hr.n
  have hN := hr.le
  refine lv_aload_n hx hb dX9_falls_0 rfl (lv_at hl 0 rfl) ?_
  refine lv_iload_n hx hb dX9_falls_1 rfl (lv_at hl 1 rfl) ?_
  refine x_Vi (wN := fun _ => (wM G am ho rn ln pl sd lt ro rf nb ++ [(am 1, .inl (G.2 0, 54, .inl (row r)))] ++ [(am 2, .inl (G.2 0, 54, .inl (row rm)))] ++ [(am 3, .inl (G.2 0, 54, .inl (row r2)))] ++ [(am 4, .inl (G.2 0, 54, .inl (row r4)))])) ⟨C0, hK, hP, hD, hS, hA⟩ 0 rfl (ci := 8) rfl rfl ((m9_isThing l G am r rm r2 r4 ho rn ln pl sd lt ro rf nb hr hp t)) (cwV 1 hts (lw_V q1247 q1249 qs73 q95 q1250) rfl rfl rfl (by decide +kernel) ⟨Nat.le_of_ble_eq_true rfl, Nat.le_of_ble_eq_true rfl⟩) [0, 1, 2, 3, 4, 5, 6, 7, 8] [1, 3, 5, 7, 9, 11, 13, 15, 17] rfl (fun _ => rfl) rfl rfl hl.1 rfl (Nat.le_of_ble_eq_true rfl) dX9_falls_2 ⟨(Nat.le_of_ble_eq_true rfl), (Nat.le_of_ble_eq_true rfl)⟩ (fun r_1 u_1 H locs hw_1 hP hD hS => ?_)
  have hw_1 : (bI (tB r t) : Int32) = r_1 := hw_1.symm
  subst hw_1
  refine lv_if_eq (tgt := 16) hx hb dX9_falls_5 (by decide) (fun c_2 => ?_) (fun c_2 => ?_)
  · skip
    refine lv_aload_n hx hb dX9_falls_16 rfl (lv_at hl 0 rfl) ?_
    refine lv_iconst (v := (-1)) hx hb dX9_falls_17 (by decide) ?_
    refine x_Vi (wN := fun _ => (wM G am ho rn ln pl sd lt ro (rfU rf (-1)) nb ++ [(am 1, .inl (G.2 0, 54, .inl (row r)))] ++ [(am 2, .inl (G.2 0, 54, .inl (row rm)))] ++ [(am 3, .inl (G.2 0, 54, .inl (row r2)))] ++ [(am 4, .inl (G.2 0, 54, .inl (row r4)))])) ⟨C0, hK, hP, hD, hS, hA⟩ 0 rfl (ci := 8) rfl rfl ((m9_no l G am ho rn ln pl sd lt ro rf nb (-1) noOk_k.1)) (cwV 1 hts (lw_V q1206 q1208 qs66 q95 q1209) rfl rfl rfl (by decide +kernel) ⟨Nat.le_of_ble_eq_true rfl, Nat.le_of_ble_eq_true rfl⟩) [0, 1, 2, 3, 4] [1, 3, 5, 7, 9, 10, 12, 14, 16] rfl (fun _ => rfl) rfl rfl hl.1 rfl (Nat.le_of_ble_eq_true rfl) dX9_falls_18 ⟨(Nat.le_of_ble_eq_true rfl), (Nat.le_of_ble_eq_true rfl)⟩ (fun r_3 u_3 H locs hw_3 hP hD hS => ?_)
    have hw_3 : ((-1) : Int32) = r_3 := hw_3.symm
    subst hw_3
    have hP : va_P G.1 vwCl (wM G am ho rn ln pl sd lt ro (rfU rf (-1)) nb ++ [(am 1, .inl (G.2 0, 54, .inl (row r)))] ++ [(am 2, .inl (G.2 0, 54, .inl (row rm)))] ++ [(am 3, .inl (G.2 0, 54, .inl (row r2)))] ++ [(am 4, .inl (G.2 0, 54, .inl (row r4)))]) H := hP
    have hD : va_D A (wM G am ho rn ln pl sd lt ro (rfU rf (-1)) nb ++ [(am 1, .inl (G.2 0, 54, .inl (row r)))] ++ [(am 2, .inl (G.2 0, 54, .inl (row rm)))] ++ [(am 3, .inl (G.2 0, 54, .inl (row r2)))] ++ [(am 4, .inl (G.2 0, 54, .inl (row r4)))]) := hD
    have hE : eS (tB r t) (-1) 0 = (-1) := by rw [eS_f (show tB r t = false from (by have h9 := c_2; simpa [bI_0] using h9))]
    have hne : ((-1) : Int32) ≠ 0 := (by decide)
    have hP : va_P G.1 vwCl (wM G am ho rn ln pl sd lt ro (sel (eS (tB r t) (-1) 0) rf (rfU rf (eS (tB r t) (-1) 0))) nb ++ [(am 1, .inl (G.2 0, 54, .inl (row r)))] ++ [(am 2, .inl (G.2 0, 54, .inl (row rm)))] ++ [(am 3, .inl (G.2 0, 54, .inl (row r2)))] ++ [(am 4, .inl (G.2 0, 54, .inl (row r4)))]) H := by rw [hE]; simp only [sel_n hne]; exact hP
    have hD : va_D A (wM G am ho rn ln pl sd lt ro (sel (eS (tB r t) (-1) 0) rf (rfU rf (eS (tB r t) (-1) 0))) nb ++ [(am 1, .inl (G.2 0, 54, .inl (row r)))] ++ [(am 2, .inl (G.2 0, 54, .inl (row rm)))] ++ [(am 3, .inl (G.2 0, 54, .inl (row r2)))] ++ [(am 4, .inl (G.2 0, 54, .inl (row r4)))]) := by rw [hE]; simp only [sel_n hne]; exact hD
    refine hret _ _ _ _ _ _ (-1) rm dX9_falls_21 ?_ hP hD hS (Nat.le_of_ble_eq_true rfl) (Nat.le_of_ble_eq_true rfl)
    rw [hE, sel_n hne]
  · skip
    obtain ⟨hj_t, et_t⟩ := tB_ix hN (by first | exact bI_n0 c_2 | exact bI_0.mp c_2)
    rw [et_t] at hl
    refine lv_aload_n hx hb dX9_falls_8 rfl (lv_at hl 0 rfl) ?_
    refine lv_iload_n hx hb dX9_falls_9 rfl (lv_at hl 1 rfl) ?_
    refine x_Vi (wN := fun u_4 => (wM G am ho rn ln pl sd lt ro rf nb ++ [(am 1, .inl (G.2 0, 54, .inl (row r)))] ++ [(am 2, .inl (G.2 0, 54, .inl (row u_4)))] ++ [(am 3, .inl (G.2 0, 54, .inl (row r2)))] ++ [(am 4, .inl (G.2 0, 54, .inl (row r4)))])) ⟨C0, hK, hP, hD, hS, hA⟩ 0 rfl (ci := 8) rfl rfl ((m9_fallsOf l G am r rm r2 r4 ho rn ln pl sd lt ro rf nb hr hp (ix t) (by omega))) (cwV 1 hts (lw_V q1341 q1343 qs77 q95 q1344) rfl rfl rfl (by decide +kernel) ⟨Nat.le_of_ble_eq_true rfl, Nat.le_of_ble_eq_true rfl⟩) [0, 1, 2, 3, 4, 5, 6, 7, 8] [1, 3, 5, 7, 9, 11, 13, 15, 17] rfl (fun _ => rfl) rfl rfl hl.1 rfl (Nat.le_of_ble_eq_true rfl) dX9_falls_10 ⟨(Nat.le_of_ble_eq_true rfl), (Nat.le_of_ble_eq_true rfl)⟩ (fun r_4 u_4 H locs hw_4 hP hD hS => ?_)
    have hw_4 : (pFls r (ix t) : Int32) = r_4 := hw_4.symm
    subst hw_4
    have hP : va_P G.1 vwCl (wM G am ho rn ln pl sd lt ro rf nb ++ [(am 1, .inl (G.2 0, 54, .inl (row r)))] ++ [(am 2, .inl (G.2 0, 54, .inl (row u_4)))] ++ [(am 3, .inl (G.2 0, 54, .inl (row r2)))] ++ [(am 4, .inl (G.2 0, 54, .inl (row r4)))]) H := hP
    have hD : va_D A (wM G am ho rn ln pl sd lt ro rf nb ++ [(am 1, .inl (G.2 0, 54, .inl (row r)))] ++ [(am 2, .inl (G.2 0, 54, .inl (row u_4)))] ++ [(am 3, .inl (G.2 0, 54, .inl (row r2)))] ++ [(am 4, .inl (G.2 0, 54, .inl (row r4)))]) := hD
    refine lv_goto (tgt := 21) hx hb dX9_falls_13 (by decide) ?_
    have hE : eS (tB r t) (-1) 0 = 0 := by rw [eS_t (show tB r t = true from (by have h9 := c_2; simpa [bI_0] using h9))]
    have hP : va_P G.1 vwCl (wM G am ho rn ln pl sd lt ro (sel (eS (tB r t) (-1) 0) rf (rfU rf (eS (tB r t) (-1) 0))) nb ++ [(am 1, .inl (G.2 0, 54, .inl (row r)))] ++ [(am 2, .inl (G.2 0, 54, .inl (row u_4)))] ++ [(am 3, .inl (G.2 0, 54, .inl (row r2)))] ++ [(am 4, .inl (G.2 0, 54, .inl (row r4)))]) H := by rw [hE]; simp only [sel_0 rfl]; exact hP
    have hD : va_D A (wM G am ho rn ln pl sd lt ro (sel (eS (tB r t) (-1) 0) rf (rfU rf (eS (tB r t) (-1) 0))) nb ++ [(am 1, .inl (G.2 0, 54, .inl (row r)))] ++ [(am 2, .inl (G.2 0, 54, .inl (row u_4)))] ++ [(am 3, .inl (G.2 0, 54, .inl (row r2)))] ++ [(am 4, .inl (G.2 0, 54, .inl (row r4)))]) := by rw [hE]; simp only [sel_0 rfl]; exact hD
    refine hret _ _ _ _ _ _ (pFls r (ix t)) u_4 dX9_falls_21 ?_ hP hD hS (Nat.le_of_ble_eq_true rfl) (Nat.le_of_ble_eq_true rfl)
    rw [hE, sel_0 rfl]
/-- the thing that falls first, and when: of those below i -/
def fM (r : Rw) : Nat → Int32 × Int32
  | 0 => (-9, 1000000000)
  | i + 1 => if pSt r i = true ∧ ¬ pFls r i < 0 ∧ pFls r i < (fM r i).2 then (nI i, pFls r i) else fM r i
theorem fM_y {r : Rw} {i : Nat} (h1 : pSt r i = true) (h2 : ¬ pFls r i < 0) (h3 : pFls r i < (fM r i).2) : fM r (i + 1) = (nI i, pFls r i) := if_pos ⟨h1, h2, h3⟩
theorem fM_n {r : Rw} {i : Nat} (h : ¬ (pSt r i = true ∧ ¬ pFls r i < 0 ∧ pFls r i < (fM r i).2)) : fM r (i + 1) = fM r i := if_neg h
/-- the falling number, plainly -/
theorem pFls_c (r : Rw) (t : Nat) : (pFallIn r t = 100 ∧ pFls r t = -9) ∨ (pFallIn r t < 100 ∧ pFls r t = nI (pFallIn r t)) := by
  have h := fs_le (fun n => decide (pMins r n 3 t = 1)) 100
  have h : pFallIn r t ≤ 100 := h
  unfold pFls
  by_cases e : pFallIn r t = 100
  · left; exact ⟨e, if_pos e⟩
  · right; exact ⟨by omega, if_neg e⟩
theorem pLow (r : Rw) (n t : Nat) : pNow r n t = (decide (pMins r n 3 t = 1) && pSt r t) := rfl
/-- who falls at minute n, of those that stand now -/
def fA (r : Rw) (n t : Nat) : Bool := pSt r t && decide (pFallIn r t ≤ n)
theorem pMin_3 {r : Rw} {d : Int32} {t : Nat} (h : r 3 t = 1) : pMin r d 3 t = 1 := by
  show (if (decide (t < mny r) && pDrop r d t) = true then (1 : Int32) else r 3 t) = 1
  split
  · rfl
  · exact h
theorem pMins_st {r : Rw} {t : Nat} : ∀ (n k : Nat), pMins r n 3 t = 1 → pMins r (n + k) 3 t = 1
  | _, 0, h => h
  | n, k + 1, h => pMin_3 (pMins_st n k h)
theorem pFI_iff {r : Rw} {t n : Nat} (hn : n < 100) : pMins r n 3 t = 1 ↔ pFallIn r t ≤ n := by
  obtain ⟨a1, a2⟩ := fs_spec (fun n => decide (pMins r n 3 t = 1)) 100
  constructor
  · intro h
    rcases Nat.lt_or_ge n (pFallIn r t) with q | q
    · have := of_decide_eq_false (a1 n q)
      exact absurd h this
    · exact q
  · intro h
    have h1 := of_decide_eq_true (a2 (show pFallIn r t < 100 by omega))
    have h2 := pMins_st (pFallIn r t) (n - pFallIn r t) h1
    rw [show pFallIn r t + (n - pFallIn r t) = n by omega] at h2
    exact h2
theorem pNow_iff {r : Rw} {t n : Nat} (hn : n < 100) : pNow r n t = true ↔ pSt r t = true ∧ pFallIn r t ≤ n := by
  rw [pLow, Bool.and_eq_true, decide_eq_true_iff, pFI_iff hn]
  exact And.comm
/-- what fM holds -/
theorem fM_is {r : Rw} (hN : mny r ≤ 10) : ∀ i, i ≤ mny r → (fM r i = (-9, 1000000000) ∧ ∀ t, t < i → ¬ (pSt r t = true ∧ pFallIn r t < 100)) ∨ (∃ t, t < i ∧ pSt r t = true ∧ pFallIn r t < 100 ∧ fM r i = (nI t, nI (pFallIn r t)) ∧ ∀ j, j < i → pSt r j = true → pFallIn r t < pFallIn r j ∨ (pFallIn r t = pFallIn r j ∧ t ≤ j))
  | 0, _ => Or.inl ⟨rfl, fun t h => absurd h (Nat.not_lt_zero t)⟩
  | i + 1, hi => by
    have ih := fM_is hN i (by omega)
    rcases pFls_c r i with ⟨e1, e2⟩ | ⟨e1, e2⟩
    · have hs : fM r (i + 1) = fM r i := fM_n (fun z => z.2.1 (by rw [e2]; decide))
      rw [hs]
      rcases ih with ⟨h1, h2⟩ | ⟨t, h1, h2, h3, h4, h5⟩
      · left
        refine ⟨h1, fun t ht z => ?_⟩
        by_cases q : t = i
        · subst q; omega
        · exact h2 t (by omega) z
      · right
        refine ⟨t, by omega, h2, h3, h4, fun j hj hs => ?_⟩
        by_cases q : j = i
        · subst q; left; omega
        · exact h5 j (by omega) hs
    · cases hs0 : pSt r i with
      | false =>
        have hs : fM r (i + 1) = fM r i := fM_n (fun z => by rw [hs0] at z; cases z.1)
        rw [hs]
        rcases ih with ⟨h1, h2⟩ | ⟨t, h1, h2, h3, h4, h5⟩
        · left
          refine ⟨h1, fun t ht z => ?_⟩
          by_cases q : t = i
          · subst q; rw [hs0] at z; cases z.1
          · exact h2 t (by omega) z
        · right
          refine ⟨t, by omega, h2, h3, h4, fun j hj hz => ?_⟩
          by_cases q : j = i
          · exfalso; rw [q, hs0] at hz; cases hz
          · exact h5 j (by omega) hz
      | true =>
        have hnn : ¬ pFls r i < 0 := by rw [e2]; exact nI_nn (by omega)
        rcases ih with ⟨h1, h2⟩ | ⟨t, h1, h2, h3, h4, h5⟩
        · right
          refine ⟨i, by omega, hs0, e1, ?_, fun j hj hs => ?_⟩
          · rw [fM_y hs0 hnn (by rw [h1, e2]; exact (nI_ltI (b := 1000000000) (by omega) (by omega)).mpr (by omega)), e2]
          · by_cases q : j = i
            · subst q; exact Or.inr ⟨rfl, Nat.le_refl _⟩
            · have := h2 j (by omega)
              left
              have h6 := fs_le (fun n => decide (pMins r n 3 j = 1)) 100
              have h6 : pFallIn r j ≤ 100 := h6
              have : ¬ pFallIn r j < 100 := fun z => this ⟨hs, z⟩
              omega
        · by_cases q : pFallIn r i < pFallIn r t
          · right
            refine ⟨i, by omega, hs0, e1, ?_, fun j hj hs => ?_⟩
            · rw [fM_y hs0 hnn (by rw [h4, e2]; exact (nI_ltI (by omega) (by omega)).mpr q), e2]
            · by_cases q2 : j = i
              · subst q2; exact Or.inr ⟨rfl, Nat.le_refl _⟩
              · have := h5 j (by omega) hs
                omega
          · right
            have hs : fM r (i + 1) = fM r i := fM_n (fun z => by
              have z2 := z.2.2
              rw [h4, e2] at z2
              exact q ((nI_ltI (by omega) (by omega)).mp z2))
            refine ⟨t, by omega, h2, h3, by rw [hs]; exact h4, fun j hj hs => ?_⟩
            by_cases q2 : j = i
            · subst q2
              rcases Nat.lt_or_ge (pFallIn r t) (pFallIn r j) with z | z
              · exact Or.inl z
              · exact Or.inr ⟨by omega, by omega⟩
            · exact h5 j (by omega) hs
theorem pFFn_c {r : Rw} {t : Nat} (ht : t < mny r) (hs : pSt r t = true) (hf : pFallIn r t < 100) (h : ∀ j, j < mny r → pSt r j = true → pFallIn r t < pFallIn r j ∨ (pFallIn r t = pFallIn r j ∧ t ≤ j)) : pFFn r = pFallIn r t ∧ fs (pNow r (pFallIn r t)) (mny r) = t := by
  refine pFF_at (fun j hj => ?_) hf ht (fun j hj => ?_) ((pNow_iff hf).mpr ⟨hs, Nat.le_refl _⟩)
  · have e : fs (pNow r j) (mny r) = mny r := by
      refine fs_eq (Nat.le_refl _) (fun q hq => ?_) (fun q => absurd q (by omega))
      cases e : pNow r j q with
      | false => rfl
      | true =>
        obtain ⟨a1, a2⟩ := (pNow_iff (by omega)).mp e
        have := h q hq a1
        omega
    omega
  · cases e : pNow r (pFallIn r t) j with
    | false => rfl
    | true =>
      obtain ⟨a1, a2⟩ := (pNow_iff hf).mp e
      have := h j (by omega) a1
      omega
theorem pFF_fM {r : Rw} (hN : mny r ≤ 10) (w : Int32) : (if (fM r (mny r)).1 < 0 ∨ w = 0 then (fM r (mny r)).1 else (fM r (mny r)).2) = pFF r w := by
  rcases fM_is hN (mny r) (Nat.le_refl _) with ⟨h1, h2⟩ | ⟨t, h1, h2, h3, h4, h5⟩
  · rw [h1, if_pos (Or.inl (by decide))]
    refine pFF_none (fun j hj => ?_)
    have e : fs (pNow r j) (mny r) = mny r := by
      refine fs_eq (Nat.le_refl _) (fun q hq => ?_) (fun q => absurd q (by omega))
      cases e : pNow r j q with
      | false => rfl
      | true =>
        obtain ⟨a1, a2⟩ := (pNow_iff (by omega)).mp e
        exact absurd ⟨a1, by omega⟩ (h2 q hq)
    omega
  · obtain ⟨e1, e2⟩ := pFFn_c h1 h2 h3 h5
    rw [h4]
    unfold pFF
    rw [e1, if_pos h3, e2]
    by_cases hw : w = 0
    · rw [if_pos (Or.inr hw), if_pos hw]
    · rw [if_neg hw, if_neg]
      rintro (z | z)
      · exact nI_nn (show t < 2 ^ 31 by omega) z
      · exact hw z
theorem bs_inj {P P' : Nat → Bool} {n : Nat} (hn : n ≤ 10) (h : bs P n = bs P' n) : ∀ t, t < n → P t = P' t := by
  rw [bs_bn _ _ (by omega), bs_bn _ _ (by omega)] at h
  have a1 := bn_1024 (P := P) hn
  have a2 := bn_1024 (P := P') hn
  have h1 := (nI_eq (by omega) (by omega)).mp h
  intro t ht
  have h2 := congrArg (fun x => x.testBit t) h1
  simp only [bn_bit] at h2
  simpa [ht] using h2
theorem fs_nlt {P : Nat → Bool} {n : Nat} : ¬ fs P n < n ↔ ∀ t, t < n → P t = false := by
  have h0 := fs_le P n
  constructor
  · intro h t ht
    exact (fs_spec P n).1 t (by omega)
  · intro h q
    have := (fs_spec P n).2 q
    rw [h _ q] at this
    cases this
theorem pMin_o {r : Rw} {d : Int32} {t : Nat} (h : ¬ r 3 t = 0) : pMin r d 3 t = r 3 t := by
  show (if (decide (t < mny r) && pDrop r d t) = true then (1 : Int32) else r 3 t) = r 3 t
  rw [if_neg]
  intro z
  rw [Bool.and_eq_true] at z
  have z2 := z.2
  unfold pDrop at z2
  rw [Bool.and_eq_true] at z2
  exact h (of_decide_eq_true z2.1)
theorem pMins_o {r : Rw} {t : Nat} (h : ¬ r 3 t = 0) : ∀ n, pMins r n 3 t = r 3 t
  | 0 => rfl
  | n + 1 => (pMin_o (by rw [pMins_o h n]; exact h)).trans (pMins_o h n)
theorem pLy_eq {r : Rw} {j : Nat} (hN : mny r ≤ 10) : pSet (pMins r j) 1 = pSet r 1 ↔ ∀ t, t < mny r → pNow r j t = false := by
  unfold pSet
  rw [pMins_n]
  constructor
  · intro h t ht
    have e := bs_inj hN h t ht
    show (pHow (pMins r j) 1 t && pHow r 0 t) = false
    rw [e]
    unfold pHow
    by_cases q : r 3 t = 1
    · rw [q]; rfl
    · rw [decide_eq_false q]; rfl
  · intro h
    refine bs_congr (fun t ht => ?_)
    by_cases q : r 3 t = 0
    · have h1 := h t ht
      have h1 : (pHow (pMins r j) 1 t && pHow r 0 t) = false := h1
      rw [show pHow r 0 t = true from decide_eq_true q, Bool.and_true] at h1
      rw [h1]
      show false = decide (r 3 t = 1)
      rw [q]
      rfl
    · show decide (pMins r j 3 t = 1) = decide (r 3 t = 1)
      rw [pMins_o q]
theorem pSF_fM {r : Rw} {n : Nat} (hn : n < 99) (h0 : ∀ j, j ≤ n → pSet (pMins r j) 1 = pSet r 1) (hN : mny r ≤ 10) (h1 : ¬ pSet (pMins r (n + 1)) 1 = pSet r 1) : nI n = pSF r := by
  have e : pFFn r = n + 1 := by
    refine fs_eq (by omega) (fun j hj => decide_eq_false (fs_nlt.mpr ((pLy_eq hN).mp (h0 j (by omega))))) (fun _ => decide_eq_true ?_)
    apply Classical.byContradiction
    intro q
    exact h1 ((pLy_eq hN).mpr (fs_nlt.mp q))
  unfold pSF
  rw [e]
  rfl
theorem pSF_no {r : Rw} (hN : mny r ≤ 10) (h0 : ∀ j, j ≤ 99 → pSet (pMins r j) 1 = pSet r 1) : 99 = pSF r := by
  have e : pFFn r = 100 := fs_eq (by omega) (fun j hj => decide_eq_false (fs_nlt.mpr ((pLy_eq hN).mp (h0 j (by omega))))) (fun q => absurd q (by omega))
  unfold pSF
  rw [e]
  rfl
set_option maxHeartbeats 4000000 in
set_option maxRecDepth 100000 in
theorem n_first (l : Launch) (G : xG) (am : Nat → Nat) (r rm r2 r4 : Rw) (ho rn ln pl sd : Int32) (lt ro rf nb : Nat → Int32) (hr : Ok r) (hp : r 5 3 = 0) (t : Int32) : xCi l G yX9_first cX9_first 6 (some .int) ({ frames := 6, cells := 0, slots := 0, locals := 131 } : Room) [.ref (am 0), .int t] (wM G am ho rn ln pl sd lt ro rf nb ++ [(am 1, .inl (G.2 0, 54, .inl (row r)))] ++ [(am 2, .inl (G.2 0, 54, .inl (row rm)))] ++ [(am 3, .inl (G.2 0, 54, .inl (row r2)))] ++ [(am 4, .inl (G.2 0, 54, .inl (row r4)))]) (S := Rw) (fun v _ => v = sel (eS (inR t 0 1) (-2) 0) (pFF r t) (eS (inR t 0 1) (-2) 0)) (fun u => (wM G am ho rn ln pl sd lt ro (sel (eS (inR t 0 1) (-2) 0) rf (rfU rf (eS (inR t 0 1) (-2) 0))) nb ++ [(am 1, .inl (G.2 0, 54, .inl (row r)))] ++ [(am 2, .inl (G.2 0, 54, .inl (row u)))] ++ [(am 3, .inl (G.2 0, 54, .inl (row r2)))] ++ [(am 4, .inl (G.2 0, 54, .inl (row r4)))])) := by
  refine x_openi (by decide) (Nat.le_of_ble_eq_true rfl) (fun _ _ _ => rfl) ?_
  intro p e s m args below meth c A Q ls C0 hK hP hD hA hl hret
  obtain ⟨hx, hb, hml, hown, hts⟩ := id C0
  have hS : va_S A s.heap s.heap [] := va_S.rf
  have hP : va_P G.1 vwCl (wM G am ho rn ln pl sd lt ro rf nb ++ [(am 1, .inl (G.2 0, 54, .inl (row r)))] ++ [(am 2, .inl (G.2 0, 54, .inl (row rm)))] ++ [(am 3, .inl (G.2 0, 54, .inl (row r2)))] ++ [(am 4, .inl (G.2 0, 54, .inl (row r4)))]) s.heap := hP
  have hD : va_D A (wM G am ho rn ln pl sd lt ro rf nb ++ [(am 1, .inl (G.2 0, 54, .inl (row r)))] ++ [(am 2, .inl (G.2 0, 54, .inl (row rm)))] ++ [(am 3, .inl (G.2 0, 54, .inl (row r2)))] ++ [(am 4, .inl (G.2 0, 54, .inl (row r4)))]) := hD
  have hl : lv_has ls 6 [(0, .ref (am 0)), (1, .int t)] := hl
  have hr0 := hr.n
  have hN := hr.le
  refine lv_iload_n hx hb dX9_first_0 rfl (lv_at hl 1 rfl) ?_
  refine lv_iconst (v := 0) hx hb dX9_first_1 (by decide) ?_
  refine lv_iconst (v := 1) hx hb dX9_first_2 (by decide) ?_
  refine x_Si (wN := fun _ => (wM G am ho rn ln pl sd lt ro rf nb ++ [(am 1, .inl (G.2 0, 54, .inl (row r)))] ++ [(am 2, .inl (G.2 0, 54, .inl (row rm)))] ++ [(am 3, .inl (G.2 0, 54, .inl (row r2)))] ++ [(am 4, .inl (G.2 0, 54, .inl (row r4)))])) ⟨C0, hK, hP, hD, hS, hA⟩ ((m9_isIn l G t 0 1)) (va_cwS 3 hts (lw_S q1233 q1234 q95 q1235) rfl rfl rfl (by decide +kernel) ⟨Nat.le_of_ble_eq_true rfl, Nat.le_of_ble_eq_true rfl⟩) [] [0, 2, 4, 6, 8, 10, 12, 14, 16] rfl (fun _ => rfl) rfl rfl hl.1 rfl (Nat.le_of_ble_eq_true rfl) dX9_first_3 ⟨(Nat.le_of_ble_eq_true rfl), (Nat.le_of_ble_eq_true rfl)⟩ (fun r_1 u_1 H locs hw_1 hP hD hS => ?_)
  have hw_1 : r_1 = bI (inR t 0 1) := hw_1.trans rfl
  have hw_1 : (bI (inR t 0 1) : Int32) = r_1 := hw_1.symm
  subst hw_1
  refine lv_if_ne (tgt := 16) hx hb dX9_first_6 (by decide) (fun c_2 => ?_) (fun c_2 => ?_)
  · skip
    refine lv_bipush (v := (-9)) hx hb dX9_first_16 (by decide) ?_
    refine lv_istore_n (lv' := [(2, .int (-9)), (0, .ref (am 0)), (1, .int t)]) hx hb dX9_first_18 rfl hl (by decide) rfl (fun ls hl => ?_)
    refine lv_ldc (v := 1000000000) hx hb hown (hts _ q1353) dX9_first_19 ?_
    refine lv_istore_n (lv' := [(3, .int 1000000000), (2, .int (-9)), (0, .ref (am 0)), (1, .int t)]) hx hb dX9_first_21 rfl hl (by decide) rfl (fun ls hl => ?_)
    refine lv_iconst (v := 0) hx hb dX9_first_22 (by decide) ?_
    refine lv_istore (lv' := [(4, .int 0), (3, .int 1000000000), (2, .int (-9)), (0, .ref (am 0)), (1, .int t)]) hx hb dX9_first_23 hl (by decide) rfl (fun ls hl => ?_)
    have loop_25 : ∀ (n : Nat) (i : Nat) (q9 : Rw), (i ≤ mny r) → (mny r < i + n) → ∀ (H : Heap) (locs : List Loc) (ls : Array Slot), va_P G.1 vwCl (wM G am ho rn ln pl sd lt ro rf nb ++ [(am 1, .inl (G.2 0, 54, .inl (row r)))] ++ [(am 2, .inl (G.2 0, 54, .inl (row q9)))] ++ [(am 3, .inl (G.2 0, 54, .inl (row r2)))] ++ [(am 4, .inl (G.2 0, 54, .inl (row r4)))]) H → va_D A (wM G am ho rn ln pl sd lt ro rf nb ++ [(am 1, .inl (G.2 0, 54, .inl (row r)))] ++ [(am 2, .inl (G.2 0, 54, .inl (row q9)))] ++ [(am 3, .inl (G.2 0, 54, .inl (row r2)))] ++ [(am 4, .inl (G.2 0, 54, .inl (row r4)))]) → va_S A s.heap H locs → lv_has ls 6 [(4, .int (nI i)), (3, .int ((fM r i).2)), (2, .int ((fM r i).1)), (0, .ref (am 0)), (1, .int t)] → W p l e ({ frames := 6, cells := 0, slots := 0, locals := 131 } : Room) s m args below meth c H locs 0 0 Q (F0 m 25 ls []) := by
      intro n
      induction n with
      | zero => intro i q9 hi25_0 hi25_1; exact absurd hi25_1 (by omega)
      | succ n ih_25 =>
        intro i q9 hi25_0 hi25_1 H locs ls hP hD hS hl
        refine lv_iload hx hb dX9_first_25 (lv_at hl 0 rfl) ?_
        refine lv_aload_n hx hb dX9_first_27 rfl (lv_at hl 3 rfl) ?_
        refine va_get (D := G.1) (ci := 8) (v := .ref (am 1)) (C := RX9) (T := TX9) (N := 13) hx hb hts in_X9 hown hK.1 hP 0 rfl rfl 0 (by decide) (hts _ q1162) (fun _ h9 => h9) rfl dX9_first_28 ?_
        refine lv_iconst (v := 0) hx hb dX9_first_31 (by decide) ?_
        refine x_ialdn (k := 0) hx hb hK.1 hP 5 0 rfl rfl (by decide) (by decide) (v := nI (mny r)) (hr0) dX9_first_32 ?_
        refine lv_icmp_ge (tgt := 87) hx hb dX9_first_33 (by decide) (fun c_3 => ?_) (fun c_3 => ?_)
        · skip
          have g_3 := (nI_leI (by omega) (by omega)).mp c_3
          refine lv_iload_n hx hb dX9_first_87 rfl (lv_at hl 2 rfl) ?_
          refine lv_if_lt (tgt := 95) hx hb dX9_first_88 (by decide) (fun c_4 => ?_) (fun c_4 => ?_)
          · skip
            refine lv_iload_n hx hb dX9_first_95 rfl (lv_at hl 2 rfl) ?_
            refine lv_goto (tgt := 100) hx hb dX9_first_96 (by decide) ?_
            have hE : eS (inR t 0 1) (-2) 0 = 0 := by rw [eS_t (show inR t 0 1 = true from (by have h9 := c_2; simpa [bI_0] using h9))]
            have hP : va_P G.1 vwCl (wM G am ho rn ln pl sd lt ro (sel (eS (inR t 0 1) (-2) 0) rf (rfU rf (eS (inR t 0 1) (-2) 0))) nb ++ [(am 1, .inl (G.2 0, 54, .inl (row r)))] ++ [(am 2, .inl (G.2 0, 54, .inl (row q9)))] ++ [(am 3, .inl (G.2 0, 54, .inl (row r2)))] ++ [(am 4, .inl (G.2 0, 54, .inl (row r4)))]) H := by rw [hE]; simp only [sel_0 rfl]; exact hP
            have hD : va_D A (wM G am ho rn ln pl sd lt ro (sel (eS (inR t 0 1) (-2) 0) rf (rfU rf (eS (inR t 0 1) (-2) 0))) nb ++ [(am 1, .inl (G.2 0, 54, .inl (row r)))] ++ [(am 2, .inl (G.2 0, 54, .inl (row q9)))] ++ [(am 3, .inl (G.2 0, 54, .inl (row r2)))] ++ [(am 4, .inl (G.2 0, 54, .inl (row r4)))]) := by rw [hE]; simp only [sel_0 rfl]; exact hD
            refine hret _ _ _ _ _ _ ((fM r i).1) q9 dX9_first_100 ?_ hP hD hS (Nat.le_of_ble_eq_true rfl) (Nat.le_of_ble_eq_true rfl)
            rw [hE, sel_0 rfl]
            rw [← pFF_fM hN t]
            rw [show mny r = i by omega]
            exact (if_pos (Or.inl c_4)).symm
          · skip
            refine lv_iload_n hx hb dX9_first_91 rfl (lv_at hl 4 rfl) ?_
            refine lv_if_ne (tgt := 99) hx hb dX9_first_92 (by decide) (fun c_5 => ?_) (fun c_5 => ?_)
            · skip
              refine lv_iload_n hx hb dX9_first_99 rfl (lv_at hl 1 rfl) ?_
              have hE : eS (inR t 0 1) (-2) 0 = 0 := by rw [eS_t (show inR t 0 1 = true from (by have h9 := c_2; simpa [bI_0] using h9))]
              have hP : va_P G.1 vwCl (wM G am ho rn ln pl sd lt ro (sel (eS (inR t 0 1) (-2) 0) rf (rfU rf (eS (inR t 0 1) (-2) 0))) nb ++ [(am 1, .inl (G.2 0, 54, .inl (row r)))] ++ [(am 2, .inl (G.2 0, 54, .inl (row q9)))] ++ [(am 3, .inl (G.2 0, 54, .inl (row r2)))] ++ [(am 4, .inl (G.2 0, 54, .inl (row r4)))]) H := by rw [hE]; simp only [sel_0 rfl]; exact hP
              have hD : va_D A (wM G am ho rn ln pl sd lt ro (sel (eS (inR t 0 1) (-2) 0) rf (rfU rf (eS (inR t 0 1) (-2) 0))) nb ++ [(am 1, .inl (G.2 0, 54, .inl (row r)))] ++ [(am 2, .inl (G.2 0, 54, .inl (row q9)))] ++ [(am 3, .inl (G.2 0, 54, .inl (row r2)))] ++ [(am 4, .inl (G.2 0, 54, .inl (row r4)))]) := by rw [hE]; simp only [sel_0 rfl]; exact hD
              refine hret _ _ _ _ _ _ ((fM r i).2) q9 dX9_first_100 ?_ hP hD hS (Nat.le_of_ble_eq_true rfl) (Nat.le_of_ble_eq_true rfl)
              rw [hE, sel_0 rfl]
              rw [← pFF_fM hN t]
              rw [show mny r = i by omega]
              exact (if_neg (fun z => z.elim c_4 c_5)).symm
            · skip
              refine lv_iload_n hx hb dX9_first_95 rfl (lv_at hl 2 rfl) ?_
              refine lv_goto (tgt := 100) hx hb dX9_first_96 (by decide) ?_
              have hE : eS (inR t 0 1) (-2) 0 = 0 := by rw [eS_t (show inR t 0 1 = true from (by have h9 := c_2; simpa [bI_0] using h9))]
              have hP : va_P G.1 vwCl (wM G am ho rn ln pl sd lt ro (sel (eS (inR t 0 1) (-2) 0) rf (rfU rf (eS (inR t 0 1) (-2) 0))) nb ++ [(am 1, .inl (G.2 0, 54, .inl (row r)))] ++ [(am 2, .inl (G.2 0, 54, .inl (row q9)))] ++ [(am 3, .inl (G.2 0, 54, .inl (row r2)))] ++ [(am 4, .inl (G.2 0, 54, .inl (row r4)))]) H := by rw [hE]; simp only [sel_0 rfl]; exact hP
              have hD : va_D A (wM G am ho rn ln pl sd lt ro (sel (eS (inR t 0 1) (-2) 0) rf (rfU rf (eS (inR t 0 1) (-2) 0))) nb ++ [(am 1, .inl (G.2 0, 54, .inl (row r)))] ++ [(am 2, .inl (G.2 0, 54, .inl (row q9)))] ++ [(am 3, .inl (G.2 0, 54, .inl (row r2)))] ++ [(am 4, .inl (G.2 0, 54, .inl (row r4)))]) := by rw [hE]; simp only [sel_0 rfl]; exact hD
              refine hret _ _ _ _ _ _ ((fM r i).1) q9 dX9_first_100 ?_ hP hD hS (Nat.le_of_ble_eq_true rfl) (Nat.le_of_ble_eq_true rfl)
              rw [hE, sel_0 rfl]
              rw [← pFF_fM hN t]
              rw [show mny r = i by omega]
              exact (if_pos (Or.inr c_5)).symm
        · skip
          have g_3 := mt (nI_leI (by omega) (by omega)).mpr c_3
          refine lv_aload_n hx hb dX9_first_36 rfl (lv_at hl 3 rfl) ?_
          refine va_get (D := G.1) (ci := 8) (v := .ref (am 1)) (C := RX9) (T := TX9) (N := 13) hx hb hts in_X9 hown hK.1 hP 0 rfl rfl 0 (by decide) (hts _ q1162) (fun _ h9 => h9) rfl dX9_first_37 ?_
          refine lv_iload hx hb dX9_first_40 (lv_at hl 0 rfl) ?_
          refine x_Si (wN := fun _ => (wM G am ho rn ln pl sd lt ro rf nb ++ [(am 1, .inl (G.2 0, 54, .inl (row r)))] ++ [(am 2, .inl (G.2 0, 54, .inl (row q9)))] ++ [(am 3, .inl (G.2 0, 54, .inl (row r2)))] ++ [(am 4, .inl (G.2 0, 54, .inl (row r4)))])) ⟨C0, hK, hP, hD, hS, hA⟩ ((m9_stands l G (am 1) r hr i (by omega))) (va_cwS 2 hts (lw_S q1251 q1252 q95 q1253) rfl rfl rfl (by decide +kernel) ⟨Nat.le_of_ble_eq_true rfl, Nat.le_of_ble_eq_true rfl⟩) [5] [0, 2, 4, 6, 8, 1, 12, 14, 16] rfl (fun _ => rfl) rfl rfl hl.1 rfl (Nat.le_of_ble_eq_true rfl) dX9_first_42 ⟨(Nat.le_of_ble_eq_true rfl), (Nat.le_of_ble_eq_true rfl)⟩ (fun r_6 u_6 H locs hw_6 hP hD hS => ?_)
          have hw_6 : (bI (pSt r i) : Int32) = r_6 := hw_6.symm
          subst hw_6
          refine lv_if_eq (tgt := 57) hx hb dX9_first_45 (by decide) (fun c_7 => ?_) (fun c_7 => ?_)
          · skip
            refine lv_bipush (v := (-9)) hx hb dX9_first_57 (by decide) ?_
            refine lv_istore (lv' := [(5, .int (-9)), (4, .int (nI i)), (3, .int ((fM r i).2)), (2, .int ((fM r i).1)), (0, .ref (am 0)), (1, .int t)]) hx hb dX9_first_59 hl (by decide) rfl (fun ls hl => ?_)
            refine lv_iload hx hb dX9_first_61 (lv_at hl 0 rfl) ?_
            refine lv_if_lt (tgt := 81) hx hb dX9_first_63 (by decide) (fun c_8 => ?_) (fun c_8 => ?_)
            · skip
              refine lv_iinc (v := nI (i + 1)) (lv' := [(4, .int (nI (i + 1))), (5, .int (-9)), (3, .int ((fM r i).2)), (2, .int ((fM r i).1)), (0, .ref (am 0)), (1, .int t)]) hx hb dX9_first_81 hl (k := 1) rfl (x_inc1 _) (by decide) rfl (fun ls hl => ?_)
              refine lv_goto (tgt := 25) hx hb dX9_first_84 (by decide) ?_
              rw [← fM_n (fun z => by rw [show pSt r i = false from (by first | exact bI_n0 c_7 | exact bI_0.mp c_7)] at z; cases z.1)] at hl
              exact ih_25 (i + 1) _ (by omega) (by omega) _ _ _ hP hD hS (lv_sub hl [0, 2, 3, 4, 5] rfl)
            · skip
              exact absurd c_8 (by decide)
          · skip
            refine lv_aload_n hx hb dX9_first_48 rfl (lv_at hl 3 rfl) ?_
            refine lv_iload hx hb dX9_first_49 (lv_at hl 0 rfl) ?_
            refine x_Vi (wN := fun u_9 => (wM G am ho rn ln pl sd lt ro rf nb ++ [(am 1, .inl (G.2 0, 54, .inl (row r)))] ++ [(am 2, .inl (G.2 0, 54, .inl (row u_9)))] ++ [(am 3, .inl (G.2 0, 54, .inl (row r2)))] ++ [(am 4, .inl (G.2 0, 54, .inl (row r4)))])) ⟨C0, hK, hP, hD, hS, hA⟩ 0 rfl (ci := 8) rfl rfl ((m9_fallsOf l G am r q9 r2 r4 ho rn ln pl sd lt ro rf nb hr hp i (by omega))) (cwV 1 hts (lw_V q1341 q1343 qs77 q95 q1344) rfl rfl rfl (by decide +kernel) ⟨Nat.le_of_ble_eq_true rfl, Nat.le_of_ble_eq_true rfl⟩) [0, 1, 2, 3, 4, 5, 6, 7, 8] [1, 3, 5, 7, 9, 11, 13, 15, 17] rfl (fun _ => rfl) rfl rfl hl.1 rfl (Nat.le_of_ble_eq_true rfl) dX9_first_51 ⟨(Nat.le_of_ble_eq_true rfl), (Nat.le_of_ble_eq_true rfl)⟩ (fun r_9 u_9 H locs hw_9 hP hD hS => ?_)
            have hw_9 : (pFls r i : Int32) = r_9 := hw_9.symm
            subst hw_9
            have hP : va_P G.1 vwCl (wM G am ho rn ln pl sd lt ro rf nb ++ [(am 1, .inl (G.2 0, 54, .inl (row r)))] ++ [(am 2, .inl (G.2 0, 54, .inl (row u_9)))] ++ [(am 3, .inl (G.2 0, 54, .inl (row r2)))] ++ [(am 4, .inl (G.2 0, 54, .inl (row r4)))]) H := hP
            have hD : va_D A (wM G am ho rn ln pl sd lt ro rf nb ++ [(am 1, .inl (G.2 0, 54, .inl (row r)))] ++ [(am 2, .inl (G.2 0, 54, .inl (row u_9)))] ++ [(am 3, .inl (G.2 0, 54, .inl (row r2)))] ++ [(am 4, .inl (G.2 0, 54, .inl (row r4)))]) := hD
            refine lv_goto (tgt := 59) hx hb dX9_first_54 (by decide) ?_
            refine lv_istore (lv' := [(5, .int (pFls r i)), (4, .int (nI i)), (3, .int ((fM r i).2)), (2, .int ((fM r i).1)), (0, .ref (am 0)), (1, .int t)]) hx hb dX9_first_59 hl (by decide) rfl (fun ls hl => ?_)
            refine lv_iload hx hb dX9_first_61 (lv_at hl 0 rfl) ?_
            refine lv_if_lt (tgt := 81) hx hb dX9_first_63 (by decide) (fun c_10 => ?_) (fun c_10 => ?_)
            · skip
              refine lv_iinc (v := nI (i + 1)) (lv' := [(4, .int (nI (i + 1))), (5, .int (pFls r i)), (3, .int ((fM r i).2)), (2, .int ((fM r i).1)), (0, .ref (am 0)), (1, .int t)]) hx hb dX9_first_81 hl (k := 1) rfl (x_inc1 _) (by decide) rfl (fun ls hl => ?_)
              refine lv_goto (tgt := 25) hx hb dX9_first_84 (by decide) ?_
              rw [← fM_n (fun z => z.2.1 c_10)] at hl
              exact ih_25 (i + 1) _ (by omega) (by omega) _ _ _ hP hD hS (lv_sub hl [0, 2, 3, 4, 5] rfl)
            · skip
              refine lv_iload hx hb dX9_first_66 (lv_at hl 0 rfl) ?_
              refine lv_iload_n hx hb dX9_first_68 rfl (lv_at hl 2 rfl) ?_
              refine lv_icmp_lt (tgt := 75) hx hb dX9_first_69 (by decide) (fun c_11 => ?_) (fun c_11 => ?_)
              · skip
                refine lv_iload hx hb dX9_first_75 (lv_at hl 1 rfl) ?_
                have e9 := fM_y (show pSt r i = true from (by first | exact bI_n0 c_7 | exact bI_0.mp c_7)) c_10 c_11
                rw [show (nI i : Int32) = (fM r (i + 1)).1 from (by rw [e9])]
                refine lv_istore_n (lv' := [(2, .int ((fM r (i + 1)).1)), (5, .int (pFls r i)), (4, .int (nI i)), (3, .int ((fM r i).2)), (0, .ref (am 0)), (1, .int t)]) hx hb dX9_first_77 rfl hl (by decide) rfl (fun ls hl => ?_)
                refine lv_iload hx hb dX9_first_78 (lv_at hl 1 rfl) ?_
                rw [show (pFls r i : Int32) = (fM r (i + 1)).2 from (by rw [e9])]
                refine lv_istore_n (lv' := [(3, .int ((fM r (i + 1)).2)), (2, .int ((fM r (i + 1)).1)), (5, .int (pFls r i)), (4, .int (nI i)), (0, .ref (am 0)), (1, .int t)]) hx hb dX9_first_80 rfl hl (by decide) rfl (fun ls hl => ?_)
                refine lv_iinc (v := nI (i + 1)) (lv' := [(4, .int (nI (i + 1))), (3, .int ((fM r (i + 1)).2)), (2, .int ((fM r (i + 1)).1)), (5, .int (pFls r i)), (0, .ref (am 0)), (1, .int t)]) hx hb dX9_first_81 hl (k := 3) rfl (x_inc1 _) (by decide) rfl (fun ls hl => ?_)
                refine lv_goto (tgt := 25) hx hb dX9_first_84 (by decide) ?_
                exact ih_25 (i + 1) _ (by omega) (by omega) _ _ _ hP hD hS (lv_sub hl [0, 1, 2, 4, 5] rfl)
              · skip
                refine lv_goto (tgt := 81) hx hb dX9_first_72 (by decide) ?_
                refine lv_iinc (v := nI (i + 1)) (lv' := [(4, .int (nI (i + 1))), (5, .int (pFls r i)), (3, .int ((fM r i).2)), (2, .int ((fM r i).1)), (0, .ref (am 0)), (1, .int t)]) hx hb dX9_first_81 hl (k := 1) rfl (x_inc1 _) (by decide) rfl (fun ls hl => ?_)
                refine lv_goto (tgt := 25) hx hb dX9_first_84 (by decide) ?_
                rw [← fM_n (fun z => c_11 z.2.2)] at hl
                exact ih_25 (i + 1) _ (by omega) (by omega) _ _ _ hP hD hS (lv_sub hl [0, 2, 3, 4, 5] rfl)
    exact loop_25 (mny r + 1) 0 _ (by omega) (by omega) _ _ _ hP hD hS (lv_sub hl [0, 1, 2, 3, 4] rfl)
  · skip
    refine lv_aload_n hx hb dX9_first_9 rfl (lv_at hl 0 rfl) ?_
    refine lv_bipush (v := (-2)) hx hb dX9_first_10 (by decide) ?_
    refine x_Vi (wN := fun _ => (wM G am ho rn ln pl sd lt ro (rfU rf (-2)) nb ++ [(am 1, .inl (G.2 0, 54, .inl (row r)))] ++ [(am 2, .inl (G.2 0, 54, .inl (row rm)))] ++ [(am 3, .inl (G.2 0, 54, .inl (row r2)))] ++ [(am 4, .inl (G.2 0, 54, .inl (row r4)))])) ⟨C0, hK, hP, hD, hS, hA⟩ 0 rfl (ci := 8) rfl rfl ((m9_no l G am ho rn ln pl sd lt ro rf nb (-2) noOk_k.2.1)) (cwV 1 hts (lw_V q1206 q1208 qs66 q95 q1209) rfl rfl rfl (by decide +kernel) ⟨Nat.le_of_ble_eq_true rfl, Nat.le_of_ble_eq_true rfl⟩) [0, 1, 2, 3, 4] [1, 3, 5, 7, 9, 10, 12, 14, 16] rfl (fun _ => rfl) rfl rfl hl.1 rfl (Nat.le_of_ble_eq_true rfl) dX9_first_12 ⟨(Nat.le_of_ble_eq_true rfl), (Nat.le_of_ble_eq_true rfl)⟩ (fun r_12 u_12 H locs hw_12 hP hD hS => ?_)
    have hw_12 : ((-2) : Int32) = r_12 := hw_12.symm
    subst hw_12
    have hP : va_P G.1 vwCl (wM G am ho rn ln pl sd lt ro (rfU rf (-2)) nb ++ [(am 1, .inl (G.2 0, 54, .inl (row r)))] ++ [(am 2, .inl (G.2 0, 54, .inl (row rm)))] ++ [(am 3, .inl (G.2 0, 54, .inl (row r2)))] ++ [(am 4, .inl (G.2 0, 54, .inl (row r4)))]) H := hP
    have hD : va_D A (wM G am ho rn ln pl sd lt ro (rfU rf (-2)) nb ++ [(am 1, .inl (G.2 0, 54, .inl (row r)))] ++ [(am 2, .inl (G.2 0, 54, .inl (row rm)))] ++ [(am 3, .inl (G.2 0, 54, .inl (row r2)))] ++ [(am 4, .inl (G.2 0, 54, .inl (row r4)))]) := hD
    have hE : eS (inR t 0 1) (-2) 0 = (-2) := by rw [eS_f (show inR t 0 1 = false from (by have h9 := c_2; simpa [bI_0] using h9))]
    have hne : ((-2) : Int32) ≠ 0 := (by decide)
    have hP : va_P G.1 vwCl (wM G am ho rn ln pl sd lt ro (sel (eS (inR t 0 1) (-2) 0) rf (rfU rf (eS (inR t 0 1) (-2) 0))) nb ++ [(am 1, .inl (G.2 0, 54, .inl (row r)))] ++ [(am 2, .inl (G.2 0, 54, .inl (row rm)))] ++ [(am 3, .inl (G.2 0, 54, .inl (row r2)))] ++ [(am 4, .inl (G.2 0, 54, .inl (row r4)))]) H := by rw [hE]; simp only [sel_n hne]; exact hP
    have hD : va_D A (wM G am ho rn ln pl sd lt ro (sel (eS (inR t 0 1) (-2) 0) rf (rfU rf (eS (inR t 0 1) (-2) 0))) nb ++ [(am 1, .inl (G.2 0, 54, .inl (row r)))] ++ [(am 2, .inl (G.2 0, 54, .inl (row rm)))] ++ [(am 3, .inl (G.2 0, 54, .inl (row r2)))] ++ [(am 4, .inl (G.2 0, 54, .inl (row r4)))]) := by rw [hE]; simp only [sel_n hne]; exact hD
    refine hret _ _ _ _ _ _ (-2) rm dX9_first_15 ?_ hP hD hS (Nat.le_of_ble_eq_true rfl) (Nat.le_of_ble_eq_true rfl)
    rw [hE, sel_n hne]

/-! the model: row, judging, lots, images, count (printed by tools/model7.py) -/
/-! the model: row, judging, lots, images, count, two, orders -/
set_option maxRecDepth 100000
set_option maxHeartbeats 4000000 in
set_option maxRecDepth 100000 in
theorem n_row (l : Launch) (G : xG) (am : Nat → Nat) (r rm r2 r4 : Rw) (ho rn ln pl sd : Int32) (lt ro rf nb : Nat → Int32) (hr : Ok r) (hp : r 5 3 = 0) (mi : Int32) (jn : Nat) (hjn : rn = nI jn) (hjm : jn ≤ 16) : xCi l G yX9_row cX9_row 3 (some .int) ({ frames := 1, cells := 0, slots := 0, locals := 21 } : Room) [.ref (am 0), .int mi] (wM G am ho rn ln pl sd lt ro rf nb ++ [(am 1, .inl (G.2 0, 54, .inl (row r)))] ++ [(am 2, .inl (G.2 0, 54, .inl (row rm)))] ++ [(am 3, .inl (G.2 0, 54, .inl (row r2)))] ++ [(am 4, .inl (G.2 0, 54, .inl (row r4)))]) (S := Unit) (fun v _ => v = sel (eW (wBy mi.toInt 0 99) (eS (decide (jn < 16)) (-6) 0)) (nI (jn + 1)) (eW (wBy mi.toInt 0 99) (eS (decide (jn < 16)) (-6) 0))) (fun _ => (wM G am ho (sel (eW (wBy mi.toInt 0 99) (eS (decide (jn < 16)) (-6) 0)) (nI (jn + 1)) rn) ln pl sd lt (sel (eW (wBy mi.toInt 0 99) (eS (decide (jn < 16)) (-6) 0)) (upd ro jn mi) ro) (sel (eW (wBy mi.toInt 0 99) (eS (decide (jn < 16)) (-6) 0)) rf (rfU rf (eW (wBy mi.toInt 0 99) (eS (decide (jn < 16)) (-6) 0)))) nb ++ [(am 1, .inl (G.2 0, 54, .inl (row r)))] ++ [(am 2, .inl (G.2 0, 54, .inl (row rm)))] ++ [(am 3, .inl (G.2 0, 54, .inl (row r2)))] ++ [(am 4, .inl (G.2 0, 54, .inl (row r4)))])) := by
  refine x_openi (by decide) (Nat.le_of_ble_eq_true rfl) (fun _ _ _ => rfl) ?_
  intro p e s m args below meth c A Q ls C0 hK hP hD hA hl hret
  obtain ⟨hx, hb, hml, hown, hts⟩ := id C0
  have hS : va_S A s.heap s.heap [] := va_S.rf
  have hP : va_P G.1 vwCl (wM G am ho rn ln pl sd lt ro rf nb ++ [(am 1, .inl (G.2 0, 54, .inl (row r)))] ++ [(am 2, .inl (G.2 0, 54, .inl (row rm)))] ++ [(am 3, .inl (G.2 0, 54, .inl (row r2)))] ++ [(am 4, .inl (G.2 0, 54, .inl (row r4)))]) s.heap := hP
  have hD : va_D A (wM G am ho rn ln pl sd lt ro rf nb ++ [(am 1, .inl (G.2 0, 54, .inl (row r)))] ++ [(am 2, .inl (G.2 0, 54, .inl (row rm)))] ++ [(am 3, .inl (G.2 0, 54, .inl (row r2)))] ++ [(am 4, .inl (G.2 0, 54, .inl (row r4)))]) := hD
  have hl : lv_has ls 3 [(0, .ref (am 0)), (1, .int mi)] := hl
  have hr0 := hr.n
  have hN := hr.le
  refine lv_iload_n hx hb dX9_row_0 rfl (lv_at hl 1 rfl) ?_
  refine lv_bipush (v := 99) hx hb dX9_row_1 (by decide) ?_
  refine x_Si (wN := fun _ => (wM G am ho rn ln pl sd lt ro rf nb ++ [(am 1, .inl (G.2 0, 54, .inl (row r)))] ++ [(am 2, .inl (G.2 0, 54, .inl (row rm)))] ++ [(am 3, .inl (G.2 0, 54, .inl (row r2)))] ++ [(am 4, .inl (G.2 0, 54, .inl (row r4)))])) ⟨C0, hK, hP, hD, hS, hA⟩ ((m9_wrongBy l G mi 99)) (va_cwS 2 hts (lw_S q1302 q1303 q95 q1304) rfl rfl rfl (by decide +kernel) ⟨Nat.le_of_ble_eq_true rfl, Nat.le_of_ble_eq_true rfl⟩) [] [0, 2, 4, 6, 8, 10, 12, 14, 16] rfl (fun _ => rfl) rfl rfl hl.1 rfl (Nat.le_of_ble_eq_true rfl) dX9_row_3 ⟨(Nat.le_of_ble_eq_true rfl), (Nat.le_of_ble_eq_true rfl)⟩ (fun r_1 u_1 H locs hw_1 hP hD hS => ?_)
  have hw_1 : r_1 = wBy mi.toInt 0 99 := hw_1.trans rfl
  have hw_1 : (wBy mi.toInt 0 99 : Int32) = r_1 := hw_1.symm
  subst hw_1
  refine lv_istore_n (lv' := [(2, .int (wBy mi.toInt 0 99)), (0, .ref (am 0)), (1, .int mi)]) hx hb dX9_row_6 rfl hl (by decide) rfl (fun ls hl => ?_)
  refine lv_iload_n hx hb dX9_row_7 rfl (lv_at hl 0 rfl) ?_
  refine lv_if_ne (tgt := 23) hx hb dX9_row_8 (by decide) (fun c_2 => ?_) (fun c_2 => ?_)
  · skip
    refine lv_iload_n hx hb dX9_row_23 rfl (lv_at hl 0 rfl) ?_
    refine lv_if_eq (tgt := 33) hx hb dX9_row_24 (by decide) (fun c_3 => ?_) (fun c_3 => ?_)
    · skip
      exact absurd c_3 c_2
    · skip
      refine lv_aload_n hx hb dX9_row_27 rfl (lv_at hl 1 rfl) ?_
      refine lv_iload_n hx hb dX9_row_28 rfl (lv_at hl 0 rfl) ?_
      refine x_Vi (wN := fun _ => (wM G am ho rn ln pl sd lt ro (rfU rf (wBy mi.toInt 0 99)) nb ++ [(am 1, .inl (G.2 0, 54, .inl (row r)))] ++ [(am 2, .inl (G.2 0, 54, .inl (row rm)))] ++ [(am 3, .inl (G.2 0, 54, .inl (row r2)))] ++ [(am 4, .inl (G.2 0, 54, .inl (row r4)))])) ⟨C0, hK, hP, hD, hS, hA⟩ 0 rfl (ci := 8) rfl rfl ((m9_no l G am ho rn ln pl sd lt ro rf nb (wBy mi.toInt 0 99) (cOk.no cOk_WW c_3))) (cwV 1 hts (lw_V q1206 q1208 qs66 q95 q1209) rfl rfl rfl (by decide +kernel) ⟨Nat.le_of_ble_eq_true rfl, Nat.le_of_ble_eq_true rfl⟩) [0, 1, 2, 3, 4] [1, 3, 5, 7, 9, 10, 12, 14, 16] rfl (fun _ => rfl) rfl rfl hl.1 rfl (Nat.le_of_ble_eq_true rfl) dX9_row_29 ⟨(Nat.le_of_ble_eq_true rfl), (Nat.le_of_ble_eq_true rfl)⟩ (fun r_4 u_4 H locs hw_4 hP hD hS => ?_)
      have hw_4 : (wBy mi.toInt 0 99 : Int32) = r_4 := hw_4.symm
      subst hw_4
      have hP : va_P G.1 vwCl (wM G am ho rn ln pl sd lt ro (rfU rf (wBy mi.toInt 0 99)) nb ++ [(am 1, .inl (G.2 0, 54, .inl (row r)))] ++ [(am 2, .inl (G.2 0, 54, .inl (row rm)))] ++ [(am 3, .inl (G.2 0, 54, .inl (row r2)))] ++ [(am 4, .inl (G.2 0, 54, .inl (row r4)))]) H := hP
      have hD : va_D A (wM G am ho rn ln pl sd lt ro (rfU rf (wBy mi.toInt 0 99)) nb ++ [(am 1, .inl (G.2 0, 54, .inl (row r)))] ++ [(am 2, .inl (G.2 0, 54, .inl (row rm)))] ++ [(am 3, .inl (G.2 0, 54, .inl (row r2)))] ++ [(am 4, .inl (G.2 0, 54, .inl (row r4)))]) := hD
      have hE : eW (wBy mi.toInt 0 99) (eS (decide (jn < 16)) (-6) 0) = wBy mi.toInt 0 99 := by rw [eW_n c_2]
      have hne : (wBy mi.toInt 0 99 : Int32) ≠ 0 := c_3
      have hP : va_P G.1 vwCl (wM G am ho (sel (eW (wBy mi.toInt 0 99) (eS (decide (jn < 16)) (-6) 0)) (nI (jn + 1)) rn) ln pl sd lt (sel (eW (wBy mi.toInt 0 99) (eS (decide (jn < 16)) (-6) 0)) (upd ro jn mi) ro) (sel (eW (wBy mi.toInt 0 99) (eS (decide (jn < 16)) (-6) 0)) rf (rfU rf (eW (wBy mi.toInt 0 99) (eS (decide (jn < 16)) (-6) 0)))) nb ++ [(am 1, .inl (G.2 0, 54, .inl (row r)))] ++ [(am 2, .inl (G.2 0, 54, .inl (row rm)))] ++ [(am 3, .inl (G.2 0, 54, .inl (row r2)))] ++ [(am 4, .inl (G.2 0, 54, .inl (row r4)))]) H := by rw [hE]; simp only [sel_n hne]; exact hP
      have hD : va_D A (wM G am ho (sel (eW (wBy mi.toInt 0 99) (eS (decide (jn < 16)) (-6) 0)) (nI (jn + 1)) rn) ln pl sd lt (sel (eW (wBy mi.toInt 0 99) (eS (decide (jn < 16)) (-6) 0)) (upd ro jn mi) ro) (sel (eW (wBy mi.toInt 0 99) (eS (decide (jn < 16)) (-6) 0)) rf (rfU rf (eW (wBy mi.toInt 0 99) (eS (decide (jn < 16)) (-6) 0)))) nb ++ [(am 1, .inl (G.2 0, 54, .inl (row r)))] ++ [(am 2, .inl (G.2 0, 54, .inl (row rm)))] ++ [(am 3, .inl (G.2 0, 54, .inl (row r2)))] ++ [(am 4, .inl (G.2 0, 54, .inl (row r4)))]) := by rw [hE]; simp only [sel_n hne]; exact hD
      refine hret _ _ _ _ _ _ (wBy mi.toInt 0 99) () dX9_row_32 ?_ hP hD hS (Nat.le_of_ble_eq_true rfl) (Nat.le_of_ble_eq_true rfl)
      rw [hE, sel_n hne]
  · skip
    refine lv_aload_n hx hb dX9_row_11 rfl (lv_at hl 1 rfl) ?_
    refine va_get (D := G.1) (ci := 8) (v := .int rn) (C := RX9) (T := TX9) (N := 13) hx hb hts in_X9 hown hK.1 hP 0 rfl rfl 9 (by decide) (hts _ q1171) (fun _ h9 => h9) rfl dX9_row_12 ?_
    rw [show (rn : Int32) = nI jn from hjn]
    refine lv_bipush (v := 16) hx hb dX9_row_15 (by decide) ?_
    refine lv_icmp_ne (tgt := 23) hx hb dX9_row_17 (by decide) (fun c_5 => ?_) (fun c_5 => ?_)
    · skip
      have g_5 := mt (nI_eq (by omega) (by omega)).mpr (show ¬ (nI jn = nI 16) from c_5)
      refine lv_iload_n hx hb dX9_row_23 rfl (lv_at hl 0 rfl) ?_
      refine lv_if_eq (tgt := 33) hx hb dX9_row_24 (by decide) (fun c_6 => ?_) (fun c_6 => ?_)
      · skip
        refine lv_aload_n hx hb dX9_row_33 rfl (lv_at hl 1 rfl) ?_
        refine va_get (D := G.1) (ci := 8) (v := .ref (am 6)) (C := RX9) (T := TX9) (N := 13) hx hb hts in_X9 hown hK.1 hP 0 rfl rfl 6 (by decide) (hts _ q1168) (fun _ h9 => h9) rfl dX9_row_34 ?_
        refine lv_aload_n hx hb dX9_row_37 rfl (lv_at hl 1 rfl) ?_
        refine va_get (D := G.1) (ci := 8) (v := .int rn) (C := RX9) (T := TX9) (N := 13) hx hb hts in_X9 hown hK.1 hP 0 rfl rfl 9 (by decide) (hts _ q1171) (fun _ h9 => h9) rfl dX9_row_38 ?_
        rw [show (rn : Int32) = nI jn from hjn]
        refine lv_iload_n hx hb dX9_row_41 rfl (lv_at hl 2 rfl) ?_
        refine x_iastn (k := jn) hx hb hK.1 hP hD hS 2 0 rfl rfl (by omega) (by decide) (g := upd ro jn mi) rfl dX9_row_42 (fun H locs hP hD hS => ?_)
        have hP : va_P G.1 vwCl (wM G am ho rn ln pl sd lt (upd ro jn mi) rf nb ++ [(am 1, .inl (G.2 0, 54, .inl (row r)))] ++ [(am 2, .inl (G.2 0, 54, .inl (row rm)))] ++ [(am 3, .inl (G.2 0, 54, .inl (row r2)))] ++ [(am 4, .inl (G.2 0, 54, .inl (row r4)))]) H := hP
        have hD : va_D A (wM G am ho rn ln pl sd lt (upd ro jn mi) rf nb ++ [(am 1, .inl (G.2 0, 54, .inl (row r)))] ++ [(am 2, .inl (G.2 0, 54, .inl (row rm)))] ++ [(am 3, .inl (G.2 0, 54, .inl (row r2)))] ++ [(am 4, .inl (G.2 0, 54, .inl (row r4)))]) := hD
        refine lv_aload_n hx hb dX9_row_43 rfl (lv_at hl 1 rfl) ?_
        refine lv_dup hx hb dX9_row_44 rfl ?_
        refine va_get (D := G.1) (ci := 8) (v := .int rn) (C := RX9) (T := TX9) (N := 13) hx hb hts in_X9 hown hK.1 hP 0 rfl rfl 9 (by decide) (hts _ q1171) (fun _ h9 => h9) rfl dX9_row_45 ?_
        refine lv_iconst (v := 1) hx hb dX9_row_48 (by decide) ?_
        rw [show (1 : Int32) = nI jn from hjn]
        refine x_iadd hx hb dX9_row_49 (v := rn + (nI jn)) rfl ?_
        refine va_put (D := G.1) (ci := 8) (v := .int (rn + (nI jn))) (ty := .int) (C := RX9) (T := TX9) (N := 13) hx hb hts in_X9 tyX9 tyX9_ok nmX9 hown hK.1 hP hD hS 0 rfl rfl 9 (by decide) (hts _ q1171) (fun _ h9 => h9) rfl (by decide +kernel) rfl rfl (Nat.le_of_ble_eq_true rfl) dX9_row_50 (fun H locs hP hD hS => ?_)
        have hP : va_P G.1 vwCl (wM G am ho (rn + (nI jn)) ln pl sd lt (upd ro jn mi) rf nb ++ [(am 1, .inl (G.2 0, 54, .inl (row r)))] ++ [(am 2, .inl (G.2 0, 54, .inl (row rm)))] ++ [(am 3, .inl (G.2 0, 54, .inl (row r2)))] ++ [(am 4, .inl (G.2 0, 54, .inl (row r4)))]) H := hP
        have hD : va_D A (wM G am ho (rn + (nI jn)) ln pl sd lt (upd ro jn mi) rf nb ++ [(am 1, .inl (G.2 0, 54, .inl (row r)))] ++ [(am 2, .inl (G.2 0, 54, .inl (row rm)))] ++ [(am 3, .inl (G.2 0, 54, .inl (row r2)))] ++ [(am 4, .inl (G.2 0, 54, .inl (row r4)))]) := hD
        refine lv_aload_n hx hb dX9_row_53 rfl (lv_at hl 1 rfl) ?_
        refine va_get (D := G.1) (ci := 8) (v := .int (rn + (nI jn))) (C := RX9) (T := TX9) (N := 13) hx hb hts in_X9 hown hK.1 hP 0 rfl rfl 9 (by decide) (hts _ q1171) (fun _ h9 => h9) rfl dX9_row_54 ?_
        have hE : eW (wBy mi.toInt 0 99) (eS (decide (jn < 16)) (-6) 0) = 0 := by rw [eW_0 c_2, eS_t (decide_eq_true (by omega))]
        have hP : va_P G.1 vwCl (wM G am ho (sel (eW (wBy mi.toInt 0 99) (eS (decide (jn < 16)) (-6) 0)) (nI (jn + 1)) rn) ln pl sd lt (sel (eW (wBy mi.toInt 0 99) (eS (decide (jn < 16)) (-6) 0)) (upd ro jn mi) ro) (sel (eW (wBy mi.toInt 0 99) (eS (decide (jn < 16)) (-6) 0)) rf (rfU rf (eW (wBy mi.toInt 0 99) (eS (decide (jn < 16)) (-6) 0)))) nb ++ [(am 1, .inl (G.2 0, 54, .inl (row r)))] ++ [(am 2, .inl (G.2 0, 54, .inl (row rm)))] ++ [(am 3, .inl (G.2 0, 54, .inl (row r2)))] ++ [(am 4, .inl (G.2 0, 54, .inl (row r4)))]) H := by rw [hE]; simp only [sel_0 rfl]; exact hP
        have hD : va_D A (wM G am ho (sel (eW (wBy mi.toInt 0 99) (eS (decide (jn < 16)) (-6) 0)) (nI (jn + 1)) rn) ln pl sd lt (sel (eW (wBy mi.toInt 0 99) (eS (decide (jn < 16)) (-6) 0)) (upd ro jn mi) ro) (sel (eW (wBy mi.toInt 0 99) (eS (decide (jn < 16)) (-6) 0)) rf (rfU rf (eW (wBy mi.toInt 0 99) (eS (decide (jn < 16)) (-6) 0)))) nb ++ [(am 1, .inl (G.2 0, 54, .inl (row r)))] ++ [(am 2, .inl (G.2 0, 54, .inl (row rm)))] ++ [(am 3, .inl (G.2 0, 54, .inl (row r2)))] ++ [(am 4, .inl (G.2 0, 54, .inl (row r4)))]) := by rw [hE]; simp only [sel_0 rfl]; exact hD
        refine hret _ _ _ _ _ _ (rn + (nI jn)) () dX9_row_57 ?_ hP hD hS (Nat.le_of_ble_eq_true rfl) (Nat.le_of_ble_eq_true rfl)
        rw [hE, sel_0 rfl]
      · skip
        exact absurd c_2 c_6
    · skip
      have g_5 := (nI_eq (by omega) (by omega)).mp (show nI jn = nI 16 from c_5)
      refine lv_bipush (v := (-6)) hx hb dX9_row_20 (by decide) ?_
      refine lv_istore_n (lv' := [(2, .int (-6)), (0, .ref (am 0)), (1, .int mi)]) hx hb dX9_row_22 rfl hl (by decide) rfl (fun ls hl => ?_)
      refine lv_iload_n hx hb dX9_row_23 rfl (lv_at hl 0 rfl) ?_
      refine lv_if_eq (tgt := 33) hx hb dX9_row_24 (by decide) (fun c_7 => ?_) (fun c_7 => ?_)
      · skip
        exact absurd c_7 (by decide)
      · skip
        refine lv_aload_n hx hb dX9_row_27 rfl (lv_at hl 1 rfl) ?_
        refine lv_iload_n hx hb dX9_row_28 rfl (lv_at hl 0 rfl) ?_
        refine x_Vi (wN := fun _ => (wM G am ho rn ln pl sd lt ro (rfU rf (-6)) nb ++ [(am 1, .inl (G.2 0, 54, .inl (row r)))] ++ [(am 2, .inl (G.2 0, 54, .inl (row rm)))] ++ [(am 3, .inl (G.2 0, 54, .inl (row r2)))] ++ [(am 4, .inl (G.2 0, 54, .inl (row r4)))])) ⟨C0, hK, hP, hD, hS, hA⟩ 0 rfl (ci := 8) rfl rfl ((m9_no l G am ho rn ln pl sd lt ro rf nb (-6) noOk_k.2.2.2.2)) (cwV 1 hts (lw_V q1206 q1208 qs66 q95 q1209) rfl rfl rfl (by decide +kernel) ⟨Nat.le_of_ble_eq_true rfl, Nat.le_of_ble_eq_true rfl⟩) [0, 1, 2, 3, 4] [1, 3, 5, 7, 9, 10, 12, 14, 16] rfl (fun _ => rfl) rfl rfl hl.1 rfl (Nat.le_of_ble_eq_true rfl) dX9_row_29 ⟨(Nat.le_of_ble_eq_true rfl), (Nat.le_of_ble_eq_true rfl)⟩ (fun r_8 u_8 H locs hw_8 hP hD hS => ?_)
        have hw_8 : ((-6) : Int32) = r_8 := hw_8.symm
        subst hw_8
        have hP : va_P G.1 vwCl (wM G am ho rn ln pl sd lt ro (rfU rf (-6)) nb ++ [(am 1, .inl (G.2 0, 54, .inl (row r)))] ++ [(am 2, .inl (G.2 0, 54, .inl (row rm)))] ++ [(am 3, .inl (G.2 0, 54, .inl (row r2)))] ++ [(am 4, .inl (G.2 0, 54, .inl (row r4)))]) H := hP
        have hD : va_D A (wM G am ho rn ln pl sd lt ro (rfU rf (-6)) nb ++ [(am 1, .inl (G.2 0, 54, .inl (row r)))] ++ [(am 2, .inl (G.2 0, 54, .inl (row rm)))] ++ [(am 3, .inl (G.2 0, 54, .inl (row r2)))] ++ [(am 4, .inl (G.2 0, 54, .inl (row r4)))]) := hD
        have hE : eW (wBy mi.toInt 0 99) (eS (decide (jn < 16)) (-6) 0) = (-6) := by rw [eW_0 c_2, eS_f (decide_eq_false (by omega))]
        have hne : ((-6) : Int32) ≠ 0 := (by decide)
        have hP : va_P G.1 vwCl (wM G am ho (sel (eW (wBy mi.toInt 0 99) (eS (decide (jn < 16)) (-6) 0)) (nI (jn + 1)) rn) ln pl sd lt (sel (eW (wBy mi.toInt 0 99) (eS (decide (jn < 16)) (-6) 0)) (upd ro jn mi) ro) (sel (eW (wBy mi.toInt 0 99) (eS (decide (jn < 16)) (-6) 0)) rf (rfU rf (eW (wBy mi.toInt 0 99) (eS (decide (jn < 16)) (-6) 0)))) nb ++ [(am 1, .inl (G.2 0, 54, .inl (row r)))] ++ [(am 2, .inl (G.2 0, 54, .inl (row rm)))] ++ [(am 3, .inl (G.2 0, 54, .inl (row r2)))] ++ [(am 4, .inl (G.2 0, 54, .inl (row r4)))]) H := by rw [hE]; simp only [sel_n hne]; exact hP
        have hD : va_D A (wM G am ho (sel (eW (wBy mi.toInt 0 99) (eS (decide (jn < 16)) (-6) 0)) (nI (jn + 1)) rn) ln pl sd lt (sel (eW (wBy mi.toInt 0 99) (eS (decide (jn < 16)) (-6) 0)) (upd ro jn mi) ro) (sel (eW (wBy mi.toInt 0 99) (eS (decide (jn < 16)) (-6) 0)) rf (rfU rf (eW (wBy mi.toInt 0 99) (eS (decide (jn < 16)) (-6) 0)))) nb ++ [(am 1, .inl (G.2 0, 54, .inl (row r)))] ++ [(am 2, .inl (G.2 0, 54, .inl (row rm)))] ++ [(am 3, .inl (G.2 0, 54, .inl (row r2)))] ++ [(am 4, .inl (G.2 0, 54, .inl (row r4)))]) := by rw [hE]; simp only [sel_n hne]; exact hD
        refine hret _ _ _ _ _ _ (-6) () dX9_row_32 ?_ hP hD hS (Nat.le_of_ble_eq_true rfl) (Nat.le_of_ble_eq_true rfl)
        rw [hE, sel_n hne]
set_option maxHeartbeats 4000000 in
set_option maxRecDepth 100000 in
theorem n_judge (l : Launch) (G : xG) (am : Nat → Nat) (r rm r2 r4 : Rw) (ho rn ln pl sd : Int32) (lt ro rf nb : Nat → Int32) (hr : Ok r) (hp : r 5 3 = 0)  (jn : Nat) (hjn : rn = nI jn) (hjm : jn ≤ 16) : xCi l G yX9_judge cX9_judge 3 (some .int) ({ frames := 4, cells := 0, slots := 0, locals := 88 } : Room) [.ref (am 0)] (wM G am ho rn ln pl sd lt ro rf nb ++ [(am 1, .inl (G.2 0, 54, .inl (row r)))] ++ [(am 2, .inl (G.2 0, 54, .inl (row rm)))] ++ [(am 3, .inl (G.2 0, 54, .inl (row r2)))] ++ [(am 4, .inl (G.2 0, 54, .inl (row r4)))]) (S := Rw) (fun v _ => v = sel ((0 : Int32)) (jdN r ro jn) ((0 : Int32))) (fun u => (wM G am ho (sel (0 : Int32) 0 rn) ln pl sd lt ro (sel (0 : Int32) rf (rfU rf (0 : Int32))) nb ++ [(am 1, .inl (G.2 0, 54, .inl (row r)))] ++ [(am 2, .inl (G.2 0, 54, .inl (row u)))] ++ [(am 3, .inl (G.2 0, 54, .inl (row r2)))] ++ [(am 4, .inl (G.2 0, 54, .inl (row r4)))])) := by
  refine x_openi (by decide) (Nat.le_of_ble_eq_true rfl) (fun _ _ _ => rfl) ?_
  intro p e s m args below meth c A Q ls C0 hK hP hD hA hl hret
  obtain ⟨hx, hb, hml, hown, hts⟩ := id C0
  have hS : va_S A s.heap s.heap [] := va_S.rf
  have hP : va_P G.1 vwCl (wM G am ho rn ln pl sd lt ro rf nb ++ [(am 1, .inl (G.2 0, 54, .inl (row r)))] ++ [(am 2, .inl (G.2 0, 54, .inl (row rm)))] ++ [(am 3, .inl (G.2 0, 54, .inl (row r2)))] ++ [(am 4, .inl (G.2 0, 54, .inl (row r4)))]) s.heap := hP
  have hD : va_D A (wM G am ho rn ln pl sd lt ro rf nb ++ [(am 1, .inl (G.2 0, 54, .inl (row r)))] ++ [(am 2, .inl (G.2 0, 54, .inl (row rm)))] ++ [(am 3, .inl (G.2 0, 54, .inl (row r2)))] ++ [(am 4, .inl (G.2 0, 54, .inl (row r4)))]) := hD
  have hl : lv_has ls 3 [(0, .ref (am 0))] := hl
  have hr0 := hr.n
  have hN := hr.le
  refine lv_aload_n hx hb dX9_judge_0 rfl (lv_at hl 0 rfl) ?_
  refine va_get (D := G.1) (ci := 8) (v := .int rn) (C := RX9) (T := TX9) (N := 13) hx hb hts in_X9 hown hK.1 hP 0 rfl rfl 9 (by decide) (hts _ q1171) (fun _ h9 => h9) rfl dX9_judge_1 ?_
  rw [show (rn : Int32) = nI jn from hjn]
  refine lv_istore_n (lv' := [(1, .int (nI jn)), (0, .ref (am 0))]) hx hb dX9_judge_4 rfl hl (by decide) rfl (fun ls hl => ?_)
  refine lv_aload_n hx hb dX9_judge_5 rfl (lv_at hl 1 rfl) ?_
  refine lv_iconst (v := 0) hx hb dX9_judge_6 (by decide) ?_
  refine va_put (D := G.1) (ci := 8) (v := .int 0) (ty := .int) (C := RX9) (T := TX9) (N := 13) hx hb hts in_X9 tyX9 tyX9_ok nmX9 hown hK.1 hP hD hS 0 rfl rfl 9 (by decide) (hts _ q1171) (fun _ h9 => h9) rfl (by decide +kernel) rfl rfl (Nat.le_of_ble_eq_true rfl) dX9_judge_7 (fun H locs hP hD hS => ?_)
  have hP : va_P G.1 vwCl (wM G am ho 0 ln pl sd lt ro rf nb ++ [(am 1, .inl (G.2 0, 54, .inl (row r)))] ++ [(am 2, .inl (G.2 0, 54, .inl (row rm)))] ++ [(am 3, .inl (G.2 0, 54, .inl (row r2)))] ++ [(am 4, .inl (G.2 0, 54, .inl (row r4)))]) H := hP
  have hD : va_D A (wM G am ho 0 ln pl sd lt ro rf nb ++ [(am 1, .inl (G.2 0, 54, .inl (row r)))] ++ [(am 2, .inl (G.2 0, 54, .inl (row rm)))] ++ [(am 3, .inl (G.2 0, 54, .inl (row r2)))] ++ [(am 4, .inl (G.2 0, 54, .inl (row r4)))]) := hD
  refine lv_aload_n hx hb dX9_judge_10 rfl (lv_at hl 1 rfl) ?_
  refine va_get (D := G.1) (ci := 8) (v := .ref (am 1)) (C := RX9) (T := TX9) (N := 13) hx hb hts in_X9 hown hK.1 hP 0 rfl rfl 0 (by decide) (hts _ q1162) (fun _ h9 => h9) rfl dX9_judge_11 ?_
  refine lv_aload_n hx hb dX9_judge_14 rfl (lv_at hl 1 rfl) ?_
  refine va_get (D := G.1) (ci := 8) (v := .ref (am 2)) (C := RX9) (T := TX9) (N := 13) hx hb hts in_X9 hown hK.1 hP 0 rfl rfl 1 (by decide) (hts _ q1163) (fun _ h9 => h9) rfl dX9_judge_15 ?_
  refine x_Sv (wN := fun _ => (wM G am ho 0 ln pl sd lt ro rf nb ++ [(am 1, .inl (G.2 0, 54, .inl (row r)))] ++ [(am 2, .inl (G.2 0, 54, .inl (row r)))] ++ [(am 3, .inl (G.2 0, 54, .inl (row r2)))] ++ [(am 4, .inl (G.2 0, 54, .inl (row r4)))])) ⟨C0, hK, hP, hD, hS, hA⟩ ((m9_copies l G (am 1) (am 2) (row r) (row rm))) (va_cwS 2 hts (lw_S q1236 q1237 q95 q1238) rfl rfl rfl (by decide +kernel) ⟨Nat.le_of_ble_eq_true rfl, Nat.le_of_ble_eq_true rfl⟩) [5, 6] [0, 2, 4, 6, 8, 1, 3, 14, 16] rfl (fun _ => rfl) rfl rfl hl.1 rfl (Nat.le_of_ble_eq_true rfl) dX9_judge_18 ⟨(Nat.le_of_ble_eq_true rfl), (Nat.le_of_ble_eq_true rfl)⟩ (fun u_1 H locs hw_1 hP hD hS => ?_)
  have hP : va_P G.1 vwCl (wM G am ho 0 ln pl sd lt ro rf nb ++ [(am 1, .inl (G.2 0, 54, .inl (row r)))] ++ [(am 2, .inl (G.2 0, 54, .inl (row r)))] ++ [(am 3, .inl (G.2 0, 54, .inl (row r2)))] ++ [(am 4, .inl (G.2 0, 54, .inl (row r4)))]) H := hP
  have hD : va_D A (wM G am ho 0 ln pl sd lt ro rf nb ++ [(am 1, .inl (G.2 0, 54, .inl (row r)))] ++ [(am 2, .inl (G.2 0, 54, .inl (row r)))] ++ [(am 3, .inl (G.2 0, 54, .inl (row r2)))] ++ [(am 4, .inl (G.2 0, 54, .inl (row r4)))]) := hD
  refine lv_iconst (v := 0) hx hb dX9_judge_21 (by decide) ?_
  refine lv_istore_n (lv' := [(2, .int 0), (1, .int (nI jn)), (0, .ref (am 0))]) hx hb dX9_judge_22 rfl hl (by decide) rfl (fun ls hl => ?_)
  have loop_23 : ∀ (n : Nat) (k : Nat), (k ≤ jn) → (jn < k + n) → (∀ j, j < k → jdP r ro j = false) → ∀ (H : Heap) (locs : List Loc) (ls : Array Slot), va_P G.1 vwCl (wM G am ho 0 ln pl sd lt ro rf nb ++ [(am 1, .inl (G.2 0, 54, .inl (row r)))] ++ [(am 2, .inl (G.2 0, 54, .inl (row (pMins r k))))] ++ [(am 3, .inl (G.2 0, 54, .inl (row r2)))] ++ [(am 4, .inl (G.2 0, 54, .inl (row r4)))]) H → va_D A (wM G am ho 0 ln pl sd lt ro rf nb ++ [(am 1, .inl (G.2 0, 54, .inl (row r)))] ++ [(am 2, .inl (G.2 0, 54, .inl (row (pMins r k))))] ++ [(am 3, .inl (G.2 0, 54, .inl (row r2)))] ++ [(am 4, .inl (G.2 0, 54, .inl (row r4)))]) → va_S A s.heap H locs → lv_has ls 3 [(2, .int (nI k)), (1, .int (nI jn)), (0, .ref (am 0))] → W p l e ({ frames := 4, cells := 0, slots := 0, locals := 88 } : Room) s m args below meth c H locs 0 0 Q (F0 m 23 ls []) := by
    intro n
    induction n with
    | zero => intro k hi23_0 hi23_1 hi23_2; exact absurd hi23_1 (by omega)
    | succ n ih_23 =>
      intro k hi23_0 hi23_1 hi23_2 H locs ls hP hD hS hl
      refine lv_iload_n hx hb dX9_judge_23 rfl (lv_at hl 0 rfl) ?_
      refine lv_iload_n hx hb dX9_judge_24 rfl (lv_at hl 1 rfl) ?_
      refine lv_icmp_ge (tgt := 57) hx hb dX9_judge_25 (by decide) (fun c_2 => ?_) (fun c_2 => ?_)
      · skip
        have g_2 := (nI_leI (by omega) (by omega)).mp c_2
        refine lv_bipush (v := (-9)) hx hb dX9_judge_57 (by decide) ?_
        have hE : (0 : Int32) = 0 := rfl
        have hP : va_P G.1 vwCl (wM G am ho (sel (0 : Int32) 0 rn) ln pl sd lt ro (sel (0 : Int32) rf (rfU rf (0 : Int32))) nb ++ [(am 1, .inl (G.2 0, 54, .inl (row r)))] ++ [(am 2, .inl (G.2 0, 54, .inl (row (pMins r k))))] ++ [(am 3, .inl (G.2 0, 54, .inl (row r2)))] ++ [(am 4, .inl (G.2 0, 54, .inl (row r4)))]) H := by rw [hE]; simp only [sel_0 rfl]; exact hP
        have hD : va_D A (wM G am ho (sel (0 : Int32) 0 rn) ln pl sd lt ro (sel (0 : Int32) rf (rfU rf (0 : Int32))) nb ++ [(am 1, .inl (G.2 0, 54, .inl (row r)))] ++ [(am 2, .inl (G.2 0, 54, .inl (row (pMins r k))))] ++ [(am 3, .inl (G.2 0, 54, .inl (row r2)))] ++ [(am 4, .inl (G.2 0, 54, .inl (row r4)))]) := by rw [hE]; simp only [sel_0 rfl]; exact hD
        refine hret _ _ _ _ _ _ (-9) (pMins r k) dX9_judge_59 ?_ hP hD hS (Nat.le_of_ble_eq_true rfl) (Nat.le_of_ble_eq_true rfl)
        rw [hE, sel_0 rfl]
        exact jdN_no (fun j hj => hi23_2 j (by omega))
      · skip
        have g_2 := mt (nI_leI (by omega) (by omega)).mpr c_2
        refine lv_aload_n hx hb dX9_judge_28 rfl (lv_at hl 2 rfl) ?_
        refine x_Vi (wN := fun _ => (wM G am ho 0 ln pl sd lt ro rf nb ++ [(am 1, .inl (G.2 0, 54, .inl (row r)))] ++ [(am 2, .inl (G.2 0, 54, .inl (row (pMins r k))))] ++ [(am 3, .inl (G.2 0, 54, .inl (row r2)))] ++ [(am 4, .inl (G.2 0, 54, .inl (row r4)))])) ⟨C0, hK, hP, hD, hS, hA⟩ 0 rfl (ci := 8) rfl rfl ((m9_standingIn l G am r (pMins r k) r2 r4 ho 0 ln pl sd lt ro rf nb hr hp (hr.mins))) (cwV 0 hts (lw_V q1333 q1335 qs76 q95 q1336) rfl rfl rfl (by decide +kernel) ⟨Nat.le_of_ble_eq_true rfl, Nat.le_of_ble_eq_true rfl⟩) [0, 1, 2, 3, 4, 5, 6, 7, 8] [1, 3, 5, 7, 9, 11, 13, 15, 17] rfl (fun _ => rfl) rfl rfl hl.1 rfl (Nat.le_of_ble_eq_true rfl) dX9_judge_29 ⟨(Nat.le_of_ble_eq_true rfl), (Nat.le_of_ble_eq_true rfl)⟩ (fun r_3 u_3 H locs hw_3 hP hD hS => ?_)
        have hw_3 : (pStN (pMins r k) : Int32) = r_3 := hw_3.symm
        subst hw_3
        refine lv_aload_n hx hb dX9_judge_32 rfl (lv_at hl 2 rfl) ?_
        refine va_get (D := G.1) (ci := 8) (v := .ref (am 6)) (C := RX9) (T := TX9) (N := 13) hx hb hts in_X9 hown hK.1 hP 0 rfl rfl 6 (by decide) (hts _ q1168) (fun _ h9 => h9) rfl dX9_judge_33 ?_
        refine lv_iload_n hx hb dX9_judge_36 rfl (lv_at hl 0 rfl) ?_
        refine x_ialdn (k := k) hx hb hK.1 hP 2 0 rfl rfl (by omega) (by decide) (v := ro k) rfl dX9_judge_37 ?_
        refine lv_icmp_eq (tgt := 43) hx hb dX9_judge_38 (by decide) (fun c_4 => ?_) (fun c_4 => ?_)
        · skip
          refine lv_aload_n hx hb dX9_judge_43 rfl (lv_at hl 2 rfl) ?_
          refine va_get (D := G.1) (ci := 8) (v := .ref (am 2)) (C := RX9) (T := TX9) (N := 13) hx hb hts in_X9 hown hK.1 hP 0 rfl rfl 1 (by decide) (hts _ q1163) (fun _ h9 => h9) rfl dX9_judge_44 ?_
          refine lv_iconst (v := 0) hx hb dX9_judge_47 (by decide) ?_
          refine x_Sv (wN := fun _ => (wM G am ho 0 ln pl sd lt ro rf nb ++ [(am 1, .inl (G.2 0, 54, .inl (row r)))] ++ [(am 2, .inl (G.2 0, 54, .inl (row (pMin (pMins r k) 0))))] ++ [(am 3, .inl (G.2 0, 54, .inl (row r2)))] ++ [(am 4, .inl (G.2 0, 54, .inl (row r4)))])) ⟨C0, hK, hP, hD, hS, hA⟩ ((m9_minute l G (am 2) (pMins r k) (hr.mins) 0)) (va_cwS 2 hts (lw_S q1275 q1276 q95 q1277) rfl rfl rfl (by decide +kernel) ⟨Nat.le_of_ble_eq_true rfl, Nat.le_of_ble_eq_true rfl⟩) [6] [0, 2, 4, 6, 8, 10, 1, 14, 16] rfl (fun _ => rfl) rfl rfl hl.1 rfl (Nat.le_of_ble_eq_true rfl) dX9_judge_48 ⟨(Nat.le_of_ble_eq_true rfl), (Nat.le_of_ble_eq_true rfl)⟩ (fun u_5 H locs hw_5 hP hD hS => ?_)
          have hP : va_P G.1 vwCl (wM G am ho 0 ln pl sd lt ro rf nb ++ [(am 1, .inl (G.2 0, 54, .inl (row r)))] ++ [(am 2, .inl (G.2 0, 54, .inl (row (pMin (pMins r k) 0))))] ++ [(am 3, .inl (G.2 0, 54, .inl (row r2)))] ++ [(am 4, .inl (G.2 0, 54, .inl (row r4)))]) H := hP
          have hD : va_D A (wM G am ho 0 ln pl sd lt ro rf nb ++ [(am 1, .inl (G.2 0, 54, .inl (row r)))] ++ [(am 2, .inl (G.2 0, 54, .inl (row (pMin (pMins r k) 0))))] ++ [(am 3, .inl (G.2 0, 54, .inl (row r2)))] ++ [(am 4, .inl (G.2 0, 54, .inl (row r4)))]) := hD
          refine lv_iinc (v := nI (k + 1)) (lv' := [(2, .int (nI (k + 1))), (1, .int (nI jn)), (0, .ref (am 0))]) hx hb dX9_judge_51 hl (k := 0) rfl (x_inc1 _) (by decide) rfl (fun ls hl => ?_)
          refine lv_goto (tgt := 23) hx hb dX9_judge_54 (by decide) ?_
          exact ih_23 (k + 1) (by omega) (by omega) (fun j hj => if q : j = k then q ▸ (decide_eq_false (fun z => z c_4)) else hi23_2 j (by omega)) _ _ _ hP hD hS (lv_sub hl [0, 1, 2] rfl)
        · skip
          refine lv_iload_n hx hb dX9_judge_41 rfl (lv_at hl 0 rfl) ?_
          have hE : (0 : Int32) = 0 := rfl
          have hP : va_P G.1 vwCl (wM G am ho (sel (0 : Int32) 0 rn) ln pl sd lt ro (sel (0 : Int32) rf (rfU rf (0 : Int32))) nb ++ [(am 1, .inl (G.2 0, 54, .inl (row r)))] ++ [(am 2, .inl (G.2 0, 54, .inl (row (pMins r k))))] ++ [(am 3, .inl (G.2 0, 54, .inl (row r2)))] ++ [(am 4, .inl (G.2 0, 54, .inl (row r4)))]) H := by rw [hE]; simp only [sel_0 rfl]; exact hP
          have hD : va_D A (wM G am ho (sel (0 : Int32) 0 rn) ln pl sd lt ro (sel (0 : Int32) rf (rfU rf (0 : Int32))) nb ++ [(am 1, .inl (G.2 0, 54, .inl (row r)))] ++ [(am 2, .inl (G.2 0, 54, .inl (row (pMins r k))))] ++ [(am 3, .inl (G.2 0, 54, .inl (row r2)))] ++ [(am 4, .inl (G.2 0, 54, .inl (row r4)))]) := by rw [hE]; simp only [sel_0 rfl]; exact hD
          refine hret _ _ _ _ _ _ (nI k) (pMins r k) dX9_judge_42 ?_ hP hD hS (Nat.le_of_ble_eq_true rfl) (Nat.le_of_ble_eq_true rfl)
          rw [hE, sel_0 rfl]
          exact jdN_at (by omega) hi23_2 c_4
  exact loop_23 (jn + 1) 0 (by omega) (by omega) (fun j hj => absurd hj (Nat.not_lt_zero j)) _ _ _ hP hD hS (lv_sub hl [0, 1, 2] rfl)
set_option maxHeartbeats 4000000 in
set_option maxRecDepth 100000 in
theorem n_clear (l : Launch) (G : xG) (am : Nat → Nat) (r rm r2 r4 : Rw) (ho rn ln pl sd : Int32) (lt ro rf nb : Nat → Int32) (hr : Ok r) (hp : r 5 3 = 0) : xCi l G yX9_clear cX9_clear 2 (some .int) ({ frames := 0, cells := 0, slots := 0, locals := 0 } : Room) [.ref (am 0)] (wM G am ho rn ln pl sd lt ro rf nb ++ [(am 1, .inl (G.2 0, 54, .inl (row r)))] ++ [(am 2, .inl (G.2 0, 54, .inl (row rm)))] ++ [(am 3, .inl (G.2 0, 54, .inl (row r2)))] ++ [(am 4, .inl (G.2 0, 54, .inl (row r4)))]) (S := Unit) (fun v _ => v = sel ((0 : Int32)) (rn) ((0 : Int32))) (fun _ => (wM G am ho (sel (0 : Int32) 0 rn) ln pl sd lt ro (sel (0 : Int32) rf (rfU rf (0 : Int32))) nb ++ [(am 1, .inl (G.2 0, 54, .inl (row r)))] ++ [(am 2, .inl (G.2 0, 54, .inl (row rm)))] ++ [(am 3, .inl (G.2 0, 54, .inl (row r2)))] ++ [(am 4, .inl (G.2 0, 54, .inl (row r4)))])) := by
  refine x_openi (by decide) (Nat.le_of_ble_eq_true rfl) (fun _ _ _ => rfl) ?_
  intro p e s m args below meth c A Q ls C0 hK hP hD hA hl hret
  obtain ⟨hx, hb, hml, hown, hts⟩ := id C0
  have hS : va_S A s.heap s.heap [] := va_S.rf
  have hP : va_P G.1 vwCl (wM G am ho rn ln pl sd lt ro rf nb ++ [(am 1, .inl (G.2 0, 54, .inl (row r)))] ++ [(am 2, .inl (G.2 0, 54, .inl (row rm)))] ++ [(am 3, .inl (G.2 0, 54, .inl (row r2)))] ++ [(am 4, .inl (G.2 0, 54, .inl (row r4)))]) s.heap := hP
  have hD : va_D A (wM G am ho rn ln pl sd lt ro rf nb ++ [(am 1, .inl (G.2 0, 54, .inl (row r)))] ++ [(am 2, .inl (G.2 0, 54, .inl (row rm)))] ++ [(am 3, .inl (G.2 0, 54, .inl (row r2)))] ++ [(am 4, .inl (G.2 0, 54, .inl (row r4)))]) := hD
  have hl : lv_has ls 2 [(0, .ref (am 0))] := hl
  have hr0 := hr.n
  have hN := hr.le
  refine lv_aload_n hx hb dX9_clear_0 rfl (lv_at hl 0 rfl) ?_
  refine va_get (D := G.1) (ci := 8) (v := .int rn) (C := RX9) (T := TX9) (N := 13) hx hb hts in_X9 hown hK.1 hP 0 rfl rfl 9 (by decide) (hts _ q1171) (fun _ h9 => h9) rfl dX9_clear_1 ?_
  refine lv_istore_n (lv' := [(1, .int rn), (0, .ref (am 0))]) hx hb dX9_clear_4 rfl hl (by decide) rfl (fun ls hl => ?_)
  refine lv_aload_n hx hb dX9_clear_5 rfl (lv_at hl 1 rfl) ?_
  refine lv_iconst (v := 0) hx hb dX9_clear_6 (by decide) ?_
  refine va_put (D := G.1) (ci := 8) (v := .int 0) (ty := .int) (C := RX9) (T := TX9) (N := 13) hx hb hts in_X9 tyX9 tyX9_ok nmX9 hown hK.1 hP hD hS 0 rfl rfl 9 (by decide) (hts _ q1171) (fun _ h9 => h9) rfl (by decide +kernel) rfl rfl (Nat.le_of_ble_eq_true rfl) dX9_clear_7 (fun H locs hP hD hS => ?_)
  have hP : va_P G.1 vwCl (wM G am ho 0 ln pl sd lt ro rf nb ++ [(am 1, .inl (G.2 0, 54, .inl (row r)))] ++ [(am 2, .inl (G.2 0, 54, .inl (row rm)))] ++ [(am 3, .inl (G.2 0, 54, .inl (row r2)))] ++ [(am 4, .inl (G.2 0, 54, .inl (row r4)))]) H := hP
  have hD : va_D A (wM G am ho 0 ln pl sd lt ro rf nb ++ [(am 1, .inl (G.2 0, 54, .inl (row r)))] ++ [(am 2, .inl (G.2 0, 54, .inl (row rm)))] ++ [(am 3, .inl (G.2 0, 54, .inl (row r2)))] ++ [(am 4, .inl (G.2 0, 54, .inl (row r4)))]) := hD
  refine lv_iload_n hx hb dX9_clear_10 rfl (lv_at hl 0 rfl) ?_
  have hE : (0 : Int32) = 0 := rfl
  have hP : va_P G.1 vwCl (wM G am ho (sel (0 : Int32) 0 rn) ln pl sd lt ro (sel (0 : Int32) rf (rfU rf (0 : Int32))) nb ++ [(am 1, .inl (G.2 0, 54, .inl (row r)))] ++ [(am 2, .inl (G.2 0, 54, .inl (row rm)))] ++ [(am 3, .inl (G.2 0, 54, .inl (row r2)))] ++ [(am 4, .inl (G.2 0, 54, .inl (row r4)))]) H := by rw [hE]; simp only [sel_0 rfl]; exact hP
  have hD : va_D A (wM G am ho (sel (0 : Int32) 0 rn) ln pl sd lt ro (sel (0 : Int32) rf (rfU rf (0 : Int32))) nb ++ [(am 1, .inl (G.2 0, 54, .inl (row r)))] ++ [(am 2, .inl (G.2 0, 54, .inl (row rm)))] ++ [(am 3, .inl (G.2 0, 54, .inl (row r2)))] ++ [(am 4, .inl (G.2 0, 54, .inl (row r4)))]) := by rw [hE]; simp only [sel_0 rfl]; exact hD
  refine hret _ _ _ _ _ _ rn () dX9_clear_11 ?_ hP hD hS (Nat.le_of_ble_eq_true rfl) (Nat.le_of_ble_eq_true rfl)
  rw [hE, sel_0 rfl]
set_option maxHeartbeats 4000000 in
set_option maxRecDepth 100000 in
theorem n_image (l : Launch) (G : xG) (am : Nat → Nat) (r rm r2 r4 : Rw) (ho rn ln pl sd : Int32) (lt ro rf nb : Nat → Int32) (hr : Ok r) (hp : r 5 3 = 0) : xCi l G yX9_image cX9_image 1 (some .int) ({ frames := 1, cells := 0, slots := 0, locals := 22 } : Room) [.ref (am 0)] (wM G am ho rn ln pl sd lt ro rf nb ++ [(am 1, .inl (G.2 0, 54, .inl (row r)))] ++ [(am 2, .inl (G.2 0, 54, .inl (row rm)))] ++ [(am 3, .inl (G.2 0, 54, .inl (row r2)))] ++ [(am 4, .inl (G.2 0, 54, .inl (row r4)))]) (S := Unit) (fun v _ => v = sel ((0 : Int32)) (r 5 1) ((0 : Int32))) (fun _ => (wM G am (sel (0 : Int32) 1 ho) rn ln pl sd lt ro (sel (0 : Int32) rf (rfU rf (0 : Int32))) nb ++ [(am 1, .inl (G.2 0, 54, .inl (row r)))] ++ [(am 2, .inl (G.2 0, 54, .inl (row rm)))] ++ [(am 3, .inl (G.2 0, 54, .inl (row (sel (0 : Int32) r r2))))] ++ [(am 4, .inl (G.2 0, 54, .inl (row r4)))])) := by
  refine x_openi (by decide) (Nat.le_of_ble_eq_true rfl) (fun _ _ _ => rfl) ?_
  intro p e s m args below meth c A Q ls C0 hK hP hD hA hl hret
  obtain ⟨hx, hb, hml, hown, hts⟩ := id C0
  have hS : va_S A s.heap s.heap [] := va_S.rf
  have hP : va_P G.1 vwCl (wM G am ho rn ln pl sd lt ro rf nb ++ [(am 1, .inl (G.2 0, 54, .inl (row r)))] ++ [(am 2, .inl (G.2 0, 54, .inl (row rm)))] ++ [(am 3, .inl (G.2 0, 54, .inl (row r2)))] ++ [(am 4, .inl (G.2 0, 54, .inl (row r4)))]) s.heap := hP
  have hD : va_D A (wM G am ho rn ln pl sd lt ro rf nb ++ [(am 1, .inl (G.2 0, 54, .inl (row r)))] ++ [(am 2, .inl (G.2 0, 54, .inl (row rm)))] ++ [(am 3, .inl (G.2 0, 54, .inl (row r2)))] ++ [(am 4, .inl (G.2 0, 54, .inl (row r4)))]) := hD
  have hl : lv_has ls 1 [(0, .ref (am 0))] := hl
  have hr0 := hr.n
  have hN := hr.le
  refine lv_aload_n hx hb dX9_image_0 rfl (lv_at hl 0 rfl) ?_
  refine va_get (D := G.1) (ci := 8) (v := .ref (am 1)) (C := RX9) (T := TX9) (N := 13) hx hb hts in_X9 hown hK.1 hP 0 rfl rfl 0 (by decide) (hts _ q1162) (fun _ h9 => h9) rfl dX9_image_1 ?_
  refine lv_aload_n hx hb dX9_image_4 rfl (lv_at hl 0 rfl) ?_
  refine va_get (D := G.1) (ci := 8) (v := .ref (am 3)) (C := RX9) (T := TX9) (N := 13) hx hb hts in_X9 hown hK.1 hP 0 rfl rfl 2 (by decide) (hts _ q1164) (fun _ h9 => h9) rfl dX9_image_5 ?_
  refine x_Sv (wN := fun _ => (wM G am ho rn ln pl sd lt ro rf nb ++ [(am 1, .inl (G.2 0, 54, .inl (row r)))] ++ [(am 2, .inl (G.2 0, 54, .inl (row rm)))] ++ [(am 3, .inl (G.2 0, 54, .inl (row r)))] ++ [(am 4, .inl (G.2 0, 54, .inl (row r4)))])) ⟨C0, hK, hP, hD, hS, hA⟩ ((m9_copies l G (am 1) (am 3) (row r) (row r2))) (va_cwS 2 hts (lw_S q1236 q1237 q95 q1238) rfl rfl rfl (by decide +kernel) ⟨Nat.le_of_ble_eq_true rfl, Nat.le_of_ble_eq_true rfl⟩) [5, 7] [0, 2, 4, 6, 8, 1, 12, 3, 16] rfl (fun _ => rfl) rfl rfl hl.1 rfl (Nat.le_of_ble_eq_true rfl) dX9_image_8 ⟨(Nat.le_of_ble_eq_true rfl), (Nat.le_of_ble_eq_true rfl)⟩ (fun u_1 H locs hw_1 hP hD hS => ?_)
  have hP : va_P G.1 vwCl (wM G am ho rn ln pl sd lt ro rf nb ++ [(am 1, .inl (G.2 0, 54, .inl (row r)))] ++ [(am 2, .inl (G.2 0, 54, .inl (row rm)))] ++ [(am 3, .inl (G.2 0, 54, .inl (row r)))] ++ [(am 4, .inl (G.2 0, 54, .inl (row r4)))]) H := hP
  have hD : va_D A (wM G am ho rn ln pl sd lt ro rf nb ++ [(am 1, .inl (G.2 0, 54, .inl (row r)))] ++ [(am 2, .inl (G.2 0, 54, .inl (row rm)))] ++ [(am 3, .inl (G.2 0, 54, .inl (row r)))] ++ [(am 4, .inl (G.2 0, 54, .inl (row r4)))]) := hD
  refine lv_aload_n hx hb dX9_image_11 rfl (lv_at hl 0 rfl) ?_
  refine lv_iconst (v := 1) hx hb dX9_image_12 (by decide) ?_
  refine va_put (D := G.1) (ci := 8) (v := .int 1) (ty := .boolean) (C := RX9) (T := TX9) (N := 13) hx hb hts in_X9 tyX9 tyX9_ok nmX9 hown hK.1 hP hD hS 0 rfl rfl 4 (by decide) (hts _ q1166) (fun _ h9 => h9) rfl (by decide +kernel) (by decide) (by decide) (Nat.le_of_ble_eq_true rfl) dX9_image_13 (fun H locs hP hD hS => ?_)
  have hP : va_P G.1 vwCl (wM G am 1 rn ln pl sd lt ro rf nb ++ [(am 1, .inl (G.2 0, 54, .inl (row r)))] ++ [(am 2, .inl (G.2 0, 54, .inl (row rm)))] ++ [(am 3, .inl (G.2 0, 54, .inl (row r)))] ++ [(am 4, .inl (G.2 0, 54, .inl (row r4)))]) H := hP
  have hD : va_D A (wM G am 1 rn ln pl sd lt ro rf nb ++ [(am 1, .inl (G.2 0, 54, .inl (row r)))] ++ [(am 2, .inl (G.2 0, 54, .inl (row rm)))] ++ [(am 3, .inl (G.2 0, 54, .inl (row r)))] ++ [(am 4, .inl (G.2 0, 54, .inl (row r4)))]) := hD
  refine lv_aload_n hx hb dX9_image_16 rfl (lv_at hl 0 rfl) ?_
  refine va_get (D := G.1) (ci := 8) (v := .ref (am 1)) (C := RX9) (T := TX9) (N := 13) hx hb hts in_X9 hown hK.1 hP 0 rfl rfl 0 (by decide) (hts _ q1162) (fun _ h9 => h9) rfl dX9_image_17 ?_
  refine lv_iconst (v := 1) hx hb dX9_image_20 (by decide) ?_
  refine x_ialdn (k := 1) hx hb hK.1 hP 5 0 rfl rfl (by decide) (by decide) (v := r 5 1) rfl dX9_image_21 ?_
  have hE : (0 : Int32) = 0 := rfl
  have hP : va_P G.1 vwCl (wM G am (sel (0 : Int32) 1 ho) rn ln pl sd lt ro (sel (0 : Int32) rf (rfU rf (0 : Int32))) nb ++ [(am 1, .inl (G.2 0, 54, .inl (row r)))] ++ [(am 2, .inl (G.2 0, 54, .inl (row rm)))] ++ [(am 3, .inl (G.2 0, 54, .inl (row (sel (0 : Int32) r r2))))] ++ [(am 4, .inl (G.2 0, 54, .inl (row r4)))]) H := by rw [hE]; simp only [sel_0 rfl]; exact hP
  have hD : va_D A (wM G am (sel (0 : Int32) 1 ho) rn ln pl sd lt ro (sel (0 : Int32) rf (rfU rf (0 : Int32))) nb ++ [(am 1, .inl (G.2 0, 54, .inl (row r)))] ++ [(am 2, .inl (G.2 0, 54, .inl (row rm)))] ++ [(am 3, .inl (G.2 0, 54, .inl (row (sel (0 : Int32) r r2))))] ++ [(am 4, .inl (G.2 0, 54, .inl (row r4)))]) := by rw [hE]; simp only [sel_0 rfl]; exact hD
  refine hret _ _ _ _ _ _ (r 5 1) () dX9_image_22 ?_ hP hD hS (Nat.le_of_ble_eq_true rfl) (Nat.le_of_ble_eq_true rfl)
  rw [hE, sel_0 rfl]
set_option maxHeartbeats 4000000 in
set_option maxRecDepth 100000 in
theorem n_on (l : Launch) (G : xG) (am : Nat → Nat) (r rm r2 r4 : Rw) (ho rn ln pl sd : Int32) (lt ro rf nb : Nat → Int32) (hr : Ok r) (hp : r 5 3 = 0)  (hB : Bool) (hho : ho = bI hB) : xCi l G yX9_on cX9_on 1 (some .int) ({ frames := 1, cells := 0, slots := 0, locals := 22 } : Room) [.ref (am 0)] (wM G am ho rn ln pl sd lt ro rf nb ++ [(am 1, .inl (G.2 0, 54, .inl (row r)))] ++ [(am 2, .inl (G.2 0, 54, .inl (row rm)))] ++ [(am 3, .inl (G.2 0, 54, .inl (row r2)))] ++ [(am 4, .inl (G.2 0, 54, .inl (row r4)))]) (S := Unit) (fun v _ => v = sel (eS hB (-3) 0) (r2 5 1) (eS hB (-3) 0)) (fun _ => (wM G am ho rn ln pl sd lt ro (sel (eS hB (-3) 0) rf (rfU rf (eS hB (-3) 0))) nb ++ [(am 1, .inl (G.2 0, 54, .inl (row (sel (eS hB (-3) 0) r2 r))))] ++ [(am 2, .inl (G.2 0, 54, .inl (row rm)))] ++ [(am 3, .inl (G.2 0, 54, .inl (row r2)))] ++ [(am 4, .inl (G.2 0, 54, .inl (row r4)))])) := by
  refine x_openi (by decide) (Nat.le_of_ble_eq_true rfl) (fun _ _ _ => rfl) ?_
  intro p e s m args below meth c A Q ls C0 hK hP hD hA hl hret
  obtain ⟨hx, hb, hml, hown, hts⟩ := id C0
  have hS : va_S A s.heap s.heap [] := va_S.rf
  have hP : va_P G.1 vwCl (wM G am ho rn ln pl sd lt ro rf nb ++ [(am 1, .inl (G.2 0, 54, .inl (row r)))] ++ [(am 2, .inl (G.2 0, 54, .inl (row rm)))] ++ [(am 3, .inl (G.2 0, 54, .inl (row r2)))] ++ [(am 4, .inl (G.2 0, 54, .inl (row r4)))]) s.heap := hP
  have hD : va_D A (wM G am ho rn ln pl sd lt ro rf nb ++ [(am 1, .inl (G.2 0, 54, .inl (row r)))] ++ [(am 2, .inl (G.2 0, 54, .inl (row rm)))] ++ [(am 3, .inl (G.2 0, 54, .inl (row r2)))] ++ [(am 4, .inl (G.2 0, 54, .inl (row r4)))]) := hD
  have hl : lv_has ls 1 [(0, .ref (am 0))] := hl
  have hr0 := hr.n
  have hN := hr.le
  refine lv_aload_n hx hb dX9_on_0 rfl (lv_at hl 0 rfl) ?_
  refine va_get (D := G.1) (ci := 8) (v := .int ho) (C := RX9) (T := TX9) (N := 13) hx hb hts in_X9 hown hK.1 hP 0 rfl rfl 4 (by decide) (hts _ q1166) (fun _ h9 => h9) rfl dX9_on_1 ?_
  rw [show (ho : Int32) = bI hB from hho]
  refine lv_if_ne (tgt := 14) hx hb dX9_on_4 (by decide) (fun c_1 => ?_) (fun c_1 => ?_)
  · skip
    refine lv_aload_n hx hb dX9_on_14 rfl (lv_at hl 0 rfl) ?_
    refine va_get (D := G.1) (ci := 8) (v := .ref (am 3)) (C := RX9) (T := TX9) (N := 13) hx hb hts in_X9 hown hK.1 hP 0 rfl rfl 2 (by decide) (hts _ q1164) (fun _ h9 => h9) rfl dX9_on_15 ?_
    refine lv_aload_n hx hb dX9_on_18 rfl (lv_at hl 0 rfl) ?_
    refine va_get (D := G.1) (ci := 8) (v := .ref (am 1)) (C := RX9) (T := TX9) (N := 13) hx hb hts in_X9 hown hK.1 hP 0 rfl rfl 0 (by decide) (hts _ q1162) (fun _ h9 => h9) rfl dX9_on_19 ?_
    refine x_Sv (wN := fun _ => (wM G am ho rn ln pl sd lt ro rf nb ++ [(am 1, .inl (G.2 0, 54, .inl (row r2)))] ++ [(am 2, .inl (G.2 0, 54, .inl (row rm)))] ++ [(am 3, .inl (G.2 0, 54, .inl (row r2)))] ++ [(am 4, .inl (G.2 0, 54, .inl (row r4)))])) ⟨C0, hK, hP, hD, hS, hA⟩ ((m9_copies l G (am 3) (am 1) (row r2) (row r))) (va_cwS 2 hts (lw_S q1236 q1237 q95 q1238) rfl rfl rfl (by decide +kernel) ⟨Nat.le_of_ble_eq_true rfl, Nat.le_of_ble_eq_true rfl⟩) [7, 5] [0, 2, 4, 6, 8, 3, 12, 1, 16] rfl (fun _ => rfl) rfl rfl hl.1 rfl (Nat.le_of_ble_eq_true rfl) dX9_on_22 ⟨(Nat.le_of_ble_eq_true rfl), (Nat.le_of_ble_eq_true rfl)⟩ (fun u_2 H locs hw_2 hP hD hS => ?_)
    have hP : va_P G.1 vwCl (wM G am ho rn ln pl sd lt ro rf nb ++ [(am 1, .inl (G.2 0, 54, .inl (row r2)))] ++ [(am 2, .inl (G.2 0, 54, .inl (row rm)))] ++ [(am 3, .inl (G.2 0, 54, .inl (row r2)))] ++ [(am 4, .inl (G.2 0, 54, .inl (row r4)))]) H := hP
    have hD : va_D A (wM G am ho rn ln pl sd lt ro rf nb ++ [(am 1, .inl (G.2 0, 54, .inl (row r2)))] ++ [(am 2, .inl (G.2 0, 54, .inl (row rm)))] ++ [(am 3, .inl (G.2 0, 54, .inl (row r2)))] ++ [(am 4, .inl (G.2 0, 54, .inl (row r4)))]) := hD
    refine lv_aload_n hx hb dX9_on_25 rfl (lv_at hl 0 rfl) ?_
    refine va_get (D := G.1) (ci := 8) (v := .ref (am 1)) (C := RX9) (T := TX9) (N := 13) hx hb hts in_X9 hown hK.1 hP 0 rfl rfl 0 (by decide) (hts _ q1162) (fun _ h9 => h9) rfl dX9_on_26 ?_
    refine lv_iconst (v := 1) hx hb dX9_on_29 (by decide) ?_
    refine x_ialdn (k := 1) hx hb hK.1 hP 5 0 rfl rfl (by decide) (by decide) (v := r2 5 1) rfl dX9_on_30 ?_
    have hE : eS hB (-3) 0 = 0 := by rw [eS_t (show hB = true from (by have h9 := c_1; simpa [bI_0] using h9))]
    have hP : va_P G.1 vwCl (wM G am ho rn ln pl sd lt ro (sel (eS hB (-3) 0) rf (rfU rf (eS hB (-3) 0))) nb ++ [(am 1, .inl (G.2 0, 54, .inl (row (sel (eS hB (-3) 0) r2 r))))] ++ [(am 2, .inl (G.2 0, 54, .inl (row rm)))] ++ [(am 3, .inl (G.2 0, 54, .inl (row r2)))] ++ [(am 4, .inl (G.2 0, 54, .inl (row r4)))]) H := by rw [hE]; simp only [sel_0 rfl]; exact hP
    have hD : va_D A (wM G am ho rn ln pl sd lt ro (sel (eS hB (-3) 0) rf (rfU rf (eS hB (-3) 0))) nb ++ [(am 1, .inl (G.2 0, 54, .inl (row (sel (eS hB (-3) 0) r2 r))))] ++ [(am 2, .inl (G.2 0, 54, .inl (row rm)))] ++ [(am 3, .inl (G.2 0, 54, .inl (row r2)))] ++ [(am 4, .inl (G.2 0, 54, .inl (row r4)))]) := by rw [hE]; simp only [sel_0 rfl]; exact hD
    refine hret _ _ _ _ _ _ (r2 5 1) () dX9_on_31 ?_ hP hD hS (Nat.le_of_ble_eq_true rfl) (Nat.le_of_ble_eq_true rfl)
    rw [hE, sel_0 rfl]
  · skip
    refine lv_aload_n hx hb dX9_on_7 rfl (lv_at hl 0 rfl) ?_
    refine lv_bipush (v := (-3)) hx hb dX9_on_8 (by decide) ?_
    refine x_Vi (wN := fun _ => (wM G am ho rn ln pl sd lt ro (rfU rf (-3)) nb ++ [(am 1, .inl (G.2 0, 54, .inl (row r)))] ++ [(am 2, .inl (G.2 0, 54, .inl (row rm)))] ++ [(am 3, .inl (G.2 0, 54, .inl (row r2)))] ++ [(am 4, .inl (G.2 0, 54, .inl (row r4)))])) ⟨C0, hK, hP, hD, hS, hA⟩ 0 rfl (ci := 8) rfl rfl ((m9_no l G am ho rn ln pl sd lt ro rf nb (-3) noOk_k.2.2.1)) (cwV 1 hts (lw_V q1206 q1208 qs66 q95 q1209) rfl rfl rfl (by decide +kernel) ⟨Nat.le_of_ble_eq_true rfl, Nat.le_of_ble_eq_true rfl⟩) [0, 1, 2, 3, 4] [1, 3, 5, 7, 9, 10, 12, 14, 16] rfl (fun _ => rfl) rfl rfl hl.1 rfl (Nat.le_of_ble_eq_true rfl) dX9_on_10 ⟨(Nat.le_of_ble_eq_true rfl), (Nat.le_of_ble_eq_true rfl)⟩ (fun r_3 u_3 H locs hw_3 hP hD hS => ?_)
    have hw_3 : ((-3) : Int32) = r_3 := hw_3.symm
    subst hw_3
    have hP : va_P G.1 vwCl (wM G am ho rn ln pl sd lt ro (rfU rf (-3)) nb ++ [(am 1, .inl (G.2 0, 54, .inl (row r)))] ++ [(am 2, .inl (G.2 0, 54, .inl (row rm)))] ++ [(am 3, .inl (G.2 0, 54, .inl (row r2)))] ++ [(am 4, .inl (G.2 0, 54, .inl (row r4)))]) H := hP
    have hD : va_D A (wM G am ho rn ln pl sd lt ro (rfU rf (-3)) nb ++ [(am 1, .inl (G.2 0, 54, .inl (row r)))] ++ [(am 2, .inl (G.2 0, 54, .inl (row rm)))] ++ [(am 3, .inl (G.2 0, 54, .inl (row r2)))] ++ [(am 4, .inl (G.2 0, 54, .inl (row r4)))]) := hD
    have hE : eS hB (-3) 0 = (-3) := by rw [eS_f (show hB = false from (by have h9 := c_1; simpa [bI_0] using h9))]
    have hne : ((-3) : Int32) ≠ 0 := (by decide)
    have hP : va_P G.1 vwCl (wM G am ho rn ln pl sd lt ro (sel (eS hB (-3) 0) rf (rfU rf (eS hB (-3) 0))) nb ++ [(am 1, .inl (G.2 0, 54, .inl (row (sel (eS hB (-3) 0) r2 r))))] ++ [(am 2, .inl (G.2 0, 54, .inl (row rm)))] ++ [(am 3, .inl (G.2 0, 54, .inl (row r2)))] ++ [(am 4, .inl (G.2 0, 54, .inl (row r4)))]) H := by rw [hE]; simp only [sel_n hne]; exact hP
    have hD : va_D A (wM G am ho rn ln pl sd lt ro (sel (eS hB (-3) 0) rf (rfU rf (eS hB (-3) 0))) nb ++ [(am 1, .inl (G.2 0, 54, .inl (row (sel (eS hB (-3) 0) r2 r))))] ++ [(am 2, .inl (G.2 0, 54, .inl (row rm)))] ++ [(am 3, .inl (G.2 0, 54, .inl (row r2)))] ++ [(am 4, .inl (G.2 0, 54, .inl (row r4)))]) := by rw [hE]; simp only [sel_n hne]; exact hD
    refine hret _ _ _ _ _ _ (-3) () dX9_on_13 ?_ hP hD hS (Nat.le_of_ble_eq_true rfl) (Nat.le_of_ble_eq_true rfl)
    rw [hE, sel_n hne]
theorem cnt_a {r : Rw} {rn ln : Int32} {rf : Nat → Int32} {w : Int32} (h : inR w 11 16 = true) : rf (ix (w - 10)) = pCnt r rn ln rf w := by
  have h1 := of_decide_eq_true h
  have ne : ∀ k : Nat, k ≤ 7 → ¬ w = nI k := fun k hk q => by rw [q, nI_toInt (by omega)] at h1; omega
  unfold pCnt
  rw [if_neg (ne 0 (by omega)), if_neg (ne 1 (by omega)), if_neg (ne 2 (by omega)), if_neg (ne 3 (by omega)), if_neg (ne 4 (by omega)), if_neg (ne 5 (by omega)), if_neg (ne 6 (by omega)), if_neg (ne 7 (by omega)), if_pos h]
theorem cnt_b {r : Rw} {rn ln : Int32} {rf : Nat → Int32} {w : Int32} (h : inR w 2 4 = true) : pSet r (w - 2) = pCnt r rn ln rf w := by
  have h1 := of_decide_eq_true h
  have h2 := Int32.toInt_lt w
  have hw : w = 2 ∨ w = 3 ∨ w = 4 := by
    rcases (show w.toInt = 2 ∨ w.toInt = 3 ∨ w.toInt = 4 by omega) with e | e | e
    · exact Or.inl (Int32.toInt_inj.mp (by rw [e]; rfl))
    · exact Or.inr (Or.inl (Int32.toInt_inj.mp (by rw [e]; rfl)))
    · exact Or.inr (Or.inr (Int32.toInt_inj.mp (by rw [e]; rfl)))
  rcases hw with e | e | e <;> subst e <;> rfl
theorem cnt_c {r : Rw} {rn ln : Int32} {rf : Nat → Int32} {w : Int32} (h : ¬ inR w 11 16 = true) (e : w.toInt < 0 ∨ (7 : Int) < w.toInt) : -9 = pCnt r rn ln rf w := by
  have ne : ∀ k : Nat, k ≤ 7 → ¬ w = nI k := fun k hk => cn_out e hk
  unfold pCnt
  rw [if_neg (ne 0 (by omega)), if_neg (ne 1 (by omega)), if_neg (ne 2 (by omega)), if_neg (ne 3 (by omega)), if_neg (ne 4 (by omega)), if_neg (ne 5 (by omega)), if_neg (ne 6 (by omega)), if_neg (ne 7 (by omega)), if_neg h]
set_option maxHeartbeats 4000000 in
set_option maxRecDepth 100000 in
theorem n_count (l : Launch) (G : xG) (am : Nat → Nat) (r rm r2 r4 : Rw) (ho rn ln pl sd : Int32) (lt ro rf nb : Nat → Int32) (hr : Ok r) (hp : r 5 3 = 0) (w : Int32) : xCi l G yX9_count cX9_count 2 (some .int) ({ frames := 2, cells := 0, slots := 0, locals := 44 } : Room) [.ref (am 0), .int w] (wM G am ho rn ln pl sd lt ro rf nb ++ [(am 1, .inl (G.2 0, 54, .inl (row r)))] ++ [(am 2, .inl (G.2 0, 54, .inl (row rm)))] ++ [(am 3, .inl (G.2 0, 54, .inl (row r2)))] ++ [(am 4, .inl (G.2 0, 54, .inl (row r4)))]) (S := Unit) (fun v _ => v = pCnt r rn ln rf w) (fun _ => (wM G am ho rn ln pl sd lt ro rf nb ++ [(am 1, .inl (G.2 0, 54, .inl (row r)))] ++ [(am 2, .inl (G.2 0, 54, .inl (row rm)))] ++ [(am 3, .inl (G.2 0, 54, .inl (row r2)))] ++ [(am 4, .inl (G.2 0, 54, .inl (row r4)))])) := by
  refine x_openi (by decide) (Nat.le_of_ble_eq_true rfl) (fun _ _ _ => rfl) ?_
  intro p e s m args below meth c A Q ls C0 hK hP hD hA hl hret
  obtain ⟨hx, hb, hml, hown, hts⟩ := id C0
  have hS : va_S A s.heap s.heap [] := va_S.rf
  have hP : va_P G.1 vwCl (wM G am ho rn ln pl sd lt ro rf nb ++ [(am 1, .inl (G.2 0, 54, .inl (row r)))] ++ [(am 2, .inl (G.2 0, 54, .inl (row rm)))] ++ [(am 3, .inl (G.2 0, 54, .inl (row r2)))] ++ [(am 4, .inl (G.2 0, 54, .inl (row r4)))]) s.heap := hP
  have hD : va_D A (wM G am ho rn ln pl sd lt ro rf nb ++ [(am 1, .inl (G.2 0, 54, .inl (row r)))] ++ [(am 2, .inl (G.2 0, 54, .inl (row rm)))] ++ [(am 3, .inl (G.2 0, 54, .inl (row r2)))] ++ [(am 4, .inl (G.2 0, 54, .inl (row r4)))]) := hD
  have hl : lv_has ls 2 [(0, .ref (am 0)), (1, .int w)] := hl
  have hr0 := hr.n
  have hN := hr.le
  refine lv_iload_n hx hb dX9_count_0 rfl (lv_at hl 1 rfl) ?_
  refine lv_bipush (v := 11) hx hb dX9_count_1 (by decide) ?_
  refine lv_bipush (v := 16) hx hb dX9_count_3 (by decide) ?_
  refine x_Si (wN := fun _ => (wM G am ho rn ln pl sd lt ro rf nb ++ [(am 1, .inl (G.2 0, 54, .inl (row r)))] ++ [(am 2, .inl (G.2 0, 54, .inl (row rm)))] ++ [(am 3, .inl (G.2 0, 54, .inl (row r2)))] ++ [(am 4, .inl (G.2 0, 54, .inl (row r4)))])) ⟨C0, hK, hP, hD, hS, hA⟩ ((m9_isIn l G w 11 16)) (va_cwS 3 hts (lw_S q1233 q1234 q95 q1235) rfl rfl rfl (by decide +kernel) ⟨Nat.le_of_ble_eq_true rfl, Nat.le_of_ble_eq_true rfl⟩) [] [0, 2, 4, 6, 8, 10, 12, 14, 16] rfl (fun _ => rfl) rfl rfl hl.1 rfl (Nat.le_of_ble_eq_true rfl) dX9_count_5 ⟨(Nat.le_of_ble_eq_true rfl), (Nat.le_of_ble_eq_true rfl)⟩ (fun r_1 u_1 H locs hw_1 hP hD hS => ?_)
  have hw_1 : r_1 = bI (inR w 11 16) := hw_1.trans rfl
  have hw_1 : (bI (inR w 11 16) : Int32) = r_1 := hw_1.symm
  subst hw_1
  refine lv_if_eq (tgt := 21) hx hb dX9_count_8 (by decide) (fun c_2 => ?_) (fun c_2 => ?_)
  · skip
    refine lv_iload_n hx hb dX9_count_21 rfl (lv_at hl 1 rfl) ?_
    refine lv_iconst (v := 2) hx hb dX9_count_22 (by decide) ?_
    refine lv_iconst (v := 4) hx hb dX9_count_23 (by decide) ?_
    refine x_Si (wN := fun _ => (wM G am ho rn ln pl sd lt ro rf nb ++ [(am 1, .inl (G.2 0, 54, .inl (row r)))] ++ [(am 2, .inl (G.2 0, 54, .inl (row rm)))] ++ [(am 3, .inl (G.2 0, 54, .inl (row r2)))] ++ [(am 4, .inl (G.2 0, 54, .inl (row r4)))])) ⟨C0, hK, hP, hD, hS, hA⟩ ((m9_isIn l G w 2 4)) (va_cwS 3 hts (lw_S q1233 q1234 q95 q1235) rfl rfl rfl (by decide +kernel) ⟨Nat.le_of_ble_eq_true rfl, Nat.le_of_ble_eq_true rfl⟩) [] [0, 2, 4, 6, 8, 10, 12, 14, 16] rfl (fun _ => rfl) rfl rfl hl.1 rfl (Nat.le_of_ble_eq_true rfl) dX9_count_24 ⟨(Nat.le_of_ble_eq_true rfl), (Nat.le_of_ble_eq_true rfl)⟩ (fun r_3 u_3 H locs hw_3 hP hD hS => ?_)
    have hw_3 : r_3 = bI (inR w 2 4) := hw_3.trans rfl
    have hw_3 : (bI (inR w 2 4) : Int32) = r_3 := hw_3.symm
    subst hw_3
    refine lv_if_eq (tgt := 41) hx hb dX9_count_27 (by decide) (fun c_4 => ?_) (fun c_4 => ?_)
    · skip
      refine lv_iload_n hx hb dX9_count_41 rfl (lv_at hl 1 rfl) ?_
      rcases sw w 7 with ⟨k_5, hk_5, e_5⟩ | e_5
      · skip
        rcases (show k_5 = 0 ∨ k_5 = 1 ∨ k_5 = 2 ∨ k_5 = 3 ∨ k_5 = 4 ∨ k_5 = 5 ∨ k_5 = 6 ∨ k_5 = 7 by omega) with rfl | rfl | rfl | rfl | rfl | rfl | rfl | rfl
        · skip
          refine lv_tableIn (tgt := 88) hx hb dX9_count_42 (by rw [e_5]; decide) (by rw [e_5]; decide) (by rw [e_5]; rfl) (by decide) ?_
          refine lv_aload_n hx hb dX9_count_88 rfl (lv_at hl 0 rfl) ?_
          refine va_get (D := G.1) (ci := 8) (v := .ref (am 1)) (C := RX9) (T := TX9) (N := 13) hx hb hts in_X9 hown hK.1 hP 0 rfl rfl 0 (by decide) (hts _ q1162) (fun _ h9 => h9) rfl dX9_count_89 ?_
          refine lv_iload_n hx hb dX9_count_92 rfl (lv_at hl 1 rfl) ?_
          rw [e_5]
          refine x_ialdn (k := 0) hx hb hK.1 hP 5 0 rfl rfl (by omega) (by decide) (v := nI (mny r)) (hr0) dX9_count_93 ?_
          refine hret _ _ _ _ _ _ (nI (mny r)) () dX9_count_94 ?_ hP hD hS (Nat.le_of_ble_eq_true rfl) (Nat.le_of_ble_eq_true rfl)
          rw [e_5]
          exact hr0.symm
        · skip
          refine lv_tableIn (tgt := 88) hx hb dX9_count_42 (by rw [e_5]; decide) (by rw [e_5]; decide) (by rw [e_5]; rfl) (by decide) ?_
          refine lv_aload_n hx hb dX9_count_88 rfl (lv_at hl 0 rfl) ?_
          refine va_get (D := G.1) (ci := 8) (v := .ref (am 1)) (C := RX9) (T := TX9) (N := 13) hx hb hts in_X9 hown hK.1 hP 0 rfl rfl 0 (by decide) (hts _ q1162) (fun _ h9 => h9) rfl dX9_count_89 ?_
          refine lv_iload_n hx hb dX9_count_92 rfl (lv_at hl 1 rfl) ?_
          rw [e_5]
          refine x_ialdn (k := 1) hx hb hK.1 hP 5 0 rfl rfl (by omega) (by decide) (v := r 5 1) rfl dX9_count_93 ?_
          refine hret _ _ _ _ _ _ (r 5 1) () dX9_count_94 ?_ hP hD hS (Nat.le_of_ble_eq_true rfl) (Nat.le_of_ble_eq_true rfl)
          rw [e_5]
          rfl
        · skip
          refine lv_tableIn (tgt := 112) hx hb dX9_count_42 (by rw [e_5]; decide) (by rw [e_5]; decide) (by rw [e_5]; rfl) (by decide) ?_
          refine lv_bipush (v := (-9)) hx hb dX9_count_112 (by decide) ?_
          refine hret _ _ _ _ _ _ (-9) () dX9_count_114 ?_ hP hD hS (Nat.le_of_ble_eq_true rfl) (Nat.le_of_ble_eq_true rfl)
          exact absurd (show inR w 2 4 = true by rw [e_5]; rfl) (fun z => by have h9 := c_4; rw [z] at h9; exact absurd h9 (by decide))
        · skip
          refine lv_tableIn (tgt := 112) hx hb dX9_count_42 (by rw [e_5]; decide) (by rw [e_5]; decide) (by rw [e_5]; rfl) (by decide) ?_
          refine lv_bipush (v := (-9)) hx hb dX9_count_112 (by decide) ?_
          refine hret _ _ _ _ _ _ (-9) () dX9_count_114 ?_ hP hD hS (Nat.le_of_ble_eq_true rfl) (Nat.le_of_ble_eq_true rfl)
          exact absurd (show inR w 2 4 = true by rw [e_5]; rfl) (fun z => by have h9 := c_4; rw [z] at h9; exact absurd h9 (by decide))
        · skip
          refine lv_tableIn (tgt := 112) hx hb dX9_count_42 (by rw [e_5]; decide) (by rw [e_5]; decide) (by rw [e_5]; rfl) (by decide) ?_
          refine lv_bipush (v := (-9)) hx hb dX9_count_112 (by decide) ?_
          refine hret _ _ _ _ _ _ (-9) () dX9_count_114 ?_ hP hD hS (Nat.le_of_ble_eq_true rfl) (Nat.le_of_ble_eq_true rfl)
          exact absurd (show inR w 2 4 = true by rw [e_5]; rfl) (fun z => by have h9 := c_4; rw [z] at h9; exact absurd h9 (by decide))
        · skip
          refine lv_tableIn (tgt := 95) hx hb dX9_count_42 (by rw [e_5]; decide) (by rw [e_5]; decide) (by rw [e_5]; rfl) (by decide) ?_
          refine lv_aload_n hx hb dX9_count_95 rfl (lv_at hl 0 rfl) ?_
          refine va_get (D := G.1) (ci := 8) (v := .ref (am 1)) (C := RX9) (T := TX9) (N := 13) hx hb hts in_X9 hown hK.1 hP 0 rfl rfl 0 (by decide) (hts _ q1162) (fun _ h9 => h9) rfl dX9_count_96 ?_
          refine lv_iconst (v := 2) hx hb dX9_count_99 (by decide) ?_
          refine x_ialdn (k := 2) hx hb hK.1 hP 5 0 rfl rfl (by decide) (by decide) (v := r 5 2) rfl dX9_count_100 ?_
          refine hret _ _ _ _ _ _ (r 5 2) () dX9_count_101 ?_ hP hD hS (Nat.le_of_ble_eq_true rfl) (Nat.le_of_ble_eq_true rfl)
          rw [e_5]
          rfl
        · skip
          refine lv_tableIn (tgt := 102) hx hb dX9_count_42 (by rw [e_5]; decide) (by rw [e_5]; decide) (by rw [e_5]; rfl) (by decide) ?_
          refine lv_aload_n hx hb dX9_count_102 rfl (lv_at hl 0 rfl) ?_
          refine va_get (D := G.1) (ci := 8) (v := .int rn) (C := RX9) (T := TX9) (N := 13) hx hb hts in_X9 hown hK.1 hP 0 rfl rfl 9 (by decide) (hts _ q1171) (fun _ h9 => h9) rfl dX9_count_103 ?_
          refine hret _ _ _ _ _ _ rn () dX9_count_106 ?_ hP hD hS (Nat.le_of_ble_eq_true rfl) (Nat.le_of_ble_eq_true rfl)
          rw [e_5]
          rfl
        · skip
          refine lv_tableIn (tgt := 107) hx hb dX9_count_42 (by rw [e_5]; decide) (by rw [e_5]; decide) (by rw [e_5]; rfl) (by decide) ?_
          refine lv_aload_n hx hb dX9_count_107 rfl (lv_at hl 0 rfl) ?_
          refine va_get (D := G.1) (ci := 8) (v := .int ln) (C := RX9) (T := TX9) (N := 13) hx hb hts in_X9 hown hK.1 hP 0 rfl rfl 8 (by decide) (hts _ q1170) (fun _ h9 => h9) rfl dX9_count_108 ?_
          refine hret _ _ _ _ _ _ ln () dX9_count_111 ?_ hP hD hS (Nat.le_of_ble_eq_true rfl) (Nat.le_of_ble_eq_true rfl)
          rw [e_5]
          rfl
      · skip
        refine lv_tableOut (tgt := 112) hx hb dX9_count_42 e_5 (by decide) ?_
        refine lv_bipush (v := (-9)) hx hb dX9_count_112 (by decide) ?_
        refine hret _ _ _ _ _ _ (-9) () dX9_count_114 ?_ hP hD hS (Nat.le_of_ble_eq_true rfl) (Nat.le_of_ble_eq_true rfl)
        exact cnt_c (fun z => by have h9 := c_2; rw [z] at h9; exact absurd h9 (by decide)) e_5
    · skip
      refine lv_aload_n hx hb dX9_count_30 rfl (lv_at hl 0 rfl) ?_
      refine va_get (D := G.1) (ci := 8) (v := .ref (am 1)) (C := RX9) (T := TX9) (N := 13) hx hb hts in_X9 hown hK.1 hP 0 rfl rfl 0 (by decide) (hts _ q1162) (fun _ h9 => h9) rfl dX9_count_31 ?_
      refine lv_iload_n hx hb dX9_count_34 rfl (lv_at hl 1 rfl) ?_
      refine lv_iconst (v := 2) hx hb dX9_count_35 (by decide) ?_
      refine x_isub hx hb dX9_count_36 (v := w - 2) rfl ?_
      refine x_Si (wN := fun _ => (wM G am ho rn ln pl sd lt ro rf nb ++ [(am 1, .inl (G.2 0, 54, .inl (row r)))] ++ [(am 2, .inl (G.2 0, 54, .inl (row rm)))] ++ [(am 3, .inl (G.2 0, 54, .inl (row r2)))] ++ [(am 4, .inl (G.2 0, 54, .inl (row r4)))])) ⟨C0, hK, hP, hD, hS, hA⟩ ((m9_setOf l G (am 1) r hr (w - 2))) (va_cwS 2 hts (lw_S q1281 q1282 q95 q1283) rfl rfl rfl (by decide +kernel) ⟨Nat.le_of_ble_eq_true rfl, Nat.le_of_ble_eq_true rfl⟩) [5] [0, 2, 4, 6, 8, 1, 12, 14, 16] rfl (fun _ => rfl) rfl rfl hl.1 rfl (Nat.le_of_ble_eq_true rfl) dX9_count_37 ⟨(Nat.le_of_ble_eq_true rfl), (Nat.le_of_ble_eq_true rfl)⟩ (fun r_6 u_6 H locs hw_6 hP hD hS => ?_)
      have hw_6 : (pSet r (w - 2) : Int32) = r_6 := hw_6.symm
      subst hw_6
      refine hret _ _ _ _ _ _ (pSet r (w - 2)) () dX9_count_40 ?_ hP hD hS (Nat.le_of_ble_eq_true rfl) (Nat.le_of_ble_eq_true rfl)
      exact cnt_b (by first | exact bI_n0 c_4 | exact bI_0.mp c_4)
  · skip
    have hi9 : inR w 11 16 = true := (by first | exact bI_n0 c_2 | exact bI_0.mp c_2)
    obtain ⟨ecn, hcn⟩ := cn_in hi9
    refine lv_aload_n hx hb dX9_count_11 rfl (lv_at hl 0 rfl) ?_
    refine va_get (D := G.1) (ci := 8) (v := .ref (am 7)) (C := RX9) (T := TX9) (N := 13) hx hb hts in_X9 hown hK.1 hP 0 rfl rfl 7 (by decide) (hts _ q1169) (fun _ h9 => h9) rfl dX9_count_12 ?_
    refine lv_iload_n hx hb dX9_count_15 rfl (lv_at hl 1 rfl) ?_
    refine lv_bipush (v := 10) hx hb dX9_count_16 (by decide) ?_
    refine x_isub hx hb dX9_count_18 (v := nI (ix (w - 10))) ecn ?_
    refine x_ialdn (k := (ix (w - 10))) hx hb hK.1 hP 3 0 rfl rfl (by omega) (by decide) (v := rf (ix (w - 10))) rfl dX9_count_19 ?_
    refine hret _ _ _ _ _ _ (rf (ix (w - 10))) () dX9_count_20 ?_ hP hD hS (Nat.le_of_ble_eq_true rfl) (Nat.le_of_ble_eq_true rfl)
    exact cnt_a hi9
set_option maxHeartbeats 4000000 in
set_option maxRecDepth 100000 in
theorem m9_drawn (l : Launch) (G : xG) (am : Nat → Nat) (r rm r2 r4 : Rw) (ho rn ln pl sd : Int32) (lt ro rf nb : Nat → Int32) (hr : Ok r) (hp : r 5 3 = 0) (q : Nat) (hq0 : 0 < q) (hq1 : q < 2 ^ 31) : xCi l G yX9_drawn cX9_drawn 2 (some .int) ({ frames := 0, cells := 0, slots := 0, locals := 0 } : Room) [.ref (am 0), .int (nI q)] (wM G am ho rn ln pl sd lt ro rf nb ++ [(am 1, .inl (G.2 0, 54, .inl (row r)))] ++ [(am 2, .inl (G.2 0, 54, .inl (row rm)))] ++ [(am 3, .inl (G.2 0, 54, .inl (row r2)))] ++ [(am 4, .inl (G.2 0, 54, .inl (row r4)))]) (S := Unit) (fun v _ => v = nI (dJ (dS sd) q)) (fun _ => (wM G am ho rn ln pl (dS sd) lt ro rf nb ++ [(am 1, .inl (G.2 0, 54, .inl (row r)))] ++ [(am 2, .inl (G.2 0, 54, .inl (row rm)))] ++ [(am 3, .inl (G.2 0, 54, .inl (row r2)))] ++ [(am 4, .inl (G.2 0, 54, .inl (row r4)))])) := by
  refine x_openi (by decide) (Nat.le_of_ble_eq_true rfl) (fun _ _ _ => rfl) ?_
  intro p e s m args below meth c A Q ls C0 hK hP hD hA hl hret
  obtain ⟨hx, hb, hml, hown, hts⟩ := id C0
  have hS : va_S A s.heap s.heap [] := va_S.rf
  have hP : va_P G.1 vwCl (wM G am ho rn ln pl sd lt ro rf nb ++ [(am 1, .inl (G.2 0, 54, .inl (row r)))] ++ [(am 2, .inl (G.2 0, 54, .inl (row rm)))] ++ [(am 3, .inl (G.2 0, 54, .inl (row r2)))] ++ [(am 4, .inl (G.2 0, 54, .inl (row r4)))]) s.heap := hP
  have hD : va_D A (wM G am ho rn ln pl sd lt ro rf nb ++ [(am 1, .inl (G.2 0, 54, .inl (row r)))] ++ [(am 2, .inl (G.2 0, 54, .inl (row rm)))] ++ [(am 3, .inl (G.2 0, 54, .inl (row r2)))] ++ [(am 4, .inl (G.2 0, 54, .inl (row r4)))]) := hD
  have hl : lv_has ls 2 [(0, .ref (am 0)), (1, .int (nI q))] := hl
  have hr0 := hr.n
  have hN := hr.le
  refine lv_aload_n hx hb dX9_drawn_0 rfl (lv_at hl 0 rfl) ?_
  refine lv_aload_n hx hb dX9_drawn_1 rfl (lv_at hl 0 rfl) ?_
  refine va_get (D := G.1) (ci := 8) (v := .int sd) (C := RX9) (T := TX9) (N := 13) hx hb hts in_X9 hown hK.1 hP 0 rfl rfl 12 (by decide) (hts _ q1174) (fun _ h9 => h9) rfl dX9_drawn_2 ?_
  refine lv_ldc (v := 1664525) hx hb hown (hts _ q1467) dX9_drawn_5 ?_
  refine x_imul hx hb dX9_drawn_7 (v := sd * 1664525) rfl ?_
  refine lv_ldc (v := 1013904223) hx hb hown (hts _ q1468) dX9_drawn_8 ?_
  refine x_iadd hx hb dX9_drawn_10 (v := dS sd) rfl ?_
  refine va_put (D := G.1) (ci := 8) (v := .int (dS sd)) (ty := .int) (C := RX9) (T := TX9) (N := 13) hx hb hts in_X9 tyX9 tyX9_ok nmX9 hown hK.1 hP hD hS 0 rfl rfl 12 (by decide) (hts _ q1174) (fun _ h9 => h9) rfl (by decide +kernel) rfl rfl (Nat.le_of_ble_eq_true rfl) dX9_drawn_11 (fun H locs hP hD hS => ?_)
  have hP : va_P G.1 vwCl (wM G am ho rn ln pl (dS sd) lt ro rf nb ++ [(am 1, .inl (G.2 0, 54, .inl (row r)))] ++ [(am 2, .inl (G.2 0, 54, .inl (row rm)))] ++ [(am 3, .inl (G.2 0, 54, .inl (row r2)))] ++ [(am 4, .inl (G.2 0, 54, .inl (row r4)))]) H := hP
  have hD : va_D A (wM G am ho rn ln pl (dS sd) lt ro rf nb ++ [(am 1, .inl (G.2 0, 54, .inl (row r)))] ++ [(am 2, .inl (G.2 0, 54, .inl (row rm)))] ++ [(am 3, .inl (G.2 0, 54, .inl (row r2)))] ++ [(am 4, .inl (G.2 0, 54, .inl (row r4)))]) := hD
  refine lv_aload_n hx hb dX9_drawn_14 rfl (lv_at hl 0 rfl) ?_
  refine va_get (D := G.1) (ci := 8) (v := .int (dS sd)) (C := RX9) (T := TX9) (N := 13) hx hb hts in_X9 hown hK.1 hP 0 rfl rfl 12 (by decide) (hts _ q1174) (fun _ h9 => h9) rfl dX9_drawn_15 ?_
  refine lv_ldc (v := 2147483647) hx hb hown (hts _ q1469) dX9_drawn_18 ?_
  refine x_iand hx hb dX9_drawn_20 (v := (dS sd) &&& 2147483647) rfl ?_
  refine lv_sipush (v := 256) hx hb dX9_drawn_21 (by decide) ?_
  refine x_idiv hx hb dX9_drawn_24 (by decide) (v := nI ((dS sd).toBitVec.toNat % 2 ^ 31 / 256)) (dB_i _) ?_
  refine lv_iload_n hx hb dX9_drawn_25 rfl (lv_at hl 1 rfl) ?_
  refine x_irem hx hb dX9_drawn_26 (nI_n0 hq0 hq1) (v := nI (dJ (dS sd) q)) (dJ_i _ hq0 hq1) ?_
  refine hret _ _ _ _ _ _ (nI (dJ (dS sd) q)) () dX9_drawn_27 ?_ hP hD hS (Nat.le_of_ble_eq_true rfl) (Nat.le_of_ble_eq_true rfl)
  rfl
set_option maxHeartbeats 4000000 in
set_option maxRecDepth 100000 in
theorem n_lots (l : Launch) (G : xG) (am : Nat → Nat) (r rm r2 r4 : Rw) (ho rn ln pl sd : Int32) (lt ro rf nb : Nat → Int32) (hr : Ok r) (hp : r 5 3 = 0) (cnt z w : Int32) : xCi l G yX9_lots cX9_lots 10 (some .int) ({ frames := 4, cells := 0, slots := 0, locals := 91 } : Room) [.ref (am 0), .int cnt, .int z, .int w] (wM G am ho rn ln pl sd lt ro rf nb ++ [(am 1, .inl (G.2 0, 54, .inl (row r)))] ++ [(am 2, .inl (G.2 0, 54, .inl (row rm)))] ++ [(am 3, .inl (G.2 0, 54, .inl (row r2)))] ++ [(am 4, .inl (G.2 0, 54, .inl (row r4)))]) (S := (Rw × Int32)) (fun v _ => v = sel (eW (wBy cnt.toInt 1 20) (eS (inR w 0 1) (-2) (eS (decide (0 < nI (mny r))) (-3) 0))) ((lSum r w z (ix cnt)).2) (eW (wBy cnt.toInt 1 20) (eS (inR w 0 1) (-2) (eS (decide (0 < nI (mny r))) (-3) 0)))) (fun u => (wM G am ho rn ln pl u.2 lt ro (sel (eW (wBy cnt.toInt 1 20) (eS (inR w 0 1) (-2) (eS (decide (0 < nI (mny r))) (-3) 0))) rf (rfU rf (eW (wBy cnt.toInt 1 20) (eS (inR w 0 1) (-2) (eS (decide (0 < nI (mny r))) (-3) 0))))) nb ++ [(am 1, .inl (G.2 0, 54, .inl (row r)))] ++ [(am 2, .inl (G.2 0, 54, .inl (row u.1)))] ++ [(am 3, .inl (G.2 0, 54, .inl (row r2)))] ++ [(am 4, .inl (G.2 0, 54, .inl (row r4)))])) := by
  refine x_openi (by decide) (Nat.le_of_ble_eq_true rfl) (fun _ _ _ => rfl) ?_
  intro p e s m args below meth c A Q ls C0 hK hP hD hA hl hret
  obtain ⟨hx, hb, hml, hown, hts⟩ := id C0
  have hS : va_S A s.heap s.heap [] := va_S.rf
  have hP : va_P G.1 vwCl (wM G am ho rn ln pl sd lt ro rf nb ++ [(am 1, .inl (G.2 0, 54, .inl (row r)))] ++ [(am 2, .inl (G.2 0, 54, .inl (row rm)))] ++ [(am 3, .inl (G.2 0, 54, .inl (row r2)))] ++ [(am 4, .inl (G.2 0, 54, .inl (row r4)))]) s.heap := hP
  have hD : va_D A (wM G am ho rn ln pl sd lt ro rf nb ++ [(am 1, .inl (G.2 0, 54, .inl (row r)))] ++ [(am 2, .inl (G.2 0, 54, .inl (row rm)))] ++ [(am 3, .inl (G.2 0, 54, .inl (row r2)))] ++ [(am 4, .inl (G.2 0, 54, .inl (row r4)))]) := hD
  have hl : lv_has ls 10 [(0, .ref (am 0)), (1, .int cnt), (2, .int z), (3, .int w)] := hl
  have hr0 := hr.n
  have hN := hr.le
  refine lv_iload_n hx hb dX9_lots_0 rfl (lv_at hl 1 rfl) ?_
  refine lv_iconst (v := 1) hx hb dX9_lots_1 (by decide) ?_
  refine lv_icmp_ge (tgt := 12) hx hb dX9_lots_2 (by decide) (fun c_1 => ?_) (fun c_1 => ?_)
  · skip
    refine lv_iload_n hx hb dX9_lots_12 rfl (lv_at hl 1 rfl) ?_
    refine lv_bipush (v := 20) hx hb dX9_lots_13 (by decide) ?_
    refine lv_icmp_le (tgt := 25) hx hb dX9_lots_15 (by decide) (fun c_2 => ?_) (fun c_2 => ?_)
    · skip
      refine lv_iload_n hx hb dX9_lots_25 rfl (lv_at hl 3 rfl) ?_
      refine lv_iconst (v := 0) hx hb dX9_lots_26 (by decide) ?_
      refine lv_iconst (v := 1) hx hb dX9_lots_27 (by decide) ?_
      refine x_Si (wN := fun _ => (wM G am ho rn ln pl sd lt ro rf nb ++ [(am 1, .inl (G.2 0, 54, .inl (row r)))] ++ [(am 2, .inl (G.2 0, 54, .inl (row rm)))] ++ [(am 3, .inl (G.2 0, 54, .inl (row r2)))] ++ [(am 4, .inl (G.2 0, 54, .inl (row r4)))])) ⟨C0, hK, hP, hD, hS, hA⟩ ((m9_isIn l G w 0 1)) (va_cwS 3 hts (lw_S q1233 q1234 q95 q1235) rfl rfl rfl (by decide +kernel) ⟨Nat.le_of_ble_eq_true rfl, Nat.le_of_ble_eq_true rfl⟩) [] [0, 2, 4, 6, 8, 10, 12, 14, 16] rfl (fun _ => rfl) rfl rfl hl.1 rfl (Nat.le_of_ble_eq_true rfl) dX9_lots_28 ⟨(Nat.le_of_ble_eq_true rfl), (Nat.le_of_ble_eq_true rfl)⟩ (fun r_3 u_3 H locs hw_3 hP hD hS => ?_)
      have hw_3 : r_3 = bI (inR w 0 1) := hw_3.trans rfl
      have hw_3 : (bI (inR w 0 1) : Int32) = r_3 := hw_3.symm
      subst hw_3
      refine lv_if_ne (tgt := 41) hx hb dX9_lots_31 (by decide) (fun c_4 => ?_) (fun c_4 => ?_)
      · skip
        refine lv_aload_n hx hb dX9_lots_41 rfl (lv_at hl 0 rfl) ?_
        refine va_get (D := G.1) (ci := 8) (v := .ref (am 1)) (C := RX9) (T := TX9) (N := 13) hx hb hts in_X9 hown hK.1 hP 0 rfl rfl 0 (by decide) (hts _ q1162) (fun _ h9 => h9) rfl dX9_lots_42 ?_
        refine lv_iconst (v := 0) hx hb dX9_lots_45 (by decide) ?_
        refine x_ialdn (k := 0) hx hb hK.1 hP 5 0 rfl rfl (by decide) (by decide) (v := nI (mny r)) (hr0) dX9_lots_46 ?_
        refine lv_if_ne (tgt := 57) hx hb dX9_lots_47 (by decide) (fun c_5 => ?_) (fun c_5 => ?_)
        · skip
          have g_5 := mt (nI_eq (by omega) (by omega)).mpr (show ¬ (nI (mny r) = nI 0) from c_5)
          have hm0 : 0 < mny r := Nat.pos_of_ne_zero (fun z => c_5 (by rw [z]; rfl))
          obtain ⟨hk_c, hj_c, et_c⟩ := wB1_ix (n := 20) (by omega) (wBy_ok (lo := 1) (hi := 20) (y := 1) (by decide) (z := 20) (by decide) c_1 c_2)
          rw [et_c] at hl
          refine lv_aload_n hx hb dX9_lots_57 rfl (lv_at hl 0 rfl) ?_
          refine lv_iload_n hx hb dX9_lots_58 rfl (lv_at hl 2 rfl) ?_
          refine va_put (D := G.1) (ci := 8) (v := .int z) (ty := .int) (C := RX9) (T := TX9) (N := 13) hx hb hts in_X9 tyX9 tyX9_ok nmX9 hown hK.1 hP hD hS 0 rfl rfl 12 (by decide) (hts _ q1174) (fun _ h9 => h9) rfl (by decide +kernel) rfl rfl (Nat.le_of_ble_eq_true rfl) dX9_lots_59 (fun H locs hP hD hS => ?_)
          have hP : va_P G.1 vwCl (wM G am ho rn ln pl z lt ro rf nb ++ [(am 1, .inl (G.2 0, 54, .inl (row r)))] ++ [(am 2, .inl (G.2 0, 54, .inl (row rm)))] ++ [(am 3, .inl (G.2 0, 54, .inl (row r2)))] ++ [(am 4, .inl (G.2 0, 54, .inl (row r4)))]) H := hP
          have hD : va_D A (wM G am ho rn ln pl z lt ro rf nb ++ [(am 1, .inl (G.2 0, 54, .inl (row r)))] ++ [(am 2, .inl (G.2 0, 54, .inl (row rm)))] ++ [(am 3, .inl (G.2 0, 54, .inl (row r2)))] ++ [(am 4, .inl (G.2 0, 54, .inl (row r4)))]) := hD
          refine lv_iconst (v := 0) hx hb dX9_lots_62 (by decide) ?_
          refine lv_istore (lv' := [(4, .int 0), (0, .ref (am 0)), (1, .int (nI (ix cnt))), (2, .int z), (3, .int w)]) hx hb dX9_lots_63 hl (by decide) rfl (fun ls hl => ?_)
          refine lv_iconst (v := 0) hx hb dX9_lots_65 (by decide) ?_
          refine lv_istore (lv' := [(5, .int 0), (4, .int 0), (0, .ref (am 0)), (1, .int (nI (ix cnt))), (2, .int z), (3, .int w)]) hx hb dX9_lots_66 hl (by decide) rfl (fun ls hl => ?_)
          have loop_68 : ∀ (n : Nat) (k : Nat) (q9 : Rw), (k ≤ ix cnt) → (ix cnt < k + n) → ∀ (H : Heap) (locs : List Loc) (ls : Array Slot), va_P G.1 vwCl (wM G am ho rn ln pl ((lSum r w z k).1) lt ro rf nb ++ [(am 1, .inl (G.2 0, 54, .inl (row r)))] ++ [(am 2, .inl (G.2 0, 54, .inl (row q9)))] ++ [(am 3, .inl (G.2 0, 54, .inl (row r2)))] ++ [(am 4, .inl (G.2 0, 54, .inl (row r4)))]) H → va_D A (wM G am ho rn ln pl ((lSum r w z k).1) lt ro rf nb ++ [(am 1, .inl (G.2 0, 54, .inl (row r)))] ++ [(am 2, .inl (G.2 0, 54, .inl (row q9)))] ++ [(am 3, .inl (G.2 0, 54, .inl (row r2)))] ++ [(am 4, .inl (G.2 0, 54, .inl (row r4)))]) → va_S A s.heap H locs → lv_has ls 10 [(5, .int (nI k)), (4, .int ((lSum r w z k).2)), (0, .ref (am 0)), (1, .int (nI (ix cnt))), (2, .int z), (3, .int w)] → W p l e ({ frames := 4, cells := 0, slots := 0, locals := 91 } : Room) s m args below meth c H locs 0 0 Q (F0 m 68 ls []) := by
            intro n
            induction n with
            | zero => intro k q9 hi68_0 hi68_1; exact absurd hi68_1 (by omega)
            | succ n ih_68 =>
              intro k q9 hi68_0 hi68_1 H locs ls hP hD hS hl
              refine lv_iload hx hb dX9_lots_68 (lv_at hl 0 rfl) ?_
              refine lv_iload_n hx hb dX9_lots_70 rfl (lv_at hl 3 rfl) ?_
              refine lv_icmp_ge (tgt := 187) hx hb dX9_lots_71 (by decide) (fun c_6 => ?_) (fun c_6 => ?_)
              · skip
                have g_6 := (nI_leI (by omega) (by omega)).mp c_6
                refine lv_iload hx hb dX9_lots_187 (lv_at hl 1 rfl) ?_
                have hE : eW (wBy cnt.toInt 1 20) (eS (inR w 0 1) (-2) (eS (decide (0 < nI (mny r))) (-3) 0)) = 0 := by rw [wBy_ok (lo := 1) (hi := 20) (y := 1) (by decide) (z := 20) (by decide) c_1 c_2, eW_0 rfl, eS_t (show inR w 0 1 = true from (by first | exact bI_n0 c_4 | exact bI_0.mp c_4)), eS_t (decide_eq_true ((nI_ltI (a := 0) (by omega) (by omega)).mpr (Nat.pos_of_ne_zero (fun z => c_5 (by rw [z]; rfl)))))]
                have hP : va_P G.1 vwCl (wM G am ho rn ln pl ((q9, (lSum r w z k).1).2) lt ro (sel (eW (wBy cnt.toInt 1 20) (eS (inR w 0 1) (-2) (eS (decide (0 < nI (mny r))) (-3) 0))) rf (rfU rf (eW (wBy cnt.toInt 1 20) (eS (inR w 0 1) (-2) (eS (decide (0 < nI (mny r))) (-3) 0))))) nb ++ [(am 1, .inl (G.2 0, 54, .inl (row r)))] ++ [(am 2, .inl (G.2 0, 54, .inl (row ((q9, (lSum r w z k).1).1))))] ++ [(am 3, .inl (G.2 0, 54, .inl (row r2)))] ++ [(am 4, .inl (G.2 0, 54, .inl (row r4)))]) H := by rw [hE]; simp only [sel_0 rfl]; exact hP
                have hD : va_D A (wM G am ho rn ln pl ((q9, (lSum r w z k).1).2) lt ro (sel (eW (wBy cnt.toInt 1 20) (eS (inR w 0 1) (-2) (eS (decide (0 < nI (mny r))) (-3) 0))) rf (rfU rf (eW (wBy cnt.toInt 1 20) (eS (inR w 0 1) (-2) (eS (decide (0 < nI (mny r))) (-3) 0))))) nb ++ [(am 1, .inl (G.2 0, 54, .inl (row r)))] ++ [(am 2, .inl (G.2 0, 54, .inl (row ((q9, (lSum r w z k).1).1))))] ++ [(am 3, .inl (G.2 0, 54, .inl (row r2)))] ++ [(am 4, .inl (G.2 0, 54, .inl (row r4)))]) := by rw [hE]; simp only [sel_0 rfl]; exact hD
                refine hret _ _ _ _ _ _ ((lSum r w z k).2) (q9, (lSum r w z k).1) dX9_lots_189 ?_ hP hD hS (Nat.le_of_ble_eq_true rfl) (Nat.le_of_ble_eq_true rfl)
                rw [hE, sel_0 rfl]
                rw [show ix cnt = k by omega]
              · skip
                have g_6 := mt (nI_leI (by omega) (by omega)).mpr c_6
                refine lv_aload_n hx hb dX9_lots_74 rfl (lv_at hl 2 rfl) ?_
                refine va_get (D := G.1) (ci := 8) (v := .ref (am 1)) (C := RX9) (T := TX9) (N := 13) hx hb hts in_X9 hown hK.1 hP 0 rfl rfl 0 (by decide) (hts _ q1162) (fun _ h9 => h9) rfl dX9_lots_75 ?_
                refine lv_aload_n hx hb dX9_lots_78 rfl (lv_at hl 2 rfl) ?_
                refine va_get (D := G.1) (ci := 8) (v := .ref (am 2)) (C := RX9) (T := TX9) (N := 13) hx hb hts in_X9 hown hK.1 hP 0 rfl rfl 1 (by decide) (hts _ q1163) (fun _ h9 => h9) rfl dX9_lots_79 ?_
                refine x_Sv (wN := fun _ => (wM G am ho rn ln pl ((lSum r w z k).1) lt ro rf nb ++ [(am 1, .inl (G.2 0, 54, .inl (row r)))] ++ [(am 2, .inl (G.2 0, 54, .inl (row r)))] ++ [(am 3, .inl (G.2 0, 54, .inl (row r2)))] ++ [(am 4, .inl (G.2 0, 54, .inl (row r4)))])) ⟨C0, hK, hP, hD, hS, hA⟩ ((m9_copies l G (am 1) (am 2) (row r) (row q9))) (va_cwS 2 hts (lw_S q1236 q1237 q95 q1238) rfl rfl rfl (by decide +kernel) ⟨Nat.le_of_ble_eq_true rfl, Nat.le_of_ble_eq_true rfl⟩) [5, 6] [0, 2, 4, 6, 8, 1, 3, 14, 16] rfl (fun _ => rfl) rfl rfl hl.1 rfl (Nat.le_of_ble_eq_true rfl) dX9_lots_82 ⟨(Nat.le_of_ble_eq_true rfl), (Nat.le_of_ble_eq_true rfl)⟩ (fun u_7 H locs hw_7 hP hD hS => ?_)
                have hP : va_P G.1 vwCl (wM G am ho rn ln pl ((lSum r w z k).1) lt ro rf nb ++ [(am 1, .inl (G.2 0, 54, .inl (row r)))] ++ [(am 2, .inl (G.2 0, 54, .inl (row r)))] ++ [(am 3, .inl (G.2 0, 54, .inl (row r2)))] ++ [(am 4, .inl (G.2 0, 54, .inl (row r4)))]) H := hP
                have hD : va_D A (wM G am ho rn ln pl ((lSum r w z k).1) lt ro rf nb ++ [(am 1, .inl (G.2 0, 54, .inl (row r)))] ++ [(am 2, .inl (G.2 0, 54, .inl (row r)))] ++ [(am 3, .inl (G.2 0, 54, .inl (row r2)))] ++ [(am 4, .inl (G.2 0, 54, .inl (row r4)))]) := hD
                refine lv_iconst (v := 0) hx hb dX9_lots_85 (by decide) ?_
                refine lv_istore (lv' := [(6, .int 0), (5, .int (nI k)), (4, .int ((lSum r w z k).2)), (0, .ref (am 0)), (1, .int (nI (ix cnt))), (2, .int z), (3, .int w)]) hx hb dX9_lots_86 hl (by decide) rfl (fun ls hl => ?_)
                have loop_88 : ∀ (n : Nat) (i : Nat) (sv : Int32) (q : Rw), (i ≤ 5) → (5 < i + n) → (Ok q) → (mny q = mny r) → (lRun r (lSum r w z k).1 i = (sv, q)) → ∀ (H : Heap) (locs : List Loc) (ls : Array Slot), va_P G.1 vwCl (wM G am ho rn ln pl sv lt ro rf nb ++ [(am 1, .inl (G.2 0, 54, .inl (row r)))] ++ [(am 2, .inl (G.2 0, 54, .inl (row q)))] ++ [(am 3, .inl (G.2 0, 54, .inl (row r2)))] ++ [(am 4, .inl (G.2 0, 54, .inl (row r4)))]) H → va_D A (wM G am ho rn ln pl sv lt ro rf nb ++ [(am 1, .inl (G.2 0, 54, .inl (row r)))] ++ [(am 2, .inl (G.2 0, 54, .inl (row q)))] ++ [(am 3, .inl (G.2 0, 54, .inl (row r2)))] ++ [(am 4, .inl (G.2 0, 54, .inl (row r4)))]) → va_S A s.heap H locs → lv_has ls 10 [(6, .int (nI i)), (5, .int (nI k)), (4, .int ((lSum r w z k).2)), (0, .ref (am 0)), (1, .int (nI (ix cnt))), (2, .int z), (3, .int w)] → W p l e ({ frames := 4, cells := 0, slots := 0, locals := 91 } : Room) s m args below meth c H locs 0 0 Q (F0 m 88 ls []) := by
                  intro n
                  induction n with
                  | zero => intro i sv q hi88_0 hi88_1 hi88_2 hi88_3 hi88_4; exact absurd hi88_1 (by omega)
                  | succ n ih_88 =>
                    intro i sv q hi88_0 hi88_1 hi88_2 hi88_3 hi88_4 H locs ls hP hD hS hl
                    refine lv_iload hx hb dX9_lots_88 (lv_at hl 0 rfl) ?_
                    refine lv_iconst (v := 5) hx hb dX9_lots_90 (by decide) ?_
                    refine lv_icmp_ge (tgt := 157) hx hb dX9_lots_91 (by decide) (fun c_8 => ?_) (fun c_8 => ?_)
                    · skip
                      have g_8 := (nI_leI (by omega) (by omega)).mp (show nI i ≥ nI 5 from c_8)
                      obtain rfl : i = 5 := by omega
                      refine lv_iload hx hb dX9_lots_157 (lv_at hl 2 rfl) ?_
                      refine lv_aload_n hx hb dX9_lots_159 rfl (lv_at hl 3 rfl) ?_
                      refine va_get (D := G.1) (ci := 8) (v := .ref (am 2)) (C := RX9) (T := TX9) (N := 13) hx hb hts in_X9 hown hK.1 hP 0 rfl rfl 1 (by decide) (hts _ q1163) (fun _ h9 => h9) rfl dX9_lots_160 ?_
                      refine lv_iload_n hx hb dX9_lots_163 rfl (lv_at hl 6 rfl) ?_
                      refine lv_if_ne (tgt := 171) hx hb dX9_lots_164 (by decide) (fun c_9 => ?_) (fun c_9 => ?_)
                      · skip
                        refine lv_iconst (v := 1) hx hb dX9_lots_171 (by decide) ?_
                        refine x_Si (wN := fun _ => (wM G am ho rn ln pl sv lt ro rf nb ++ [(am 1, .inl (G.2 0, 54, .inl (row r)))] ++ [(am 2, .inl (G.2 0, 54, .inl (row q)))] ++ [(am 3, .inl (G.2 0, 54, .inl (row r2)))] ++ [(am 4, .inl (G.2 0, 54, .inl (row r4)))])) ⟨C0, hK, hP, hD, hS, hA⟩ ((m9_setOf l G (am 2) q hi88_2 1)) (va_cwS 2 hts (lw_S q1281 q1282 q95 q1283) rfl rfl rfl (by decide +kernel) ⟨Nat.le_of_ble_eq_true rfl, Nat.le_of_ble_eq_true rfl⟩) [6] [0, 2, 4, 6, 8, 10, 1, 14, 16] rfl (fun _ => rfl) rfl rfl hl.1 rfl (Nat.le_of_ble_eq_true rfl) dX9_lots_172 ⟨(Nat.le_of_ble_eq_true rfl), (Nat.le_of_ble_eq_true rfl)⟩ (fun r_10 u_10 H locs hw_10 hP hD hS => ?_)
                        have hw_10 : (pSet q 1 : Int32) = r_10 := hw_10.symm
                        subst hw_10
                        have hNq := hi88_2.le
                        rw [show (pSet q 1 : Int32) = nI (bn (pHow q 1) (mny q)) from (pSet_bn hNq)]
                        refine x_Si (wN := fun _ => (wM G am ho rn ln pl sv lt ro rf nb ++ [(am 1, .inl (G.2 0, 54, .inl (row r)))] ++ [(am 2, .inl (G.2 0, 54, .inl (row q)))] ++ [(am 3, .inl (G.2 0, 54, .inl (row r2)))] ++ [(am 4, .inl (G.2 0, 54, .inl (row r4)))])) ⟨C0, hK, hP, hD, hS, hA⟩ ((m9_bits l G (bn (pHow q 1) (mny q)) (bn_1024 hNq))) (va_cwS 1 hts (lw_S q1269 q1270 q95 q1271) rfl rfl rfl (by decide +kernel) ⟨Nat.le_of_ble_eq_true rfl, Nat.le_of_ble_eq_true rfl⟩) [] [0, 2, 4, 6, 8, 10, 12, 14, 16] rfl (fun _ => rfl) rfl rfl hl.1 rfl (Nat.le_of_ble_eq_true rfl) dX9_lots_175 ⟨(Nat.le_of_ble_eq_true rfl), (Nat.le_of_ble_eq_true rfl)⟩ (fun r_11 u_11 H locs hw_11 hP hD hS => ?_)
                        have hw_11 : (nI (pc (bn (pHow q 1) (mny q))) : Int32) = r_11 := hw_11.symm
                        subst hw_11
                        refine x_iadd hx hb dX9_lots_178 (v := (lSum r w z (k + 1)).2) (lSum_2 hi88_4 hNq (if_neg c_9)) ?_
                        refine lv_istore (lv' := [(4, .int ((lSum r w z (k + 1)).2)), (6, .int (nI 5)), (5, .int (nI k)), (0, .ref (am 0)), (1, .int (nI (ix cnt))), (2, .int z), (3, .int w)]) hx hb dX9_lots_179 hl (by decide) rfl (fun ls hl => ?_)
                        refine lv_iinc (v := nI (k + 1)) (lv' := [(5, .int (nI (k + 1))), (4, .int ((lSum r w z (k + 1)).2)), (6, .int (nI 5)), (0, .ref (am 0)), (1, .int (nI (ix cnt))), (2, .int z), (3, .int w)]) hx hb dX9_lots_181 hl (k := 2) rfl (x_inc1 _) (by decide) rfl (fun ls hl => ?_)
                        refine lv_goto (tgt := 68) hx hb dX9_lots_184 (by decide) ?_
                        rw [lSum_1 hi88_4] at hP hD
                        exact ih_68 (k + 1) _ (by omega) (by omega) _ _ _ hP hD hS (lv_sub hl [0, 1, 3, 4, 5, 6] rfl)
                      · skip
                        refine lv_iconst (v := 0) hx hb dX9_lots_167 (by decide) ?_
                        refine lv_goto (tgt := 172) hx hb dX9_lots_168 (by decide) ?_
                        refine x_Si (wN := fun _ => (wM G am ho rn ln pl sv lt ro rf nb ++ [(am 1, .inl (G.2 0, 54, .inl (row r)))] ++ [(am 2, .inl (G.2 0, 54, .inl (row q)))] ++ [(am 3, .inl (G.2 0, 54, .inl (row r2)))] ++ [(am 4, .inl (G.2 0, 54, .inl (row r4)))])) ⟨C0, hK, hP, hD, hS, hA⟩ ((m9_setOf l G (am 2) q hi88_2 0)) (va_cwS 2 hts (lw_S q1281 q1282 q95 q1283) rfl rfl rfl (by decide +kernel) ⟨Nat.le_of_ble_eq_true rfl, Nat.le_of_ble_eq_true rfl⟩) [6] [0, 2, 4, 6, 8, 10, 1, 14, 16] rfl (fun _ => rfl) rfl rfl hl.1 rfl (Nat.le_of_ble_eq_true rfl) dX9_lots_172 ⟨(Nat.le_of_ble_eq_true rfl), (Nat.le_of_ble_eq_true rfl)⟩ (fun r_12 u_12 H locs hw_12 hP hD hS => ?_)
                        have hw_12 : (pSet q 0 : Int32) = r_12 := hw_12.symm
                        subst hw_12
                        have hNq := hi88_2.le
                        rw [show (pSet q 0 : Int32) = nI (bn (pHow q 0) (mny q)) from (pSet_bn hNq)]
                        refine x_Si (wN := fun _ => (wM G am ho rn ln pl sv lt ro rf nb ++ [(am 1, .inl (G.2 0, 54, .inl (row r)))] ++ [(am 2, .inl (G.2 0, 54, .inl (row q)))] ++ [(am 3, .inl (G.2 0, 54, .inl (row r2)))] ++ [(am 4, .inl (G.2 0, 54, .inl (row r4)))])) ⟨C0, hK, hP, hD, hS, hA⟩ ((m9_bits l G (bn (pHow q 0) (mny q)) (bn_1024 hNq))) (va_cwS 1 hts (lw_S q1269 q1270 q95 q1271) rfl rfl rfl (by decide +kernel) ⟨Nat.le_of_ble_eq_true rfl, Nat.le_of_ble_eq_true rfl⟩) [] [0, 2, 4, 6, 8, 10, 12, 14, 16] rfl (fun _ => rfl) rfl rfl hl.1 rfl (Nat.le_of_ble_eq_true rfl) dX9_lots_175 ⟨(Nat.le_of_ble_eq_true rfl), (Nat.le_of_ble_eq_true rfl)⟩ (fun r_13 u_13 H locs hw_13 hP hD hS => ?_)
                        have hw_13 : (nI (pc (bn (pHow q 0) (mny q))) : Int32) = r_13 := hw_13.symm
                        subst hw_13
                        refine x_iadd hx hb dX9_lots_178 (v := (lSum r w z (k + 1)).2) (lSum_2 hi88_4 hNq (if_pos c_9)) ?_
                        refine lv_istore (lv' := [(4, .int ((lSum r w z (k + 1)).2)), (6, .int (nI 5)), (5, .int (nI k)), (0, .ref (am 0)), (1, .int (nI (ix cnt))), (2, .int z), (3, .int w)]) hx hb dX9_lots_179 hl (by decide) rfl (fun ls hl => ?_)
                        refine lv_iinc (v := nI (k + 1)) (lv' := [(5, .int (nI (k + 1))), (4, .int ((lSum r w z (k + 1)).2)), (6, .int (nI 5)), (0, .ref (am 0)), (1, .int (nI (ix cnt))), (2, .int z), (3, .int w)]) hx hb dX9_lots_181 hl (k := 2) rfl (x_inc1 _) (by decide) rfl (fun ls hl => ?_)
                        refine lv_goto (tgt := 68) hx hb dX9_lots_184 (by decide) ?_
                        rw [lSum_1 hi88_4] at hP hD
                        exact ih_68 (k + 1) _ (by omega) (by omega) _ _ _ hP hD hS (lv_sub hl [0, 1, 3, 4, 5, 6] rfl)
                    · skip
                      have g_8 := mt (nI_leI (by omega) (by omega)).mpr (show ¬ (nI i ≥ nI 5) from c_8)
                      refine lv_aload_n hx hb dX9_lots_94 rfl (lv_at hl 3 rfl) ?_
                      refine lv_aload_n hx hb dX9_lots_95 rfl (lv_at hl 3 rfl) ?_
                      refine va_get (D := G.1) (ci := 8) (v := .ref (am 1)) (C := RX9) (T := TX9) (N := 13) hx hb hts in_X9 hown hK.1 hP 0 rfl rfl 0 (by decide) (hts _ q1162) (fun _ h9 => h9) rfl dX9_lots_96 ?_
                      refine lv_iconst (v := 0) hx hb dX9_lots_99 (by decide) ?_
                      refine x_ialdn (k := 0) hx hb hK.1 hP 5 0 rfl rfl (by decide) (by decide) (v := nI (mny r)) (hr0) dX9_lots_100 ?_
                      refine x_Vi (wN := fun _ => (wM G am ho rn ln pl (dS sv) lt ro rf nb ++ [(am 1, .inl (G.2 0, 54, .inl (row r)))] ++ [(am 2, .inl (G.2 0, 54, .inl (row q)))] ++ [(am 3, .inl (G.2 0, 54, .inl (row r2)))] ++ [(am 4, .inl (G.2 0, 54, .inl (row r4)))])) ⟨C0, hK, hP, hD, hS, hA⟩ 0 rfl (ci := 8) rfl rfl ((m9_drawn l G am r q r2 r4 ho rn ln pl sv lt ro rf nb hr hp (mny r) hm0 (by omega))) (cwV 1 hts (lw_V q1463 q1465 qs84 q95 q1466) rfl rfl rfl (by decide +kernel) ⟨Nat.le_of_ble_eq_true rfl, Nat.le_of_ble_eq_true rfl⟩) [0, 1, 2, 3, 4, 5, 6, 7, 8] [1, 3, 5, 7, 9, 11, 13, 15, 17] rfl (fun _ => rfl) rfl rfl hl.1 rfl (Nat.le_of_ble_eq_true rfl) dX9_lots_101 ⟨(Nat.le_of_ble_eq_true rfl), (Nat.le_of_ble_eq_true rfl)⟩ (fun r_14 u_14 H locs hw_14 hP hD hS => ?_)
                      have hw_14 : (nI (dJ (dS sv) (mny r)) : Int32) = r_14 := hw_14.symm
                      subst hw_14
                      have hP : va_P G.1 vwCl (wM G am ho rn ln pl (dS sv) lt ro rf nb ++ [(am 1, .inl (G.2 0, 54, .inl (row r)))] ++ [(am 2, .inl (G.2 0, 54, .inl (row q)))] ++ [(am 3, .inl (G.2 0, 54, .inl (row r2)))] ++ [(am 4, .inl (G.2 0, 54, .inl (row r4)))]) H := hP
                      have hD : va_D A (wM G am ho rn ln pl (dS sv) lt ro rf nb ++ [(am 1, .inl (G.2 0, 54, .inl (row r)))] ++ [(am 2, .inl (G.2 0, 54, .inl (row q)))] ++ [(am 3, .inl (G.2 0, 54, .inl (row r2)))] ++ [(am 4, .inl (G.2 0, 54, .inl (row r4)))]) := hD
                      have hd1 := dJ_lt (dS sv) hm0
                      refine lv_istore (lv' := [(7, .int (nI (dJ (dS sv) (mny r)))), (6, .int (nI i)), (5, .int (nI k)), (4, .int ((lSum r w z k).2)), (0, .ref (am 0)), (1, .int (nI (ix cnt))), (2, .int z), (3, .int w)]) hx hb dX9_lots_104 hl (by decide) rfl (fun ls hl => ?_)
                      refine lv_aload_n hx hb dX9_lots_106 rfl (lv_at hl 4 rfl) ?_
                      refine lv_bipush (v := 10) hx hb dX9_lots_107 (by decide) ?_
                      refine x_Vi (wN := fun _ => (wM G am ho rn ln pl (dS (dS sv)) lt ro rf nb ++ [(am 1, .inl (G.2 0, 54, .inl (row r)))] ++ [(am 2, .inl (G.2 0, 54, .inl (row q)))] ++ [(am 3, .inl (G.2 0, 54, .inl (row r2)))] ++ [(am 4, .inl (G.2 0, 54, .inl (row r4)))])) ⟨C0, hK, hP, hD, hS, hA⟩ 0 rfl (ci := 8) rfl rfl ((m9_drawn l G am r q r2 r4 ho rn ln pl (dS sv) lt ro rf nb hr hp 10 (by omega) (by omega))) (cwV 1 hts (lw_V q1463 q1465 qs84 q95 q1466) rfl rfl rfl (by decide +kernel) ⟨Nat.le_of_ble_eq_true rfl, Nat.le_of_ble_eq_true rfl⟩) [0, 1, 2, 3, 4, 5, 6, 7, 8] [1, 3, 5, 7, 9, 11, 13, 15, 17] rfl (fun _ => rfl) rfl rfl hl.1 rfl (Nat.le_of_ble_eq_true rfl) dX9_lots_109 ⟨(Nat.le_of_ble_eq_true rfl), (Nat.le_of_ble_eq_true rfl)⟩ (fun r_15 u_15 H locs hw_15 hP hD hS => ?_)
                      have hw_15 : (nI (dJ (dS (dS sv)) 10) : Int32) = r_15 := hw_15.symm
                      subst hw_15
                      have hP : va_P G.1 vwCl (wM G am ho rn ln pl (dS (dS sv)) lt ro rf nb ++ [(am 1, .inl (G.2 0, 54, .inl (row r)))] ++ [(am 2, .inl (G.2 0, 54, .inl (row q)))] ++ [(am 3, .inl (G.2 0, 54, .inl (row r2)))] ++ [(am 4, .inl (G.2 0, 54, .inl (row r4)))]) H := hP
                      have hD : va_D A (wM G am ho rn ln pl (dS (dS sv)) lt ro rf nb ++ [(am 1, .inl (G.2 0, 54, .inl (row r)))] ++ [(am 2, .inl (G.2 0, 54, .inl (row q)))] ++ [(am 3, .inl (G.2 0, 54, .inl (row r2)))] ++ [(am 4, .inl (G.2 0, 54, .inl (row r4)))]) := hD
                      refine lv_istore (lv' := [(8, .int (nI (dJ (dS (dS sv)) 10))), (7, .int (nI (dJ (dS sv) (mny r)))), (6, .int (nI i)), (5, .int (nI k)), (4, .int ((lSum r w z k).2)), (0, .ref (am 0)), (1, .int (nI (ix cnt))), (2, .int z), (3, .int w)]) hx hb dX9_lots_112 hl (by decide) rfl (fun ls hl => ?_)
                      refine lv_aload_n hx hb dX9_lots_114 rfl (lv_at hl 5 rfl) ?_
                      refine va_get (D := G.1) (ci := 8) (v := .ref (am 2)) (C := RX9) (T := TX9) (N := 13) hx hb hts in_X9 hown hK.1 hP 0 rfl rfl 1 (by decide) (hts _ q1163) (fun _ h9 => h9) rfl dX9_lots_115 ?_
                      refine lv_iload hx hb dX9_lots_118 (lv_at hl 1 rfl) ?_
                      refine x_Si (wN := fun _ => (wM G am ho rn ln pl (dS (dS sv)) lt ro rf nb ++ [(am 1, .inl (G.2 0, 54, .inl (row r)))] ++ [(am 2, .inl (G.2 0, 54, .inl (row q)))] ++ [(am 3, .inl (G.2 0, 54, .inl (row r2)))] ++ [(am 4, .inl (G.2 0, 54, .inl (row r4)))])) ⟨C0, hK, hP, hD, hS, hA⟩ ((m9_stands l G (am 2) q hi88_2 (dJ (dS sv) (mny r)) (by omega))) (va_cwS 2 hts (lw_S q1251 q1252 q95 q1253) rfl rfl rfl (by decide +kernel) ⟨Nat.le_of_ble_eq_true rfl, Nat.le_of_ble_eq_true rfl⟩) [6] [0, 2, 4, 6, 8, 10, 1, 14, 16] rfl (fun _ => rfl) rfl rfl hl.1 rfl (Nat.le_of_ble_eq_true rfl) dX9_lots_120 ⟨(Nat.le_of_ble_eq_true rfl), (Nat.le_of_ble_eq_true rfl)⟩ (fun r_16 u_16 H locs hw_16 hP hD hS => ?_)
                      have hw_16 : (bI (pSt q (dJ (dS sv) (mny r))) : Int32) = r_16 := hw_16.symm
                      subst hw_16
                      refine lv_if_eq (tgt := 140) hx hb dX9_lots_123 (by decide) (fun c_17 => ?_) (fun c_17 => ?_)
                      · skip
                        refine lv_iconst (v := 0) hx hb dX9_lots_140 (by decide) ?_
                        refine lv_istore (lv' := [(9, .int 0), (8, .int (nI (dJ (dS (dS sv)) 10))), (7, .int (nI (dJ (dS sv) (mny r)))), (6, .int (nI i)), (5, .int (nI k)), (4, .int ((lSum r w z k).2)), (0, .ref (am 0)), (1, .int (nI (ix cnt))), (2, .int z), (3, .int w)]) hx hb dX9_lots_141 hl (by decide) rfl (fun ls hl => ?_)
                        refine lv_aload_n hx hb dX9_lots_143 rfl (lv_at hl 6 rfl) ?_
                        refine va_get (D := G.1) (ci := 8) (v := .ref (am 2)) (C := RX9) (T := TX9) (N := 13) hx hb hts in_X9 hown hK.1 hP 0 rfl rfl 1 (by decide) (hts _ q1163) (fun _ h9 => h9) rfl dX9_lots_144 ?_
                        refine lv_iconst (v := 0) hx hb dX9_lots_147 (by decide) ?_
                        refine x_Sv (wN := fun _ => (wM G am ho rn ln pl (dS (dS sv)) lt ro rf nb ++ [(am 1, .inl (G.2 0, 54, .inl (row r)))] ++ [(am 2, .inl (G.2 0, 54, .inl (row (pMin q 0))))] ++ [(am 3, .inl (G.2 0, 54, .inl (row r2)))] ++ [(am 4, .inl (G.2 0, 54, .inl (row r4)))])) ⟨C0, hK, hP, hD, hS, hA⟩ ((m9_minute l G (am 2) q hi88_2 0)) (va_cwS 2 hts (lw_S q1275 q1276 q95 q1277) rfl rfl rfl (by decide +kernel) ⟨Nat.le_of_ble_eq_true rfl, Nat.le_of_ble_eq_true rfl⟩) [6] [0, 2, 4, 6, 8, 10, 1, 14, 16] rfl (fun _ => rfl) rfl rfl hl.1 rfl (Nat.le_of_ble_eq_true rfl) dX9_lots_148 ⟨(Nat.le_of_ble_eq_true rfl), (Nat.le_of_ble_eq_true rfl)⟩ (fun u_18 H locs hw_18 hP hD hS => ?_)
                        have hP : va_P G.1 vwCl (wM G am ho rn ln pl (dS (dS sv)) lt ro rf nb ++ [(am 1, .inl (G.2 0, 54, .inl (row r)))] ++ [(am 2, .inl (G.2 0, 54, .inl (row (pMin q 0))))] ++ [(am 3, .inl (G.2 0, 54, .inl (row r2)))] ++ [(am 4, .inl (G.2 0, 54, .inl (row r4)))]) H := hP
                        have hD : va_D A (wM G am ho rn ln pl (dS (dS sv)) lt ro rf nb ++ [(am 1, .inl (G.2 0, 54, .inl (row r)))] ++ [(am 2, .inl (G.2 0, 54, .inl (row (pMin q 0))))] ++ [(am 3, .inl (G.2 0, 54, .inl (row r2)))] ++ [(am 4, .inl (G.2 0, 54, .inl (row r4)))]) := hD
                        refine lv_iinc (v := nI (i + 1)) (lv' := [(6, .int (nI (i + 1))), (9, .int 0), (8, .int (nI (dJ (dS (dS sv)) 10))), (7, .int (nI (dJ (dS sv) (mny r)))), (5, .int (nI k)), (4, .int ((lSum r w z k).2)), (0, .ref (am 0)), (1, .int (nI (ix cnt))), (2, .int z), (3, .int w)]) hx hb dX9_lots_151 hl (k := 3) rfl (x_inc1 _) (by decide) rfl (fun ls hl => ?_)
                        refine lv_goto (tgt := 88) hx hb dX9_lots_154 (by decide) ?_
                        exact ih_88 (i + 1) (dS (dS sv)) (pMin q 0) (by omega) (by omega) (Ok.min hi88_2) hi88_3 (by show lStep (lRun r (lSum r w z k).1 i) (mny r) = _; rw [hi88_4]; exact lStep_n (show pSt q (dJ (dS sv) (mny r)) = false from (by first | exact bI_n0 c_17 | exact bI_0.mp c_17))) _ _ _ hP hD hS (lv_sub hl [0, 4, 5, 6, 7, 8, 9] rfl)
                      · skip
                        refine lv_aload_n hx hb dX9_lots_126 rfl (lv_at hl 5 rfl) ?_
                        refine va_get (D := G.1) (ci := 8) (v := .ref (am 2)) (C := RX9) (T := TX9) (N := 13) hx hb hts in_X9 hown hK.1 hP 0 rfl rfl 1 (by decide) (hts _ q1163) (fun _ h9 => h9) rfl dX9_lots_127 ?_
                        refine lv_iload hx hb dX9_lots_130 (lv_at hl 1 rfl) ?_
                        refine lv_iload hx hb dX9_lots_132 (lv_at hl 0 rfl) ?_
                        refine x_Si (wN := fun _ => (wM G am ho rn ln pl (dS (dS sv)) lt ro rf nb ++ [(am 1, .inl (G.2 0, 54, .inl (row r)))] ++ [(am 2, .inl (G.2 0, 54, .inl (row (pPull q (dJ (dS sv) (mny r)) (nI (dJ (dS (dS sv)) 10))))))] ++ [(am 3, .inl (G.2 0, 54, .inl (row r2)))] ++ [(am 4, .inl (G.2 0, 54, .inl (row r4)))])) ⟨C0, hK, hP, hD, hS, hA⟩ ((m9_pull l G (am 2) q hi88_2 (dJ (dS sv) (mny r)) (nI (dJ (dS (dS sv)) 10)) (by omega))) (va_cwS 3 hts (lw_S q1257 q1258 q95 q1259) rfl rfl rfl (by decide +kernel) ⟨Nat.le_of_ble_eq_true rfl, Nat.le_of_ble_eq_true rfl⟩) [6] [0, 2, 4, 6, 8, 10, 1, 14, 16] rfl (fun _ => rfl) rfl rfl hl.1 rfl (Nat.le_of_ble_eq_true rfl) dX9_lots_134 ⟨(Nat.le_of_ble_eq_true rfl), (Nat.le_of_ble_eq_true rfl)⟩ (fun r_19 u_19 H locs hw_19 hP hD hS => ?_)
                        have hw_19 : (pPullN q (dJ (dS sv) (mny r)) (nI (dJ (dS (dS sv)) 10)) : Int32) = r_19 := hw_19.symm
                        subst hw_19
                        have hP : va_P G.1 vwCl (wM G am ho rn ln pl (dS (dS sv)) lt ro rf nb ++ [(am 1, .inl (G.2 0, 54, .inl (row r)))] ++ [(am 2, .inl (G.2 0, 54, .inl (row (pPull q (dJ (dS sv) (mny r)) (nI (dJ (dS (dS sv)) 10))))))] ++ [(am 3, .inl (G.2 0, 54, .inl (row r2)))] ++ [(am 4, .inl (G.2 0, 54, .inl (row r4)))]) H := hP
                        have hD : va_D A (wM G am ho rn ln pl (dS (dS sv)) lt ro rf nb ++ [(am 1, .inl (G.2 0, 54, .inl (row r)))] ++ [(am 2, .inl (G.2 0, 54, .inl (row (pPull q (dJ (dS sv) (mny r)) (nI (dJ (dS (dS sv)) 10))))))] ++ [(am 3, .inl (G.2 0, 54, .inl (row r2)))] ++ [(am 4, .inl (G.2 0, 54, .inl (row r4)))]) := hD
                        refine lv_goto (tgt := 141) hx hb dX9_lots_137 (by decide) ?_
                        refine lv_istore (lv' := [(9, .int (pPullN q (dJ (dS sv) (mny r)) (nI (dJ (dS (dS sv)) 10)))), (8, .int (nI (dJ (dS (dS sv)) 10))), (7, .int (nI (dJ (dS sv) (mny r)))), (6, .int (nI i)), (5, .int (nI k)), (4, .int ((lSum r w z k).2)), (0, .ref (am 0)), (1, .int (nI (ix cnt))), (2, .int z), (3, .int w)]) hx hb dX9_lots_141 hl (by decide) rfl (fun ls hl => ?_)
                        refine lv_aload_n hx hb dX9_lots_143 rfl (lv_at hl 6 rfl) ?_
                        refine va_get (D := G.1) (ci := 8) (v := .ref (am 2)) (C := RX9) (T := TX9) (N := 13) hx hb hts in_X9 hown hK.1 hP 0 rfl rfl 1 (by decide) (hts _ q1163) (fun _ h9 => h9) rfl dX9_lots_144 ?_
                        refine lv_iconst (v := 0) hx hb dX9_lots_147 (by decide) ?_
                        refine x_Sv (wN := fun _ => (wM G am ho rn ln pl (dS (dS sv)) lt ro rf nb ++ [(am 1, .inl (G.2 0, 54, .inl (row r)))] ++ [(am 2, .inl (G.2 0, 54, .inl (row (pMin (pPull q (dJ (dS sv) (mny r)) (nI (dJ (dS (dS sv)) 10))) 0))))] ++ [(am 3, .inl (G.2 0, 54, .inl (row r2)))] ++ [(am 4, .inl (G.2 0, 54, .inl (row r4)))])) ⟨C0, hK, hP, hD, hS, hA⟩ ((m9_minute l G (am 2) (pPull q (dJ (dS sv) (mny r)) (nI (dJ (dS (dS sv)) 10))) (Ok.pull hi88_2) 0)) (va_cwS 2 hts (lw_S q1275 q1276 q95 q1277) rfl rfl rfl (by decide +kernel) ⟨Nat.le_of_ble_eq_true rfl, Nat.le_of_ble_eq_true rfl⟩) [6] [0, 2, 4, 6, 8, 10, 1, 14, 16] rfl (fun _ => rfl) rfl rfl hl.1 rfl (Nat.le_of_ble_eq_true rfl) dX9_lots_148 ⟨(Nat.le_of_ble_eq_true rfl), (Nat.le_of_ble_eq_true rfl)⟩ (fun u_20 H locs hw_20 hP hD hS => ?_)
                        have hP : va_P G.1 vwCl (wM G am ho rn ln pl (dS (dS sv)) lt ro rf nb ++ [(am 1, .inl (G.2 0, 54, .inl (row r)))] ++ [(am 2, .inl (G.2 0, 54, .inl (row (pMin (pPull q (dJ (dS sv) (mny r)) (nI (dJ (dS (dS sv)) 10))) 0))))] ++ [(am 3, .inl (G.2 0, 54, .inl (row r2)))] ++ [(am 4, .inl (G.2 0, 54, .inl (row r4)))]) H := hP
                        have hD : va_D A (wM G am ho rn ln pl (dS (dS sv)) lt ro rf nb ++ [(am 1, .inl (G.2 0, 54, .inl (row r)))] ++ [(am 2, .inl (G.2 0, 54, .inl (row (pMin (pPull q (dJ (dS sv) (mny r)) (nI (dJ (dS (dS sv)) 10))) 0))))] ++ [(am 3, .inl (G.2 0, 54, .inl (row r2)))] ++ [(am 4, .inl (G.2 0, 54, .inl (row r4)))]) := hD
                        refine lv_iinc (v := nI (i + 1)) (lv' := [(6, .int (nI (i + 1))), (9, .int (pPullN q (dJ (dS sv) (mny r)) (nI (dJ (dS (dS sv)) 10)))), (8, .int (nI (dJ (dS (dS sv)) 10))), (7, .int (nI (dJ (dS sv) (mny r)))), (5, .int (nI k)), (4, .int ((lSum r w z k).2)), (0, .ref (am 0)), (1, .int (nI (ix cnt))), (2, .int z), (3, .int w)]) hx hb dX9_lots_151 hl (k := 3) rfl (x_inc1 _) (by decide) rfl (fun ls hl => ?_)
                        refine lv_goto (tgt := 88) hx hb dX9_lots_154 (by decide) ?_
                        exact ih_88 (i + 1) (dS (dS sv)) (pMin (pPull q (dJ (dS sv) (mny r)) (nI (dJ (dS (dS sv)) 10))) 0) (by omega) (by omega) (Ok.min (Ok.pull hi88_2)) hi88_3 (by show lStep (lRun r (lSum r w z k).1 i) (mny r) = _; rw [hi88_4]; exact lStep_y (show pSt q (dJ (dS sv) (mny r)) = true from (by first | exact bI_n0 c_17 | exact bI_0.mp c_17))) _ _ _ hP hD hS (lv_sub hl [0, 4, 5, 6, 7, 8, 9] rfl)
                exact loop_88 6 0 _ r (by omega) (by omega) hr rfl rfl _ _ _ hP hD hS (lv_sub hl [0, 1, 2, 3, 4, 5, 6] rfl)
          exact loop_68 (ix cnt + 1) 0 _ (by omega) (by omega) _ _ _ hP hD hS (lv_sub hl [0, 1, 2, 3, 4, 5] rfl)
        · skip
          have g_5 := (nI_eq (by omega) (by omega)).mp (show nI (mny r) = nI 0 from c_5)
          refine lv_aload_n hx hb dX9_lots_50 rfl (lv_at hl 0 rfl) ?_
          refine lv_bipush (v := (-3)) hx hb dX9_lots_51 (by decide) ?_
          refine x_Vi (wN := fun _ => (wM G am ho rn ln pl sd lt ro (rfU rf (-3)) nb ++ [(am 1, .inl (G.2 0, 54, .inl (row r)))] ++ [(am 2, .inl (G.2 0, 54, .inl (row rm)))] ++ [(am 3, .inl (G.2 0, 54, .inl (row r2)))] ++ [(am 4, .inl (G.2 0, 54, .inl (row r4)))])) ⟨C0, hK, hP, hD, hS, hA⟩ 0 rfl (ci := 8) rfl rfl ((m9_no l G am ho rn ln pl sd lt ro rf nb (-3) noOk_k.2.2.1)) (cwV 1 hts (lw_V q1206 q1208 qs66 q95 q1209) rfl rfl rfl (by decide +kernel) ⟨Nat.le_of_ble_eq_true rfl, Nat.le_of_ble_eq_true rfl⟩) [0, 1, 2, 3, 4] [1, 3, 5, 7, 9, 10, 12, 14, 16] rfl (fun _ => rfl) rfl rfl hl.1 rfl (Nat.le_of_ble_eq_true rfl) dX9_lots_53 ⟨(Nat.le_of_ble_eq_true rfl), (Nat.le_of_ble_eq_true rfl)⟩ (fun r_21 u_21 H locs hw_21 hP hD hS => ?_)
          have hw_21 : ((-3) : Int32) = r_21 := hw_21.symm
          subst hw_21
          have hP : va_P G.1 vwCl (wM G am ho rn ln pl sd lt ro (rfU rf (-3)) nb ++ [(am 1, .inl (G.2 0, 54, .inl (row r)))] ++ [(am 2, .inl (G.2 0, 54, .inl (row rm)))] ++ [(am 3, .inl (G.2 0, 54, .inl (row r2)))] ++ [(am 4, .inl (G.2 0, 54, .inl (row r4)))]) H := hP
          have hD : va_D A (wM G am ho rn ln pl sd lt ro (rfU rf (-3)) nb ++ [(am 1, .inl (G.2 0, 54, .inl (row r)))] ++ [(am 2, .inl (G.2 0, 54, .inl (row rm)))] ++ [(am 3, .inl (G.2 0, 54, .inl (row r2)))] ++ [(am 4, .inl (G.2 0, 54, .inl (row r4)))]) := hD
          have hE : eW (wBy cnt.toInt 1 20) (eS (inR w 0 1) (-2) (eS (decide (0 < nI (mny r))) (-3) 0)) = (-3) := by rw [wBy_ok (lo := 1) (hi := 20) (y := 1) (by decide) (z := 20) (by decide) c_1 c_2, eW_0 rfl, eS_t (show inR w 0 1 = true from (by first | exact bI_n0 c_4 | exact bI_0.mp c_4)), eS_f (decide_eq_false (fun z => by rw [show nI (mny r) = 0 from c_5] at z; exact absurd z (by decide)))]
          have hne : ((-3) : Int32) ≠ 0 := (by decide)
          have hP : va_P G.1 vwCl (wM G am ho rn ln pl ((rm, sd).2) lt ro (sel (eW (wBy cnt.toInt 1 20) (eS (inR w 0 1) (-2) (eS (decide (0 < nI (mny r))) (-3) 0))) rf (rfU rf (eW (wBy cnt.toInt 1 20) (eS (inR w 0 1) (-2) (eS (decide (0 < nI (mny r))) (-3) 0))))) nb ++ [(am 1, .inl (G.2 0, 54, .inl (row r)))] ++ [(am 2, .inl (G.2 0, 54, .inl (row ((rm, sd).1))))] ++ [(am 3, .inl (G.2 0, 54, .inl (row r2)))] ++ [(am 4, .inl (G.2 0, 54, .inl (row r4)))]) H := by rw [hE]; simp only [sel_n hne]; exact hP
          have hD : va_D A (wM G am ho rn ln pl ((rm, sd).2) lt ro (sel (eW (wBy cnt.toInt 1 20) (eS (inR w 0 1) (-2) (eS (decide (0 < nI (mny r))) (-3) 0))) rf (rfU rf (eW (wBy cnt.toInt 1 20) (eS (inR w 0 1) (-2) (eS (decide (0 < nI (mny r))) (-3) 0))))) nb ++ [(am 1, .inl (G.2 0, 54, .inl (row r)))] ++ [(am 2, .inl (G.2 0, 54, .inl (row ((rm, sd).1))))] ++ [(am 3, .inl (G.2 0, 54, .inl (row r2)))] ++ [(am 4, .inl (G.2 0, 54, .inl (row r4)))]) := by rw [hE]; simp only [sel_n hne]; exact hD
          refine hret _ _ _ _ _ _ (-3) (rm, sd) dX9_lots_56 ?_ hP hD hS (Nat.le_of_ble_eq_true rfl) (Nat.le_of_ble_eq_true rfl)
          rw [hE, sel_n hne]
      · skip
        refine lv_aload_n hx hb dX9_lots_34 rfl (lv_at hl 0 rfl) ?_
        refine lv_bipush (v := (-2)) hx hb dX9_lots_35 (by decide) ?_
        refine x_Vi (wN := fun _ => (wM G am ho rn ln pl sd lt ro (rfU rf (-2)) nb ++ [(am 1, .inl (G.2 0, 54, .inl (row r)))] ++ [(am 2, .inl (G.2 0, 54, .inl (row rm)))] ++ [(am 3, .inl (G.2 0, 54, .inl (row r2)))] ++ [(am 4, .inl (G.2 0, 54, .inl (row r4)))])) ⟨C0, hK, hP, hD, hS, hA⟩ 0 rfl (ci := 8) rfl rfl ((m9_no l G am ho rn ln pl sd lt ro rf nb (-2) noOk_k.2.1)) (cwV 1 hts (lw_V q1206 q1208 qs66 q95 q1209) rfl rfl rfl (by decide +kernel) ⟨Nat.le_of_ble_eq_true rfl, Nat.le_of_ble_eq_true rfl⟩) [0, 1, 2, 3, 4] [1, 3, 5, 7, 9, 10, 12, 14, 16] rfl (fun _ => rfl) rfl rfl hl.1 rfl (Nat.le_of_ble_eq_true rfl) dX9_lots_37 ⟨(Nat.le_of_ble_eq_true rfl), (Nat.le_of_ble_eq_true rfl)⟩ (fun r_22 u_22 H locs hw_22 hP hD hS => ?_)
        have hw_22 : ((-2) : Int32) = r_22 := hw_22.symm
        subst hw_22
        have hP : va_P G.1 vwCl (wM G am ho rn ln pl sd lt ro (rfU rf (-2)) nb ++ [(am 1, .inl (G.2 0, 54, .inl (row r)))] ++ [(am 2, .inl (G.2 0, 54, .inl (row rm)))] ++ [(am 3, .inl (G.2 0, 54, .inl (row r2)))] ++ [(am 4, .inl (G.2 0, 54, .inl (row r4)))]) H := hP
        have hD : va_D A (wM G am ho rn ln pl sd lt ro (rfU rf (-2)) nb ++ [(am 1, .inl (G.2 0, 54, .inl (row r)))] ++ [(am 2, .inl (G.2 0, 54, .inl (row rm)))] ++ [(am 3, .inl (G.2 0, 54, .inl (row r2)))] ++ [(am 4, .inl (G.2 0, 54, .inl (row r4)))]) := hD
        have hE : eW (wBy cnt.toInt 1 20) (eS (inR w 0 1) (-2) (eS (decide (0 < nI (mny r))) (-3) 0)) = (-2) := by rw [wBy_ok (lo := 1) (hi := 20) (y := 1) (by decide) (z := 20) (by decide) c_1 c_2, eW_0 rfl, eS_f (show inR w 0 1 = false from (by first | exact bI_n0 c_4 | exact bI_0.mp c_4))]
        have hne : ((-2) : Int32) ≠ 0 := (by decide)
        have hP : va_P G.1 vwCl (wM G am ho rn ln pl ((rm, sd).2) lt ro (sel (eW (wBy cnt.toInt 1 20) (eS (inR w 0 1) (-2) (eS (decide (0 < nI (mny r))) (-3) 0))) rf (rfU rf (eW (wBy cnt.toInt 1 20) (eS (inR w 0 1) (-2) (eS (decide (0 < nI (mny r))) (-3) 0))))) nb ++ [(am 1, .inl (G.2 0, 54, .inl (row r)))] ++ [(am 2, .inl (G.2 0, 54, .inl (row ((rm, sd).1))))] ++ [(am 3, .inl (G.2 0, 54, .inl (row r2)))] ++ [(am 4, .inl (G.2 0, 54, .inl (row r4)))]) H := by rw [hE]; simp only [sel_n hne]; exact hP
        have hD : va_D A (wM G am ho rn ln pl ((rm, sd).2) lt ro (sel (eW (wBy cnt.toInt 1 20) (eS (inR w 0 1) (-2) (eS (decide (0 < nI (mny r))) (-3) 0))) rf (rfU rf (eW (wBy cnt.toInt 1 20) (eS (inR w 0 1) (-2) (eS (decide (0 < nI (mny r))) (-3) 0))))) nb ++ [(am 1, .inl (G.2 0, 54, .inl (row r)))] ++ [(am 2, .inl (G.2 0, 54, .inl (row ((rm, sd).1))))] ++ [(am 3, .inl (G.2 0, 54, .inl (row r2)))] ++ [(am 4, .inl (G.2 0, 54, .inl (row r4)))]) := by rw [hE]; simp only [sel_n hne]; exact hD
        refine hret _ _ _ _ _ _ (-2) (rm, sd) dX9_lots_40 ?_ hP hD hS (Nat.le_of_ble_eq_true rfl) (Nat.le_of_ble_eq_true rfl)
        rw [hE, sel_n hne]
    · skip
      refine lv_aload_n hx hb dX9_lots_18 rfl (lv_at hl 0 rfl) ?_
      refine lv_bipush (v := (-6)) hx hb dX9_lots_19 (by decide) ?_
      refine x_Vi (wN := fun _ => (wM G am ho rn ln pl sd lt ro (rfU rf (-6)) nb ++ [(am 1, .inl (G.2 0, 54, .inl (row r)))] ++ [(am 2, .inl (G.2 0, 54, .inl (row rm)))] ++ [(am 3, .inl (G.2 0, 54, .inl (row r2)))] ++ [(am 4, .inl (G.2 0, 54, .inl (row r4)))])) ⟨C0, hK, hP, hD, hS, hA⟩ 0 rfl (ci := 8) rfl rfl ((m9_no l G am ho rn ln pl sd lt ro rf nb (-6) noOk_k.2.2.2.2)) (cwV 1 hts (lw_V q1206 q1208 qs66 q95 q1209) rfl rfl rfl (by decide +kernel) ⟨Nat.le_of_ble_eq_true rfl, Nat.le_of_ble_eq_true rfl⟩) [0, 1, 2, 3, 4] [1, 3, 5, 7, 9, 10, 12, 14, 16] rfl (fun _ => rfl) rfl rfl hl.1 rfl (Nat.le_of_ble_eq_true rfl) dX9_lots_21 ⟨(Nat.le_of_ble_eq_true rfl), (Nat.le_of_ble_eq_true rfl)⟩ (fun r_23 u_23 H locs hw_23 hP hD hS => ?_)
      have hw_23 : ((-6) : Int32) = r_23 := hw_23.symm
      subst hw_23
      have hP : va_P G.1 vwCl (wM G am ho rn ln pl sd lt ro (rfU rf (-6)) nb ++ [(am 1, .inl (G.2 0, 54, .inl (row r)))] ++ [(am 2, .inl (G.2 0, 54, .inl (row rm)))] ++ [(am 3, .inl (G.2 0, 54, .inl (row r2)))] ++ [(am 4, .inl (G.2 0, 54, .inl (row r4)))]) H := hP
      have hD : va_D A (wM G am ho rn ln pl sd lt ro (rfU rf (-6)) nb ++ [(am 1, .inl (G.2 0, 54, .inl (row r)))] ++ [(am 2, .inl (G.2 0, 54, .inl (row rm)))] ++ [(am 3, .inl (G.2 0, 54, .inl (row r2)))] ++ [(am 4, .inl (G.2 0, 54, .inl (row r4)))]) := hD
      have hE : eW (wBy cnt.toInt 1 20) (eS (inR w 0 1) (-2) (eS (decide (0 < nI (mny r))) (-3) 0)) = (-6) := by rw [wBy_hi (lo := 1) (hi := 20) (y := 1) (by decide) (z := 20) (by decide) c_1 c_2, eW_n (show (-6 : Int32) ≠ 0 by decide)]
      have hne : ((-6) : Int32) ≠ 0 := (by decide)
      have hP : va_P G.1 vwCl (wM G am ho rn ln pl ((rm, sd).2) lt ro (sel (eW (wBy cnt.toInt 1 20) (eS (inR w 0 1) (-2) (eS (decide (0 < nI (mny r))) (-3) 0))) rf (rfU rf (eW (wBy cnt.toInt 1 20) (eS (inR w 0 1) (-2) (eS (decide (0 < nI (mny r))) (-3) 0))))) nb ++ [(am 1, .inl (G.2 0, 54, .inl (row r)))] ++ [(am 2, .inl (G.2 0, 54, .inl (row ((rm, sd).1))))] ++ [(am 3, .inl (G.2 0, 54, .inl (row r2)))] ++ [(am 4, .inl (G.2 0, 54, .inl (row r4)))]) H := by rw [hE]; simp only [sel_n hne]; exact hP
      have hD : va_D A (wM G am ho rn ln pl ((rm, sd).2) lt ro (sel (eW (wBy cnt.toInt 1 20) (eS (inR w 0 1) (-2) (eS (decide (0 < nI (mny r))) (-3) 0))) rf (rfU rf (eW (wBy cnt.toInt 1 20) (eS (inR w 0 1) (-2) (eS (decide (0 < nI (mny r))) (-3) 0))))) nb ++ [(am 1, .inl (G.2 0, 54, .inl (row r)))] ++ [(am 2, .inl (G.2 0, 54, .inl (row ((rm, sd).1))))] ++ [(am 3, .inl (G.2 0, 54, .inl (row r2)))] ++ [(am 4, .inl (G.2 0, 54, .inl (row r4)))]) := by rw [hE]; simp only [sel_n hne]; exact hD
      refine hret _ _ _ _ _ _ (-6) (rm, sd) dX9_lots_24 ?_ hP hD hS (Nat.le_of_ble_eq_true rfl) (Nat.le_of_ble_eq_true rfl)
      rw [hE, sel_n hne]
  · skip
    refine lv_aload_n hx hb dX9_lots_5 rfl (lv_at hl 0 rfl) ?_
    refine lv_bipush (v := (-4)) hx hb dX9_lots_6 (by decide) ?_
    refine x_Vi (wN := fun _ => (wM G am ho rn ln pl sd lt ro (rfU rf (-4)) nb ++ [(am 1, .inl (G.2 0, 54, .inl (row r)))] ++ [(am 2, .inl (G.2 0, 54, .inl (row rm)))] ++ [(am 3, .inl (G.2 0, 54, .inl (row r2)))] ++ [(am 4, .inl (G.2 0, 54, .inl (row r4)))])) ⟨C0, hK, hP, hD, hS, hA⟩ 0 rfl (ci := 8) rfl rfl ((m9_no l G am ho rn ln pl sd lt ro rf nb (-4) noOk_k.2.2.2.1)) (cwV 1 hts (lw_V q1206 q1208 qs66 q95 q1209) rfl rfl rfl (by decide +kernel) ⟨Nat.le_of_ble_eq_true rfl, Nat.le_of_ble_eq_true rfl⟩) [0, 1, 2, 3, 4] [1, 3, 5, 7, 9, 10, 12, 14, 16] rfl (fun _ => rfl) rfl rfl hl.1 rfl (Nat.le_of_ble_eq_true rfl) dX9_lots_8 ⟨(Nat.le_of_ble_eq_true rfl), (Nat.le_of_ble_eq_true rfl)⟩ (fun r_24 u_24 H locs hw_24 hP hD hS => ?_)
    have hw_24 : ((-4) : Int32) = r_24 := hw_24.symm
    subst hw_24
    have hP : va_P G.1 vwCl (wM G am ho rn ln pl sd lt ro (rfU rf (-4)) nb ++ [(am 1, .inl (G.2 0, 54, .inl (row r)))] ++ [(am 2, .inl (G.2 0, 54, .inl (row rm)))] ++ [(am 3, .inl (G.2 0, 54, .inl (row r2)))] ++ [(am 4, .inl (G.2 0, 54, .inl (row r4)))]) H := hP
    have hD : va_D A (wM G am ho rn ln pl sd lt ro (rfU rf (-4)) nb ++ [(am 1, .inl (G.2 0, 54, .inl (row r)))] ++ [(am 2, .inl (G.2 0, 54, .inl (row rm)))] ++ [(am 3, .inl (G.2 0, 54, .inl (row r2)))] ++ [(am 4, .inl (G.2 0, 54, .inl (row r4)))]) := hD
    have hE : eW (wBy cnt.toInt 1 20) (eS (inR w 0 1) (-2) (eS (decide (0 < nI (mny r))) (-3) 0)) = (-4) := by rw [wBy_lo (lo := 1) (hi := 20) (y := 1) (by decide) c_1, eW_n (show (-4 : Int32) ≠ 0 by decide)]
    have hne : ((-4) : Int32) ≠ 0 := (by decide)
    have hP : va_P G.1 vwCl (wM G am ho rn ln pl ((rm, sd).2) lt ro (sel (eW (wBy cnt.toInt 1 20) (eS (inR w 0 1) (-2) (eS (decide (0 < nI (mny r))) (-3) 0))) rf (rfU rf (eW (wBy cnt.toInt 1 20) (eS (inR w 0 1) (-2) (eS (decide (0 < nI (mny r))) (-3) 0))))) nb ++ [(am 1, .inl (G.2 0, 54, .inl (row r)))] ++ [(am 2, .inl (G.2 0, 54, .inl (row ((rm, sd).1))))] ++ [(am 3, .inl (G.2 0, 54, .inl (row r2)))] ++ [(am 4, .inl (G.2 0, 54, .inl (row r4)))]) H := by rw [hE]; simp only [sel_n hne]; exact hP
    have hD : va_D A (wM G am ho rn ln pl ((rm, sd).2) lt ro (sel (eW (wBy cnt.toInt 1 20) (eS (inR w 0 1) (-2) (eS (decide (0 < nI (mny r))) (-3) 0))) rf (rfU rf (eW (wBy cnt.toInt 1 20) (eS (inR w 0 1) (-2) (eS (decide (0 < nI (mny r))) (-3) 0))))) nb ++ [(am 1, .inl (G.2 0, 54, .inl (row r)))] ++ [(am 2, .inl (G.2 0, 54, .inl (row ((rm, sd).1))))] ++ [(am 3, .inl (G.2 0, 54, .inl (row r2)))] ++ [(am 4, .inl (G.2 0, 54, .inl (row r4)))]) := by rw [hE]; simp only [sel_n hne]; exact hD
    refine hret _ _ _ _ _ _ (-4) (rm, sd) dX9_lots_11 ?_ hP hD hS (Nat.le_of_ble_eq_true rfl) (Nat.le_of_ble_eq_true rfl)
    rw [hE, sel_n hne]

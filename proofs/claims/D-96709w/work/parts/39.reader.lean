/-! the reader of letters (printed by tools/reader.py) -/
set_option maxRecDepth 100000
set_option maxHeartbeats 4000000 in
set_option maxRecDepth 100000 in
theorem m_X12_here (l : Launch) (G : xG) (ad : Nat → Nat → Nat) (ho rn ln dr : Int32) (ro lt rf th sb : Nat → Int32) (rd z k : Nat) (hz : z ≤ 96) (hk9 : k < 2 ^ 30) : xCi l G yX12_here cX12_here 1 (some .int) ({ frames := 0, cells := 0, slots := 0, locals := 0 } : Room) [.ref rd] (wX G ad ho rn ln dr ro lt rf th sb ++ [(rd, .inr (10, [.int (nI z), .int (nI k), .ref (ad 0 0)]))]) (S := Unit) (fun v _ => v = hC lt z k) (fun _ => (wX G ad ho rn ln dr ro lt rf th sb ++ [(rd, .inr (10, [.int (nI z), .int (nI k), .ref (ad 0 0)]))])) := by
  refine x_openi (by decide) (Nat.le_of_ble_eq_true rfl) (fun _ _ _ => rfl) ?_
  intro p e s m args below meth c A Q ls C0 hK hP hD hA hl hret
  obtain ⟨hx, hb, hml, hown, hts⟩ := id C0
  have hS : va_S A s.heap s.heap [] := va_S.rf
  have hP : va_P G.1 vwCl (wX G ad ho rn ln dr ro lt rf th sb ++ [(rd, .inr (10, [.int (nI z), .int (nI k), .ref (ad 0 0)]))]) s.heap := hP
  have hD : va_D A (wX G ad ho rn ln dr ro lt rf th sb ++ [(rd, .inr (10, [.int (nI z), .int (nI k), .ref (ad 0 0)]))]) := hD
  have hl : lv_has ls 1 [(0, .ref rd)] := hl
  refine lv_aload_n hx hb dX12_here_0 rfl (lv_at hl 0 rfl) ?_
  refine va_get (D := G.1) (ci := 10) (v := .int (nI k)) (C := RX12) (T := TX12) (N := 3) hx hb hts in_X12 hown hK.1 hP 7 rfl rfl 1 (by decide) (hts _ q370) (fun _ h9 => h9) rfl dX12_here_1 ?_
  refine lv_aload_n hx hb dX12_here_4 rfl (lv_at hl 0 rfl) ?_
  refine va_get (D := G.1) (ci := 10) (v := .int (nI z)) (C := RX12) (T := TX12) (N := 3) hx hb hts in_X12 hown hK.1 hP 7 rfl rfl 0 (by decide) (hts _ q368) (fun _ h9 => h9) rfl dX12_here_5 ?_
  refine lv_icmp_ge (tgt := 26) hx hb dX12_here_8 (by decide) (fun c_1 => ?_) (fun c_1 => ?_)
  · skip
    have g_1 := (nI_leI (by omega) (by omega)).mp c_1
    refine lv_iconst (v := (-1)) hx hb dX12_here_26 (by decide) ?_
    refine hret _ _ _ _ _ _ (-1) () dX12_here_27 ?_ hP hD hS (Nat.le_of_ble_eq_true rfl) (Nat.le_of_ble_eq_true rfl)
    unfold hC
    exact (if_neg (by omega)).symm
  · skip
    have g_1 := mt (nI_leI (by omega) (by omega)).mpr c_1
    refine lv_aload_n hx hb dX12_here_11 rfl (lv_at hl 0 rfl) ?_
    refine va_get (D := G.1) (ci := 10) (v := .ref (ad 0 0)) (C := RX12) (T := TX12) (N := 3) hx hb hts in_X12 hown hK.1 hP 7 rfl rfl 2 (by decide) (hts _ q372) (fun _ h9 => h9) rfl dX12_here_12 ?_
    refine va_getN (D := G.1) (ci := 0) (v := .ref (ad 0 3)) (C := RX0) (T := TX0) (N := 13) hx hb hts in_X0 hown hK.1 hP 0 rfl rfl 7 (by decide) (va_Nw.use rfl (hK.2.F 18 rfl)) (fun _ h9 => h9) rfl dX12_here_15 ?_
    refine lv_aload_n hx hb dX12_here_18 rfl (lv_at hl 0 rfl) ?_
    refine va_get (D := G.1) (ci := 10) (v := .int (nI k)) (C := RX12) (T := TX12) (N := 3) hx hb hts in_X12 hown hK.1 hP 7 rfl rfl 1 (by decide) (hts _ q370) (fun _ h9 => h9) rfl dX12_here_19 ?_
    refine x_caldn (k := k) hx hb hK.1 hP 3 2 rfl rfl (by omega) (by decide) (v := lt k) rfl dX12_here_22 ?_
    refine lv_goto (tgt := 27) hx hb dX12_here_23 (by decide) ?_
    refine hret _ _ _ _ _ _ (lt k) () dX12_here_27 ?_ hP hD hS (Nat.le_of_ble_eq_true rfl) (Nat.le_of_ble_eq_true rfl)
    unfold hC
    exact (if_pos (by omega)).symm
set_option maxHeartbeats 4000000 in
set_option maxRecDepth 100000 in
theorem m_X12_mustStand (l : Launch) (hl0 : l.stackTraces = false) (G : xG) (ad : Nat → Nat → Nat) (rd z k : Nat) (b : Bool) : yCv l G yX12_mustStand cX12_mustStand 2 none ({ frames := 7, cells := 1, slots := 7, locals := 108 } : Room) [.ref rd, .int (bI b)] ([(rd, .inr (10, [.int (nI z), .int (nI k), .ref (ad 0 0)]))]) (S := Unit) (SX := Unit) (fun _ => b = true) (fun _ => ([(rd, .inr (10, [.int (nI z), .int (nI k), .ref (ad 0 0)]))])) (fun n _ => b = false ∧ n = -1000 - nI k) (fun _ => ([(rd, .inr (10, [.int (nI z), .int (nI k), .ref (ad 0 0)]))])) := by
  refine y_openv (by decide) (Nat.le_of_ble_eq_true rfl) ?_
  intro p e s m args below meth c A Q ls C0 hK hZ hP hD hA hl hret hthr
  obtain ⟨hx, hb, hml, hown, hts⟩ := id C0
  have hS : va_S A s.heap s.heap [] := va_S.rf
  have hP : va_P G.1 vwCl ([(rd, .inr (10, [.int (nI z), .int (nI k), .ref (ad 0 0)]))]) s.heap := hP
  have hD : va_D A ([(rd, .inr (10, [.int (nI z), .int (nI k), .ref (ad 0 0)]))]) := hD
  have hl : lv_has ls 2 [(0, .ref rd), (1, .int (bI b))] := hl
  refine lv_iload_n hx hb dX12_mustStand_0 rfl (lv_at hl 1 rfl) ?_
  refine lv_if_ne (tgt := 20) hx hb dX12_mustStand_1 (by decide) (fun c_1 => ?_) (fun c_1 => ?_)
  · skip
    refine hret _ _ _ _ _ _ () dX12_mustStand_20 ?_ hP hD hS (Nat.le_of_ble_eq_true rfl) (Nat.le_of_ble_eq_true rfl)
    simpa [bI_0] using c_1
  · skip
    refine y_new_X13 ⟨C0, hK, hP, hD, hS, hA⟩ (hts _ q394) dX12_mustStand_4 (Nat.le_of_ble_eq_true rfl) (Nat.le_of_ble_eq_true rfl) (fun q_2 H hfr_2 hAq_2 hne_2 hX9 => ?_)
    obtain ⟨-, -, hP, hD, hS, -⟩ := hX9
    refine W.widen (k := 1) (n := 7) (Nat.le_of_ble_eq_true rfl) (Nat.le_of_ble_eq_true rfl) ?_
    refine lv_dup hx hb dX12_mustStand_7 rfl ?_
    refine lv_sipush (v := (-1000)) hx hb dX12_mustStand_8 (by decide) ?_
    refine lv_aload_n hx hb dX12_mustStand_11 rfl (lv_at hl 0 rfl) ?_
    refine va_get (D := G.1) (ci := 10) (v := .int (nI k)) (C := RX12) (T := TX12) (N := 3) hx hb hts in_X12 hown hK.1 hP 0 rfl rfl 1 (by decide) (hts _ q370) (fun _ h9 => h9) rfl dX12_mustStand_12 ?_
    refine x_isub hx hb dX12_mustStand_15 (v := (-1000) - (nI k)) rfl ?_
    refine y_ctor_X13 ⟨C0, hK, hP, hD, hS, hA⟩ hl0 hZ hfr_2 hAq_2 hne_2 (hts _ q403) hl.1 (Nat.le_of_ble_eq_true rfl) dX12_mustStand_16 ⟨Nat.le_of_ble_eq_true rfl, Nat.le_of_ble_eq_true rfl⟩ ⟨Nat.le_of_ble_eq_true rfl, Nat.le_of_ble_eq_true rfl⟩ (fun u9 H locs hP hD hS => ?_)
    refine vy_athrow hx hb dX12_mustStand_19 ?_
    refine hthr _ _ _ _ _ _ _ q_2 () (true, ((-1000) - (nI k)), .ref q_2, u9.1, u9.2) ?_ hP hD hS (Nat.le_of_ble_eq_true rfl) (Nat.le_of_ble_eq_true rfl)
    exact ⟨by simpa [bI_0] using c_1, rfl⟩
set_option maxHeartbeats 4000000 in
set_option maxRecDepth 100000 in
theorem m_X12_take (l : Launch) (hl0 : l.stackTraces = false) (G : xG) (ad : Nat → Nat → Nat) (ho rn ln dr : Int32) (ro lt rf th sb : Nat → Int32) (rd z k : Nat) (hz : z ≤ 96) (hk9 : k < 2 ^ 30) (x : Int32) : yCv l G yX12_take cX12_take 2 none ({ frames := 8, cells := 1, slots := 7, locals := 129 } : Room) [.ref rd, .int x] (wX G ad ho rn ln dr ro lt rf th sb ++ [(rd, .inr (10, [.int (nI z), .int (nI k), .ref (ad 0 0)]))]) (S := Unit) (SX := Unit) (fun _ => decide (hC lt z k = x) = true) (fun _ => (wX G ad ho rn ln dr ro lt rf th sb ++ [(rd, .inr (10, [.int (nI z), .int (nI (k + 1)), .ref (ad 0 0)]))])) (fun n _ => decide (hC lt z k = x) = false ∧ n = -1000 - nI k) (fun _ => (wX G ad ho rn ln dr ro lt rf th sb ++ [(rd, .inr (10, [.int (nI z), .int (nI k), .ref (ad 0 0)]))])) := by
  refine y_openv (by decide) (Nat.le_of_ble_eq_true rfl) ?_
  intro p e s m args below meth c A Q ls C0 hK hZ hP hD hA hl hret hthr
  obtain ⟨hx, hb, hml, hown, hts⟩ := id C0
  have hS : va_S A s.heap s.heap [] := va_S.rf
  have hP : va_P G.1 vwCl (wX G ad ho rn ln dr ro lt rf th sb ++ [(rd, .inr (10, [.int (nI z), .int (nI k), .ref (ad 0 0)]))]) s.heap := hP
  have hD : va_D A (wX G ad ho rn ln dr ro lt rf th sb ++ [(rd, .inr (10, [.int (nI z), .int (nI k), .ref (ad 0 0)]))]) := hD
  have hl : lv_has ls 2 [(0, .ref rd), (1, .int x)] := hl
  refine lv_aload_n hx hb dX12_take_0 rfl (lv_at hl 0 rfl) ?_
  refine lv_aload_n hx hb dX12_take_1 rfl (lv_at hl 0 rfl) ?_
  refine x_Vi (wN := fun _ => (wX G ad ho rn ln dr ro lt rf th sb ++ [(rd, .inr (10, [.int (nI z), .int (nI k), .ref (ad 0 0)]))])) ⟨C0, hK, hP, hD, hS, hA⟩ 7 rfl (ci := 10) rfl rfl ((m_X12_here l G ad ho rn ln dr ro lt rf th sb rd z k hz (by omega) )) (cwV 0 hts (lw_V q386 q388 qs5 q101 q389) rfl rfl rfl (by decide +kernel) ⟨Nat.le_of_ble_eq_true rfl, Nat.le_of_ble_eq_true rfl⟩) [0, 1, 2, 3, 4, 5, 6, 7] [1, 3, 5, 7, 9, 11, 13, 15] rfl (fun _ => rfl) rfl rfl hl.1 rfl (Nat.le_of_ble_eq_true rfl) dX12_take_2 ⟨(Nat.le_of_ble_eq_true rfl), (Nat.le_of_ble_eq_true rfl)⟩ (fun r_1 u_1 H locs hw_1 hP hD hS => ?_)
  have hw_1 : (hC lt z k : Int32) = r_1 := hw_1.symm
  subst hw_1
  refine lv_iload_n hx hb dX12_take_5 rfl (lv_at hl 1 rfl) ?_
  refine lv_icmp_ne (tgt := 13) hx hb dX12_take_6 (by decide) (fun c_2 => ?_) (fun c_2 => ?_)
  · skip
    refine lv_iconst (v := 0) hx hb dX12_take_13 (by decide) ?_
    have eb_14 : (0 : Int32) = bI (decide (hC lt z k = x)) := bI_F (decide_eq_false (c_2))
    rw [eb_14]
    have ef_14 : (decide (hC lt z k = x)) = false := bI_0.mp eb_14.symm
    refine y_Vv (wN := fun _ => (wX G ad ho rn ln dr ro lt rf th sb ++ [(rd, .inr (10, [.int (nI z), .int (nI k), .ref (ad 0 0)]))])) (wNx := fun u9 => (wX G ad ho rn ln dr ro lt rf th sb ++ [(rd, .inr (10, [.int (nI z), .int (nI k), .ref (ad 0 0)]))])) ⟨C0, hK, hP, hD, hS, hA⟩ hZ 7 rfl (ci := 10) rfl rfl ((m_X12_mustStand l hl0 G ad rd z k (decide (hC lt z k = x)))) (cwV 1 hts (lw_V q390 q392 qs6 q101 q393) rfl rfl rfl (by decide +kernel) ⟨Nat.le_of_ble_eq_true rfl, Nat.le_of_ble_eq_true rfl⟩) [7] [0, 2, 4, 6, 8, 10, 12, 1] [0, 2, 4, 6, 8, 10, 12, 1, 3] rfl (fun _ => rfl) (fun _ _ _ => rfl) rfl rfl rfl hl.1 rfl (Nat.le_of_ble_eq_true rfl) dX12_take_14 ⟨(Nat.le_of_ble_eq_true rfl), (Nat.le_of_ble_eq_true rfl)⟩ (fun q9 u9 ee H locs hw_3 hP hD hS => ?_) (fun u_3 H locs hw_3 hP hD hS => ?_)
    · skip
      refine hthr _ _ _ _ _ _ _ q9 () ee ?_ hP hD hS (Nat.le_of_ble_eq_true rfl) (Nat.le_of_ble_eq_true rfl)
      exact hw_3
    · skip
      refine W.widen (k := 1) (n := 7) (Nat.le_of_ble_eq_true rfl) (Nat.le_of_ble_eq_true rfl) ?_
      exact absurd hw_3 (by rw [ef_14]; decide)
  · skip
    refine lv_iconst (v := 1) hx hb dX12_take_9 (by decide) ?_
    refine lv_goto (tgt := 14) hx hb dX12_take_10 (by decide) ?_
    have eb_14 : (1 : Int32) = bI (decide (hC lt z k = x)) := bI_T (decide_eq_true (c_2))
    rw [eb_14]
    refine y_Vv (wN := fun _ => (wX G ad ho rn ln dr ro lt rf th sb ++ [(rd, .inr (10, [.int (nI z), .int (nI k), .ref (ad 0 0)]))])) (wNx := fun u9 => (wX G ad ho rn ln dr ro lt rf th sb ++ [(rd, .inr (10, [.int (nI z), .int (nI k), .ref (ad 0 0)]))])) ⟨C0, hK, hP, hD, hS, hA⟩ hZ 7 rfl (ci := 10) rfl rfl ((m_X12_mustStand l hl0 G ad rd z k (decide (hC lt z k = x)))) (cwV 1 hts (lw_V q390 q392 qs6 q101 q393) rfl rfl rfl (by decide +kernel) ⟨Nat.le_of_ble_eq_true rfl, Nat.le_of_ble_eq_true rfl⟩) [7] [0, 2, 4, 6, 8, 10, 12, 1] [0, 2, 4, 6, 8, 10, 12, 1, 3] rfl (fun _ => rfl) (fun _ _ _ => rfl) rfl rfl rfl hl.1 rfl (Nat.le_of_ble_eq_true rfl) dX12_take_14 ⟨(Nat.le_of_ble_eq_true rfl), (Nat.le_of_ble_eq_true rfl)⟩ (fun q9 u9 ee H locs hw_4 hP hD hS => ?_) (fun u_4 H locs hw_4 hP hD hS => ?_)
    · skip
      refine hthr _ _ _ _ _ _ _ q9 () ee ?_ hP hD hS (Nat.le_of_ble_eq_true rfl) (Nat.le_of_ble_eq_true rfl)
      exact hw_4
    · skip
      refine W.widen (k := 1) (n := 7) (Nat.le_of_ble_eq_true rfl) (Nat.le_of_ble_eq_true rfl) ?_
      have hq9 := hw_4
      refine lv_aload_n hx hb dX12_take_17 rfl (lv_at hl 0 rfl) ?_
      refine lv_dup hx hb dX12_take_18 rfl ?_
      refine va_get (D := G.1) (ci := 10) (v := .int (nI k)) (C := RX12) (T := TX12) (N := 3) hx hb hts in_X12 hown hK.1 hP 7 rfl rfl 1 (by decide) (hts _ q370) (fun _ h9 => h9) rfl dX12_take_19 ?_
      refine lv_iconst (v := 1) hx hb dX12_take_22 (by decide) ?_
      refine x_iadd hx hb dX12_take_23 (v := nI (k + 1)) (nI_1 _) ?_
      refine va_put (D := G.1) (ci := 10) (v := .int (nI (k + 1))) (ty := .int) (C := RX12) (T := TX12) (N := 3) hx hb hts in_X12 tyX12 tyX12_ok nmX12 hown hK.1 hP hD hS 7 rfl rfl 1 (by decide) (hts _ q370) (fun _ h9 => h9) rfl (by decide +kernel) rfl rfl (Nat.le_of_ble_eq_true rfl) dX12_take_24 (fun H locs hP hD hS => ?_)
      have hP : va_P G.1 vwCl (wX G ad ho rn ln dr ro lt rf th sb ++ [(rd, .inr (10, [.int (nI z), .int (nI (k + 1)), .ref (ad 0 0)]))]) H := hP
      have hD : va_D A (wX G ad ho rn ln dr ro lt rf th sb ++ [(rd, .inr (10, [.int (nI z), .int (nI (k + 1)), .ref (ad 0 0)]))]) := hD
      refine hret _ _ _ _ _ _ () dX12_take_27 ?_ hP hD hS (Nat.le_of_ble_eq_true rfl) (Nat.le_of_ble_eq_true rfl)
      exact hq9
set_option maxHeartbeats 4000000 in
set_option maxRecDepth 100000 in
theorem m_X12_digit (l : Launch) (hl0 : l.stackTraces = false) (G : xG) (ad : Nat → Nat → Nat) (ho rn ln dr : Int32) (ro lt rf th sb : Nat → Int32) (rd z k : Nat) (hz : z ≤ 96) (hk9 : k < 2 ^ 30) : yCi l G yX12_digit cX12_digit 1 (some .int) ({ frames := 8, cells := 1, slots := 7, locals := 129 } : Room) [.ref rd] (wX G ad ho rn ln dr ro lt rf th sb ++ [(rd, .inr (10, [.int (nI z), .int (nI k), .ref (ad 0 0)]))]) (S := Unit) (SX := Unit) (fun v _ => dB (hC lt z k) = true ∧ v = nI (dV (hC lt z k))) (fun _ => (wX G ad ho rn ln dr ro lt rf th sb ++ [(rd, .inr (10, [.int (nI z), .int (nI (k + 1)), .ref (ad 0 0)]))])) (fun n _ => dB (hC lt z k) = false ∧ n = -1000 - nI k) (fun _ => (wX G ad ho rn ln dr ro lt rf th sb ++ [(rd, .inr (10, [.int (nI z), .int (nI k), .ref (ad 0 0)]))])) := by
  refine y_openi (by decide) (Nat.le_of_ble_eq_true rfl) (fun _ _ _ => rfl) ?_
  intro p e s m args below meth c A Q ls C0 hK hZ hP hD hA hl hret hthr
  obtain ⟨hx, hb, hml, hown, hts⟩ := id C0
  have hS : va_S A s.heap s.heap [] := va_S.rf
  have hP : va_P G.1 vwCl (wX G ad ho rn ln dr ro lt rf th sb ++ [(rd, .inr (10, [.int (nI z), .int (nI k), .ref (ad 0 0)]))]) s.heap := hP
  have hD : va_D A (wX G ad ho rn ln dr ro lt rf th sb ++ [(rd, .inr (10, [.int (nI z), .int (nI k), .ref (ad 0 0)]))]) := hD
  have hl : lv_has ls 1 [(0, .ref rd)] := hl
  refine lv_aload_n hx hb dX12_digit_0 rfl (lv_at hl 0 rfl) ?_
  refine lv_aload_n hx hb dX12_digit_1 rfl (lv_at hl 0 rfl) ?_
  refine x_Vi (wN := fun _ => (wX G ad ho rn ln dr ro lt rf th sb ++ [(rd, .inr (10, [.int (nI z), .int (nI k), .ref (ad 0 0)]))])) ⟨C0, hK, hP, hD, hS, hA⟩ 7 rfl (ci := 10) rfl rfl ((m_X12_here l G ad ho rn ln dr ro lt rf th sb rd z k hz (by omega) )) (cwV 0 hts (lw_V q386 q388 qs5 q101 q389) rfl rfl rfl (by decide +kernel) ⟨Nat.le_of_ble_eq_true rfl, Nat.le_of_ble_eq_true rfl⟩) [0, 1, 2, 3, 4, 5, 6, 7] [1, 3, 5, 7, 9, 11, 13, 15] rfl (fun _ => rfl) rfl rfl hl.1 rfl (Nat.le_of_ble_eq_true rfl) dX12_digit_2 ⟨(Nat.le_of_ble_eq_true rfl), (Nat.le_of_ble_eq_true rfl)⟩ (fun r_1 u_1 H locs hw_1 hP hD hS => ?_)
  have hw_1 : (hC lt z k : Int32) = r_1 := hw_1.symm
  subst hw_1
  refine lv_i2l (v := (hC lt z k).toInt64) hx hb dX12_digit_5 rfl ?_
  refine lv_ldc2 (v := 48) hx hb hown (hts _ q424) dX12_digit_6 ?_
  refine lv_ldc2 (v := 57) hx hb hown (hts _ q425) dX12_digit_9 ?_
  refine x_SNi (wN := fun _ => (wX G ad ho rn ln dr ro lt rf th sb ++ [(rd, .inr (10, [.int (nI z), .int (nI k), .ref (ad 0 0)]))])) ⟨C0, hK, hP, hD, hS, hA⟩ ((m_in l G ((hC lt z k).toInt64) 48 57)) ⟨va_cnB 3 hts (lw_meth q428) rfl rfl rfl (hK.2.M 17 rfl) (hts _ q86) (by decide +kernel) ⟨Nat.le_of_ble_eq_true rfl, Nat.le_of_ble_eq_true rfl⟩, hts _ q427, trivial⟩ [] [0, 2, 4, 6, 8, 10, 12, 14] rfl (fun _ => rfl) rfl rfl hl.1 rfl (Nat.le_of_ble_eq_true rfl) dX12_digit_12 ⟨(Nat.le_of_ble_eq_true rfl), (Nat.le_of_ble_eq_true rfl)⟩ (fun r_2 u_2 H locs hw_2 hP hD hS => ?_)
  have hw_2 : r_2 = bI (dB (hC lt z k)) := hw_2.trans (congrArg bI (inL_inR rfl rfl))
  have hw_2 : (bI (dB (hC lt z k)) : Int32) = r_2 := hw_2.symm
  subst hw_2
  refine y_Vv (wN := fun _ => (wX G ad ho rn ln dr ro lt rf th sb ++ [(rd, .inr (10, [.int (nI z), .int (nI k), .ref (ad 0 0)]))])) (wNx := fun u9 => (wX G ad ho rn ln dr ro lt rf th sb ++ [(rd, .inr (10, [.int (nI z), .int (nI k), .ref (ad 0 0)]))])) ⟨C0, hK, hP, hD, hS, hA⟩ hZ 7 rfl (ci := 10) rfl rfl ((m_X12_mustStand l hl0 G ad rd z k (dB (hC lt z k)))) (cwV 1 hts (lw_V q390 q392 qs6 q101 q393) rfl rfl rfl (by decide +kernel) ⟨Nat.le_of_ble_eq_true rfl, Nat.le_of_ble_eq_true rfl⟩) [7] [0, 2, 4, 6, 8, 10, 12, 1] [0, 2, 4, 6, 8, 10, 12, 1, 3] rfl (fun _ => rfl) (fun _ _ _ => rfl) rfl rfl rfl hl.1 rfl (Nat.le_of_ble_eq_true rfl) dX12_digit_15 ⟨(Nat.le_of_ble_eq_true rfl), (Nat.le_of_ble_eq_true rfl)⟩ (fun q9 u9 ee H locs hw_3 hP hD hS => ?_) (fun u_3 H locs hw_3 hP hD hS => ?_)
  · skip
    refine hthr _ _ _ _ _ _ _ q9 () ee ?_ hP hD hS (Nat.le_of_ble_eq_true rfl) (Nat.le_of_ble_eq_true rfl)
    exact hw_3
  · skip
    refine W.widen (k := 1) (n := 7) (Nat.le_of_ble_eq_true rfl) (Nat.le_of_ble_eq_true rfl) ?_
    have hdg := hw_3
    have hkz := (hC_d hdg).1
    refine lv_aload_n hx hb dX12_digit_18 rfl (lv_at hl 0 rfl) ?_
    refine lv_dup hx hb dX12_digit_19 rfl ?_
    refine va_get (D := G.1) (ci := 10) (v := .int (nI k)) (C := RX12) (T := TX12) (N := 3) hx hb hts in_X12 hown hK.1 hP 7 rfl rfl 1 (by decide) (hts _ q370) (fun _ h9 => h9) rfl dX12_digit_20 ?_
    refine lv_iconst (v := 1) hx hb dX12_digit_23 (by decide) ?_
    refine x_iadd hx hb dX12_digit_24 (v := nI (k + 1)) (nI_1 _) ?_
    refine va_put (D := G.1) (ci := 10) (v := .int (nI (k + 1))) (ty := .int) (C := RX12) (T := TX12) (N := 3) hx hb hts in_X12 tyX12 tyX12_ok nmX12 hown hK.1 hP hD hS 7 rfl rfl 1 (by decide) (hts _ q370) (fun _ h9 => h9) rfl (by decide +kernel) rfl rfl (Nat.le_of_ble_eq_true rfl) dX12_digit_25 (fun H locs hP hD hS => ?_)
    have hP : va_P G.1 vwCl (wX G ad ho rn ln dr ro lt rf th sb ++ [(rd, .inr (10, [.int (nI z), .int (nI (k + 1)), .ref (ad 0 0)]))]) H := hP
    have hD : va_D A (wX G ad ho rn ln dr ro lt rf th sb ++ [(rd, .inr (10, [.int (nI z), .int (nI (k + 1)), .ref (ad 0 0)]))]) := hD
    refine lv_aload_n hx hb dX12_digit_28 rfl (lv_at hl 0 rfl) ?_
    refine va_get (D := G.1) (ci := 10) (v := .ref (ad 0 0)) (C := RX12) (T := TX12) (N := 3) hx hb hts in_X12 hown hK.1 hP 7 rfl rfl 2 (by decide) (hts _ q372) (fun _ h9 => h9) rfl dX12_digit_29 ?_
    refine va_getN (D := G.1) (ci := 0) (v := .ref (ad 0 3)) (C := RX0) (T := TX0) (N := 13) hx hb hts in_X0 hown hK.1 hP 0 rfl rfl 7 (by decide) (va_Nw.use rfl (hK.2.F 18 rfl)) (fun _ h9 => h9) rfl dX12_digit_32 ?_
    refine lv_aload_n hx hb dX12_digit_35 rfl (lv_at hl 0 rfl) ?_
    refine va_get (D := G.1) (ci := 10) (v := .int (nI (k + 1))) (C := RX12) (T := TX12) (N := 3) hx hb hts in_X12 hown hK.1 hP 7 rfl rfl 1 (by decide) (hts _ q370) (fun _ h9 => h9) rfl dX12_digit_36 ?_
    refine lv_iconst (v := 1) hx hb dX12_digit_39 (by decide) ?_
    refine x_isub hx hb dX12_digit_40 (v := nI k) (nI_prd _) ?_
    refine x_caldn (k := k) hx hb hK.1 hP 3 2 rfl rfl (by omega) (by decide) (v := lt k) rfl dX12_digit_41 ?_
    refine lv_bipush (v := 48) hx hb dX12_digit_42 (by decide) ?_
    refine x_isub hx hb dX12_digit_44 (v := nI (dV (hC lt z k))) (lt_48 hdg) ?_
    refine hret _ _ _ _ _ _ (nI (dV (hC lt z k))) () dX12_digit_45 ?_ hP hD hS (Nat.le_of_ble_eq_true rfl) (Nat.le_of_ble_eq_true rfl)
    exact ⟨hdg, rfl⟩
set_option maxHeartbeats 4000000 in
set_option maxRecDepth 100000 in
theorem m_kindOf (l : Launch) (G : xG) (ad : Nat → Nat → Nat) (ho rn ln dr : Int32) (ro lt rf th sb : Nat → Int32) (x : Int32) : xCi l G yX0_kindOf cX0_kindOf 2 (some .int) ({ frames := 0, cells := 0, slots := 0, locals := 0 } : Room) [.ref (ad 0 0), .int x] (wX G ad ho rn ln dr ro lt rf th sb) (S := Unit) (fun v _ => v = kO x) (fun _ => (wX G ad ho rn ln dr ro lt rf th sb)) := by
  refine x_openi (by decide) (Nat.le_of_ble_eq_true rfl) (fun _ _ _ => rfl) ?_
  intro p e s m args below meth c A Q ls C0 hK hP hD hA hl hret
  obtain ⟨hx, hb, hml, hown, hts⟩ := id C0
  have hS : va_S A s.heap s.heap [] := va_S.rf
  have hP : va_P G.1 vwCl (wX G ad ho rn ln dr ro lt rf th sb) s.heap := hP
  have hD : va_D A (wX G ad ho rn ln dr ro lt rf th sb) := hD
  have hl : lv_has ls 2 [(0, .ref (ad 0 0)), (1, .int x)] := hl
  refine lv_iload_n hx hb dX0_kindOf_0 rfl (lv_at hl 1 rfl) ?_
  by_cases e_1_0 : x = 98
  · skip
    refine lv_lookup (off := 69) (tgt := 70) hx hb dX0_kindOf_1 (by decide) (by rw [e_1_0]; decide) (by decide) ?_
    refine lv_iconst (v := 5) hx hb dX0_kindOf_70 (by decide) ?_
    refine hret _ _ _ _ _ _ 5 () dX0_kindOf_71 ?_ hP hD hS (Nat.le_of_ble_eq_true rfl) (Nat.le_of_ble_eq_true rfl)
    unfold kO
    rw [if_pos e_1_0]
  · skip
    by_cases e_1_1 : x = 99
    · skip
      refine lv_lookup (off := 65) (tgt := 66) hx hb dX0_kindOf_1 (by decide) (by rw [e_1_1]; decide) (by decide) ?_
      refine lv_iconst (v := 3) hx hb dX0_kindOf_66 (by decide) ?_
      refine hret _ _ _ _ _ _ 3 () dX0_kindOf_67 ?_ hP hD hS (Nat.le_of_ble_eq_true rfl) (Nat.le_of_ble_eq_true rfl)
      unfold kO
      rw [if_neg e_1_0, if_pos e_1_1]
    · skip
      by_cases e_1_2 : x = 103
      · skip
        refine lv_lookup (off := 61) (tgt := 62) hx hb dX0_kindOf_1 (by decide) (by rw [e_1_2]; decide) (by decide) ?_
        refine lv_iconst (v := 1) hx hb dX0_kindOf_62 (by decide) ?_
        refine hret _ _ _ _ _ _ 1 () dX0_kindOf_63 ?_ hP hD hS (Nat.le_of_ble_eq_true rfl) (Nat.le_of_ble_eq_true rfl)
        unfold kO
        rw [if_neg e_1_0, if_neg e_1_1, if_pos e_1_2]
      · skip
        by_cases e_1_3 : x = 112
        · skip
          refine lv_lookup (off := 63) (tgt := 64) hx hb dX0_kindOf_1 (by decide) (by rw [e_1_3]; decide) (by decide) ?_
          refine lv_iconst (v := 2) hx hb dX0_kindOf_64 (by decide) ?_
          refine hret _ _ _ _ _ _ 2 () dX0_kindOf_65 ?_ hP hD hS (Nat.le_of_ble_eq_true rfl) (Nat.le_of_ble_eq_true rfl)
          unfold kO
          rw [if_neg e_1_0, if_neg e_1_1, if_neg e_1_2, if_pos e_1_3]
        · skip
          by_cases e_1_4 : x = 116
          · skip
            refine lv_lookup (off := 59) (tgt := 60) hx hb dX0_kindOf_1 (by decide) (by rw [e_1_4]; decide) (by decide) ?_
            refine lv_iconst (v := 0) hx hb dX0_kindOf_60 (by decide) ?_
            refine hret _ _ _ _ _ _ 0 () dX0_kindOf_61 ?_ hP hD hS (Nat.le_of_ble_eq_true rfl) (Nat.le_of_ble_eq_true rfl)
            unfold kO
            rw [if_neg e_1_0, if_neg e_1_1, if_neg e_1_2, if_neg e_1_3, if_pos e_1_4]
          · skip
            by_cases e_1_5 : x = 119
            · skip
              refine lv_lookup (off := 67) (tgt := 68) hx hb dX0_kindOf_1 (by decide) (by rw [e_1_5]; decide) (by decide) ?_
              refine lv_iconst (v := 4) hx hb dX0_kindOf_68 (by decide) ?_
              refine hret _ _ _ _ _ _ 4 () dX0_kindOf_69 ?_ hP hD hS (Nat.le_of_ble_eq_true rfl) (Nat.le_of_ble_eq_true rfl)
              unfold kO
              rw [if_neg e_1_0, if_neg e_1_1, if_neg e_1_2, if_neg e_1_3, if_neg e_1_4, if_pos e_1_5]
            · skip
              refine lv_lookup (off := 71) (tgt := 72) hx hb dX0_kindOf_1 (by decide) (by show Op.lookupswitch.offset [(98, 69), (99, 65), (103, 61), (112, 63), (116, 59), (119, 67)] 71 _ = _; rw [lv_osw (a := 98) e_1_0 rfl, lv_osw (a := 99) e_1_1 rfl, lv_osw (a := 103) e_1_2 rfl, lv_osw (a := 112) e_1_3 rfl, lv_osw (a := 116) e_1_4 rfl, lv_osw (a := 119) e_1_5 rfl]; rfl) (by decide) ?_
              refine lv_iconst (v := (-1)) hx hb dX0_kindOf_72 (by decide) ?_
              refine hret _ _ _ _ _ _ (-1) () dX0_kindOf_73 ?_ hP hD hS (Nat.le_of_ble_eq_true rfl) (Nat.le_of_ble_eq_true rfl)
              unfold kO
              rw [if_neg e_1_0, if_neg e_1_1, if_neg e_1_2, if_neg e_1_3, if_neg e_1_4, if_neg e_1_5]
set_option maxHeartbeats 4000000 in
set_option maxRecDepth 100000 in
theorem m_X14_init_X15 (l : Launch) (G : xG) (o : Nat) (x1 x2 : Int32) : xCv l G yX14_init cX14_init 3 none ({ frames := 1, cells := 0, slots := 0, locals := 12 } : Room) [.ref o, .int x1, .int x2] ([(o, .inr (12, [.int 0, .int 0, .null]))]) (S := Unit) (fun _ => True) (fun _ => ([(o, .inr (12, [.int x1, .int x2, .null]))])) := by
  refine x_openc (by decide) (Nat.le_of_ble_eq_true rfl) ?_
  intro p e s m args below meth c A Q ls C0 hK hP hD hA hl hin hret
  obtain ⟨hx, hb, hml, hown, hts⟩ := id C0
  have hS : va_S A s.heap s.heap [] := va_S.rf
  have hP : va_P G.1 vwCl ([(o, .inr (12, [.int 0, .int 0, .null]))]) s.heap := hP
  have hD : va_D A ([(o, .inr (12, [.int 0, .int 0, .null]))]) := hD
  have hl : lv_has ls 3 [(0, .ref o), (1, .int x1), (2, .int x2)] := hl
  refine lv_aload_n hx hb dX14_init_0 rfl (lv_at hl 0 rfl) ?_
  refine W.objInit hx hb hown (hts _ q437) (hts _ q118) (hts _ q119) rfl (by rw [hml]; exact hl.1) rfl dX14_init_1 (Nat.le_of_ble_eq_true rfl) (Nat.le_of_ble_eq_true rfl) ?_
  refine W.eq (g2 := F0 m 4 ls []) rfl ?_
  refine lv_aload_n hx hb dX14_init_4 rfl (lv_at hl 0 rfl) ?_
  refine lv_iload_n hx hb dX14_init_5 rfl (lv_at hl 1 rfl) ?_
  refine va_putF (D := G.1) (ci := 12) (v := .int x1) (ty := .int) (C := RX15) (T := TX15) (N := 3) hx hb hts in_X15 tyX15 tyX15_ok nmX15 hown hK.1 hP hD hS 0 rfl rfl 0 (by decide) (hts _ q441) (fun _ h9 => h9) rfl hin rfl (by decide +kernel) rfl rfl (Nat.le_of_ble_eq_true rfl) dX14_init_6 (fun H locs hP hD hS => ?_)
  have hP : va_P G.1 vwCl ([(o, .inr (12, [.int x1, .int 0, .null]))]) H := hP
  have hD : va_D A ([(o, .inr (12, [.int x1, .int 0, .null]))]) := hD
  refine lv_aload_n hx hb dX14_init_9 rfl (lv_at hl 0 rfl) ?_
  refine lv_iload_n hx hb dX14_init_10 rfl (lv_at hl 2 rfl) ?_
  refine va_putF (D := G.1) (ci := 12) (v := .int x2) (ty := .int) (C := RX15) (T := TX15) (N := 3) hx hb hts in_X15 tyX15 tyX15_ok nmX15 hown hK.1 hP hD hS 0 rfl rfl 1 (by decide) (hts _ q443) (fun _ h9 => h9) rfl hin rfl (by decide +kernel) rfl rfl (Nat.le_of_ble_eq_true rfl) dX14_init_11 (fun H locs hP hD hS => ?_)
  have hP : va_P G.1 vwCl ([(o, .inr (12, [.int x1, .int x2, .null]))]) H := hP
  have hD : va_D A ([(o, .inr (12, [.int x1, .int x2, .null]))]) := hD
  refine hret _ _ _ _ _ _ () dX14_init_14 ?_ hP hD hS (Nat.le_of_ble_eq_true rfl) (Nat.le_of_ble_eq_true rfl)
  trivial
set_option maxHeartbeats 4000000 in
set_option maxRecDepth 100000 in
theorem m_X14_init_X16 (l : Launch) (G : xG) (o : Nat) (x1 x2 : Int32) : xCv l G yX14_init cX14_init 3 none ({ frames := 1, cells := 0, slots := 0, locals := 12 } : Room) [.ref o, .int x1, .int x2] ([(o, .inr (13, [.int 0, .int 0, .null, .int 0]))]) (S := Unit) (fun _ => True) (fun _ => ([(o, .inr (13, [.int x1, .int x2, .null, .int 0]))])) := by
  refine x_openc (by decide) (Nat.le_of_ble_eq_true rfl) ?_
  intro p e s m args below meth c A Q ls C0 hK hP hD hA hl hin hret
  obtain ⟨hx, hb, hml, hown, hts⟩ := id C0
  have hS : va_S A s.heap s.heap [] := va_S.rf
  have hP : va_P G.1 vwCl ([(o, .inr (13, [.int 0, .int 0, .null, .int 0]))]) s.heap := hP
  have hD : va_D A ([(o, .inr (13, [.int 0, .int 0, .null, .int 0]))]) := hD
  have hl : lv_has ls 3 [(0, .ref o), (1, .int x1), (2, .int x2)] := hl
  refine lv_aload_n hx hb dX14_init_0 rfl (lv_at hl 0 rfl) ?_
  refine W.objInit hx hb hown (hts _ q437) (hts _ q118) (hts _ q119) rfl (by rw [hml]; exact hl.1) rfl dX14_init_1 (Nat.le_of_ble_eq_true rfl) (Nat.le_of_ble_eq_true rfl) ?_
  refine W.eq (g2 := F0 m 4 ls []) rfl ?_
  refine lv_aload_n hx hb dX14_init_4 rfl (lv_at hl 0 rfl) ?_
  refine lv_iload_n hx hb dX14_init_5 rfl (lv_at hl 1 rfl) ?_
  refine va_putF (D := G.1) (ci := 13) (v := .int x1) (ty := .int) (C := RX16) (T := TX16) (N := 4) hx hb hts in_X16 tyX16 tyX16_ok nmX16 hown hK.1 hP hD hS 0 rfl rfl 0 (by decide) (hts _ q441) (fun _ h9 => h9) rfl hin rfl (by decide +kernel) rfl rfl (Nat.le_of_ble_eq_true rfl) dX14_init_6 (fun H locs hP hD hS => ?_)
  have hP : va_P G.1 vwCl ([(o, .inr (13, [.int x1, .int 0, .null, .int 0]))]) H := hP
  have hD : va_D A ([(o, .inr (13, [.int x1, .int 0, .null, .int 0]))]) := hD
  refine lv_aload_n hx hb dX14_init_9 rfl (lv_at hl 0 rfl) ?_
  refine lv_iload_n hx hb dX14_init_10 rfl (lv_at hl 2 rfl) ?_
  refine va_putF (D := G.1) (ci := 13) (v := .int x2) (ty := .int) (C := RX16) (T := TX16) (N := 4) hx hb hts in_X16 tyX16 tyX16_ok nmX16 hown hK.1 hP hD hS 0 rfl rfl 1 (by decide) (hts _ q443) (fun _ h9 => h9) rfl hin rfl (by decide +kernel) rfl rfl (Nat.le_of_ble_eq_true rfl) dX14_init_11 (fun H locs hP hD hS => ?_)
  have hP : va_P G.1 vwCl ([(o, .inr (13, [.int x1, .int x2, .null, .int 0]))]) H := hP
  have hD : va_D A ([(o, .inr (13, [.int x1, .int x2, .null, .int 0]))]) := hD
  refine hret _ _ _ _ _ _ () dX14_init_14 ?_ hP hD hS (Nat.le_of_ble_eq_true rfl) (Nat.le_of_ble_eq_true rfl)
  trivial
set_option maxHeartbeats 4000000 in
set_option maxRecDepth 100000 in
theorem m_X14_init_X17 (l : Launch) (G : xG) (o : Nat) (x1 x2 : Int32) : xCv l G yX14_init cX14_init 3 none ({ frames := 1, cells := 0, slots := 0, locals := 12 } : Room) [.ref o, .int x1, .int x2] ([(o, .inr (14, [.int 0, .int 0, .int 0]))]) (S := Unit) (fun _ => True) (fun _ => ([(o, .inr (14, [.int x1, .int x2, .int 0]))])) := by
  refine x_openc (by decide) (Nat.le_of_ble_eq_true rfl) ?_
  intro p e s m args below meth c A Q ls C0 hK hP hD hA hl hin hret
  obtain ⟨hx, hb, hml, hown, hts⟩ := id C0
  have hS : va_S A s.heap s.heap [] := va_S.rf
  have hP : va_P G.1 vwCl ([(o, .inr (14, [.int 0, .int 0, .int 0]))]) s.heap := hP
  have hD : va_D A ([(o, .inr (14, [.int 0, .int 0, .int 0]))]) := hD
  have hl : lv_has ls 3 [(0, .ref o), (1, .int x1), (2, .int x2)] := hl
  refine lv_aload_n hx hb dX14_init_0 rfl (lv_at hl 0 rfl) ?_
  refine W.objInit hx hb hown (hts _ q437) (hts _ q118) (hts _ q119) rfl (by rw [hml]; exact hl.1) rfl dX14_init_1 (Nat.le_of_ble_eq_true rfl) (Nat.le_of_ble_eq_true rfl) ?_
  refine W.eq (g2 := F0 m 4 ls []) rfl ?_
  refine lv_aload_n hx hb dX14_init_4 rfl (lv_at hl 0 rfl) ?_
  refine lv_iload_n hx hb dX14_init_5 rfl (lv_at hl 1 rfl) ?_
  refine va_putF (D := G.1) (ci := 14) (v := .int x1) (ty := .int) (C := RX17) (T := TX17) (N := 3) hx hb hts in_X17 tyX17 tyX17_ok nmX17 hown hK.1 hP hD hS 0 rfl rfl 0 (by decide) (hts _ q441) (fun _ h9 => h9) rfl hin rfl (by decide +kernel) rfl rfl (Nat.le_of_ble_eq_true rfl) dX14_init_6 (fun H locs hP hD hS => ?_)
  have hP : va_P G.1 vwCl ([(o, .inr (14, [.int x1, .int 0, .int 0]))]) H := hP
  have hD : va_D A ([(o, .inr (14, [.int x1, .int 0, .int 0]))]) := hD
  refine lv_aload_n hx hb dX14_init_9 rfl (lv_at hl 0 rfl) ?_
  refine lv_iload_n hx hb dX14_init_10 rfl (lv_at hl 2 rfl) ?_
  refine va_putF (D := G.1) (ci := 14) (v := .int x2) (ty := .int) (C := RX17) (T := TX17) (N := 3) hx hb hts in_X17 tyX17 tyX17_ok nmX17 hown hK.1 hP hD hS 0 rfl rfl 1 (by decide) (hts _ q443) (fun _ h9 => h9) rfl hin rfl (by decide +kernel) rfl rfl (Nat.le_of_ble_eq_true rfl) dX14_init_11 (fun H locs hP hD hS => ?_)
  have hP : va_P G.1 vwCl ([(o, .inr (14, [.int x1, .int x2, .int 0]))]) H := hP
  have hD : va_D A ([(o, .inr (14, [.int x1, .int x2, .int 0]))]) := hD
  refine hret _ _ _ _ _ _ () dX14_init_14 ?_ hP hD hS (Nat.le_of_ble_eq_true rfl) (Nat.le_of_ble_eq_true rfl)
  trivial
set_option maxHeartbeats 4000000 in
set_option maxRecDepth 100000 in
theorem m_X14_init_X18 (l : Launch) (G : xG) (o : Nat) (x1 x2 : Int32) : xCv l G yX14_init cX14_init 3 none ({ frames := 1, cells := 0, slots := 0, locals := 12 } : Room) [.ref o, .int x1, .int x2] ([(o, .inr (15, [.int 0, .int 0]))]) (S := Unit) (fun _ => True) (fun _ => ([(o, .inr (15, [.int x1, .int x2]))])) := by
  refine x_openc (by decide) (Nat.le_of_ble_eq_true rfl) ?_
  intro p e s m args below meth c A Q ls C0 hK hP hD hA hl hin hret
  obtain ⟨hx, hb, hml, hown, hts⟩ := id C0
  have hS : va_S A s.heap s.heap [] := va_S.rf
  have hP : va_P G.1 vwCl ([(o, .inr (15, [.int 0, .int 0]))]) s.heap := hP
  have hD : va_D A ([(o, .inr (15, [.int 0, .int 0]))]) := hD
  have hl : lv_has ls 3 [(0, .ref o), (1, .int x1), (2, .int x2)] := hl
  refine lv_aload_n hx hb dX14_init_0 rfl (lv_at hl 0 rfl) ?_
  refine W.objInit hx hb hown (hts _ q437) (hts _ q118) (hts _ q119) rfl (by rw [hml]; exact hl.1) rfl dX14_init_1 (Nat.le_of_ble_eq_true rfl) (Nat.le_of_ble_eq_true rfl) ?_
  refine W.eq (g2 := F0 m 4 ls []) rfl ?_
  refine lv_aload_n hx hb dX14_init_4 rfl (lv_at hl 0 rfl) ?_
  refine lv_iload_n hx hb dX14_init_5 rfl (lv_at hl 1 rfl) ?_
  refine va_putF (D := G.1) (ci := 15) (v := .int x1) (ty := .int) (C := RX18) (T := TX18) (N := 2) hx hb hts in_X18 tyX18 tyX18_ok nmX18 hown hK.1 hP hD hS 0 rfl rfl 0 (by decide) (hts _ q441) (fun _ h9 => h9) rfl hin rfl (by decide +kernel) rfl rfl (Nat.le_of_ble_eq_true rfl) dX14_init_6 (fun H locs hP hD hS => ?_)
  have hP : va_P G.1 vwCl ([(o, .inr (15, [.int x1, .int 0]))]) H := hP
  have hD : va_D A ([(o, .inr (15, [.int x1, .int 0]))]) := hD
  refine lv_aload_n hx hb dX14_init_9 rfl (lv_at hl 0 rfl) ?_
  refine lv_iload_n hx hb dX14_init_10 rfl (lv_at hl 2 rfl) ?_
  refine va_putF (D := G.1) (ci := 15) (v := .int x2) (ty := .int) (C := RX18) (T := TX18) (N := 2) hx hb hts in_X18 tyX18 tyX18_ok nmX18 hown hK.1 hP hD hS 0 rfl rfl 1 (by decide) (hts _ q443) (fun _ h9 => h9) rfl hin rfl (by decide +kernel) rfl rfl (Nat.le_of_ble_eq_true rfl) dX14_init_11 (fun H locs hP hD hS => ?_)
  have hP : va_P G.1 vwCl ([(o, .inr (15, [.int x1, .int x2]))]) H := hP
  have hD : va_D A ([(o, .inr (15, [.int x1, .int x2]))]) := hD
  refine hret _ _ _ _ _ _ () dX14_init_14 ?_ hP hD hS (Nat.le_of_ble_eq_true rfl) (Nat.le_of_ble_eq_true rfl)
  trivial
set_option maxHeartbeats 4000000 in
set_option maxRecDepth 100000 in
theorem m_X14_init_X19 (l : Launch) (G : xG) (o : Nat) (x1 x2 : Int32) : xCv l G yX14_init cX14_init 3 none ({ frames := 1, cells := 0, slots := 0, locals := 12 } : Room) [.ref o, .int x1, .int x2] ([(o, .inr (16, [.int 0, .int 0]))]) (S := Unit) (fun _ => True) (fun _ => ([(o, .inr (16, [.int x1, .int x2]))])) := by
  refine x_openc (by decide) (Nat.le_of_ble_eq_true rfl) ?_
  intro p e s m args below meth c A Q ls C0 hK hP hD hA hl hin hret
  obtain ⟨hx, hb, hml, hown, hts⟩ := id C0
  have hS : va_S A s.heap s.heap [] := va_S.rf
  have hP : va_P G.1 vwCl ([(o, .inr (16, [.int 0, .int 0]))]) s.heap := hP
  have hD : va_D A ([(o, .inr (16, [.int 0, .int 0]))]) := hD
  have hl : lv_has ls 3 [(0, .ref o), (1, .int x1), (2, .int x2)] := hl
  refine lv_aload_n hx hb dX14_init_0 rfl (lv_at hl 0 rfl) ?_
  refine W.objInit hx hb hown (hts _ q437) (hts _ q118) (hts _ q119) rfl (by rw [hml]; exact hl.1) rfl dX14_init_1 (Nat.le_of_ble_eq_true rfl) (Nat.le_of_ble_eq_true rfl) ?_
  refine W.eq (g2 := F0 m 4 ls []) rfl ?_
  refine lv_aload_n hx hb dX14_init_4 rfl (lv_at hl 0 rfl) ?_
  refine lv_iload_n hx hb dX14_init_5 rfl (lv_at hl 1 rfl) ?_
  refine va_putF (D := G.1) (ci := 16) (v := .int x1) (ty := .int) (C := RX19) (T := TX19) (N := 2) hx hb hts in_X19 tyX19 tyX19_ok nmX19 hown hK.1 hP hD hS 0 rfl rfl 0 (by decide) (hts _ q441) (fun _ h9 => h9) rfl hin rfl (by decide +kernel) rfl rfl (Nat.le_of_ble_eq_true rfl) dX14_init_6 (fun H locs hP hD hS => ?_)
  have hP : va_P G.1 vwCl ([(o, .inr (16, [.int x1, .int 0]))]) H := hP
  have hD : va_D A ([(o, .inr (16, [.int x1, .int 0]))]) := hD
  refine lv_aload_n hx hb dX14_init_9 rfl (lv_at hl 0 rfl) ?_
  refine lv_iload_n hx hb dX14_init_10 rfl (lv_at hl 2 rfl) ?_
  refine va_putF (D := G.1) (ci := 16) (v := .int x2) (ty := .int) (C := RX19) (T := TX19) (N := 2) hx hb hts in_X19 tyX19 tyX19_ok nmX19 hown hK.1 hP hD hS 0 rfl rfl 1 (by decide) (hts _ q443) (fun _ h9 => h9) rfl hin rfl (by decide +kernel) rfl rfl (Nat.le_of_ble_eq_true rfl) dX14_init_11 (fun H locs hP hD hS => ?_)
  have hP : va_P G.1 vwCl ([(o, .inr (16, [.int x1, .int x2]))]) H := hP
  have hD : va_D A ([(o, .inr (16, [.int x1, .int x2]))]) := hD
  refine hret _ _ _ _ _ _ () dX14_init_14 ?_ hP hD hS (Nat.le_of_ble_eq_true rfl) (Nat.le_of_ble_eq_true rfl)
  trivial
set_option maxHeartbeats 4000000 in
set_option maxRecDepth 100000 in
theorem m_X14_init_X20 (l : Launch) (G : xG) (o : Nat) (x1 x2 : Int32) : xCv l G yX14_init cX14_init 3 none ({ frames := 1, cells := 0, slots := 0, locals := 12 } : Room) [.ref o, .int x1, .int x2] ([(o, .inr (17, [.int 0, .int 0]))]) (S := Unit) (fun _ => True) (fun _ => ([(o, .inr (17, [.int x1, .int x2]))])) := by
  refine x_openc (by decide) (Nat.le_of_ble_eq_true rfl) ?_
  intro p e s m args below meth c A Q ls C0 hK hP hD hA hl hin hret
  obtain ⟨hx, hb, hml, hown, hts⟩ := id C0
  have hS : va_S A s.heap s.heap [] := va_S.rf
  have hP : va_P G.1 vwCl ([(o, .inr (17, [.int 0, .int 0]))]) s.heap := hP
  have hD : va_D A ([(o, .inr (17, [.int 0, .int 0]))]) := hD
  have hl : lv_has ls 3 [(0, .ref o), (1, .int x1), (2, .int x2)] := hl
  refine lv_aload_n hx hb dX14_init_0 rfl (lv_at hl 0 rfl) ?_
  refine W.objInit hx hb hown (hts _ q437) (hts _ q118) (hts _ q119) rfl (by rw [hml]; exact hl.1) rfl dX14_init_1 (Nat.le_of_ble_eq_true rfl) (Nat.le_of_ble_eq_true rfl) ?_
  refine W.eq (g2 := F0 m 4 ls []) rfl ?_
  refine lv_aload_n hx hb dX14_init_4 rfl (lv_at hl 0 rfl) ?_
  refine lv_iload_n hx hb dX14_init_5 rfl (lv_at hl 1 rfl) ?_
  refine va_putF (D := G.1) (ci := 17) (v := .int x1) (ty := .int) (C := RX20) (T := TX20) (N := 2) hx hb hts in_X20 tyX20 tyX20_ok nmX20 hown hK.1 hP hD hS 0 rfl rfl 0 (by decide) (hts _ q441) (fun _ h9 => h9) rfl hin rfl (by decide +kernel) rfl rfl (Nat.le_of_ble_eq_true rfl) dX14_init_6 (fun H locs hP hD hS => ?_)
  have hP : va_P G.1 vwCl ([(o, .inr (17, [.int x1, .int 0]))]) H := hP
  have hD : va_D A ([(o, .inr (17, [.int x1, .int 0]))]) := hD
  refine lv_aload_n hx hb dX14_init_9 rfl (lv_at hl 0 rfl) ?_
  refine lv_iload_n hx hb dX14_init_10 rfl (lv_at hl 2 rfl) ?_
  refine va_putF (D := G.1) (ci := 17) (v := .int x2) (ty := .int) (C := RX20) (T := TX20) (N := 2) hx hb hts in_X20 tyX20 tyX20_ok nmX20 hown hK.1 hP hD hS 0 rfl rfl 1 (by decide) (hts _ q443) (fun _ h9 => h9) rfl hin rfl (by decide +kernel) rfl rfl (Nat.le_of_ble_eq_true rfl) dX14_init_11 (fun H locs hP hD hS => ?_)
  have hP : va_P G.1 vwCl ([(o, .inr (17, [.int x1, .int x2]))]) H := hP
  have hD : va_D A ([(o, .inr (17, [.int x1, .int x2]))]) := hD
  refine hret _ _ _ _ _ _ () dX14_init_14 ?_ hP hD hS (Nat.le_of_ble_eq_true rfl) (Nat.le_of_ble_eq_true rfl)
  trivial
set_option maxHeartbeats 4000000 in
set_option maxRecDepth 100000 in
theorem m_X15_init_X15 (l : Launch) (G : xG) (o : Nat) (x1 : Int32) (q1 : Nat) (x2 : Int32) : xCv l G yX15_init cX15_init 4 none ({ frames := 2, cells := 0, slots := 0, locals := 34 } : Room) [.ref o, .int x1, .ref q1, .int x2] ([(o, .inr (12, [.int 0, .int 0, .null]))]) (S := Unit) (fun _ => True) (fun _ => ([(o, .inr (12, [.int x1, .int x2, .ref q1]))])) := by
  refine x_openc (by decide) (Nat.le_of_ble_eq_true rfl) ?_
  intro p e s m args below meth c A Q ls C0 hK hP hD hA hl hin hret
  obtain ⟨hx, hb, hml, hown, hts⟩ := id C0
  have hS : va_S A s.heap s.heap [] := va_S.rf
  have hP : va_P G.1 vwCl ([(o, .inr (12, [.int 0, .int 0, .null]))]) s.heap := hP
  have hD : va_D A ([(o, .inr (12, [.int 0, .int 0, .null]))]) := hD
  have hl : lv_has ls 4 [(0, .ref o), (1, .int x1), (2, .ref q1), (3, .int x2)] := hl
  refine lv_aload_n hx hb dX15_init_0 rfl (lv_at hl 0 rfl) ?_
  refine lv_iload_n hx hb dX15_init_1 rfl (lv_at hl 1 rfl) ?_
  refine lv_iload_n hx hb dX15_init_2 rfl (lv_at hl 3 rfl) ?_
  refine x_Iv (wN := fun _ => ([(o, .inr (12, [.int x1, .int x2, .null]))])) ⟨C0, hK, hP, hD, hS, hA⟩ ((m_X14_init_X15 l G o x1 x2)) (cwI 2 hts (lw_meth q436) rfl rfl rfl (hts _ q103) (hts _ q434) (hts _ q435) rfl (by decide +kernel) ⟨Nat.le_of_ble_eq_true rfl, Nat.le_of_ble_eq_true rfl⟩) [0] [1] rfl (fun _ => rfl) rfl rfl hl.1 rfl (Nat.le_of_ble_eq_true rfl) dX15_init_3 ⟨(Nat.le_of_ble_eq_true rfl), (Nat.le_of_ble_eq_true rfl)⟩ (fun u_1 H locs hw_1 hP hD hS => ?_)
  have hP : va_P G.1 vwCl ([(o, .inr (12, [.int x1, .int x2, .null]))]) H := hP
  have hD : va_D A ([(o, .inr (12, [.int x1, .int x2, .null]))]) := hD
  refine lv_aload_n hx hb dX15_init_6 rfl (lv_at hl 0 rfl) ?_
  refine lv_aload_n hx hb dX15_init_7 rfl (lv_at hl 2 rfl) ?_
  refine va_putF (D := G.1) (ci := 12) (v := .ref q1) (ty := (.object "PulledFromUnder$Kind")) (C := RX15) (T := TX15) (N := 3) hx hb hts in_X15 tyX15 tyX15_ok nmX15 hown hK.1 hP hD hS 0 rfl rfl 2 (by decide) (hts _ q438) (fun _ h9 => h9) rfl hin rfl (by decide +kernel) rfl rfl (Nat.le_of_ble_eq_true rfl) dX15_init_8 (fun H locs hP hD hS => ?_)
  have hP : va_P G.1 vwCl ([(o, .inr (12, [.int x1, .int x2, .ref q1]))]) H := hP
  have hD : va_D A ([(o, .inr (12, [.int x1, .int x2, .ref q1]))]) := hD
  refine hret _ _ _ _ _ _ () dX15_init_11 ?_ hP hD hS (Nat.le_of_ble_eq_true rfl) (Nat.le_of_ble_eq_true rfl)
  trivial
set_option maxHeartbeats 4000000 in
set_option maxRecDepth 100000 in
theorem m_X15_init_X16 (l : Launch) (G : xG) (o : Nat) (x1 : Int32) (q1 : Nat) (x2 : Int32) : xCv l G yX15_init cX15_init 4 none ({ frames := 2, cells := 0, slots := 0, locals := 34 } : Room) [.ref o, .int x1, .ref q1, .int x2] ([(o, .inr (13, [.int 0, .int 0, .null, .int 0]))]) (S := Unit) (fun _ => True) (fun _ => ([(o, .inr (13, [.int x1, .int x2, .ref q1, .int 0]))])) := by
  refine x_openc (by decide) (Nat.le_of_ble_eq_true rfl) ?_
  intro p e s m args below meth c A Q ls C0 hK hP hD hA hl hin hret
  obtain ⟨hx, hb, hml, hown, hts⟩ := id C0
  have hS : va_S A s.heap s.heap [] := va_S.rf
  have hP : va_P G.1 vwCl ([(o, .inr (13, [.int 0, .int 0, .null, .int 0]))]) s.heap := hP
  have hD : va_D A ([(o, .inr (13, [.int 0, .int 0, .null, .int 0]))]) := hD
  have hl : lv_has ls 4 [(0, .ref o), (1, .int x1), (2, .ref q1), (3, .int x2)] := hl
  refine lv_aload_n hx hb dX15_init_0 rfl (lv_at hl 0 rfl) ?_
  refine lv_iload_n hx hb dX15_init_1 rfl (lv_at hl 1 rfl) ?_
  refine lv_iload_n hx hb dX15_init_2 rfl (lv_at hl 3 rfl) ?_
  refine x_Iv (wN := fun _ => ([(o, .inr (13, [.int x1, .int x2, .null, .int 0]))])) ⟨C0, hK, hP, hD, hS, hA⟩ ((m_X14_init_X16 l G o x1 x2)) (cwI 2 hts (lw_meth q436) rfl rfl rfl (hts _ q103) (hts _ q434) (hts _ q435) rfl (by decide +kernel) ⟨Nat.le_of_ble_eq_true rfl, Nat.le_of_ble_eq_true rfl⟩) [0] [1] rfl (fun _ => rfl) rfl rfl hl.1 rfl (Nat.le_of_ble_eq_true rfl) dX15_init_3 ⟨(Nat.le_of_ble_eq_true rfl), (Nat.le_of_ble_eq_true rfl)⟩ (fun u_1 H locs hw_1 hP hD hS => ?_)
  have hP : va_P G.1 vwCl ([(o, .inr (13, [.int x1, .int x2, .null, .int 0]))]) H := hP
  have hD : va_D A ([(o, .inr (13, [.int x1, .int x2, .null, .int 0]))]) := hD
  refine lv_aload_n hx hb dX15_init_6 rfl (lv_at hl 0 rfl) ?_
  refine lv_aload_n hx hb dX15_init_7 rfl (lv_at hl 2 rfl) ?_
  refine va_putF (D := G.1) (ci := 13) (v := .ref q1) (ty := (.object "PulledFromUnder$Kind")) (C := RX16) (T := TX16) (N := 4) hx hb hts in_X16 tyX16 tyX16_ok nmX16 hown hK.1 hP hD hS 0 rfl rfl 2 (by decide) (hts _ q438) (fun _ h9 => h9) rfl hin rfl (by decide +kernel) rfl rfl (Nat.le_of_ble_eq_true rfl) dX15_init_8 (fun H locs hP hD hS => ?_)
  have hP : va_P G.1 vwCl ([(o, .inr (13, [.int x1, .int x2, .ref q1, .int 0]))]) H := hP
  have hD : va_D A ([(o, .inr (13, [.int x1, .int x2, .ref q1, .int 0]))]) := hD
  refine hret _ _ _ _ _ _ () dX15_init_11 ?_ hP hD hS (Nat.le_of_ble_eq_true rfl) (Nat.le_of_ble_eq_true rfl)
  trivial
set_option maxHeartbeats 4000000 in
set_option maxRecDepth 100000 in
theorem m_X16_init_X16 (l : Launch) (G : xG) (o : Nat) (x1 : Int32) (q1 : Nat) (x2 x3 : Int32) : xCv l G yX16_init cX16_init 5 none ({ frames := 3, cells := 0, slots := 0, locals := 57 } : Room) [.ref o, .int x1, .ref q1, .int x2, .int x3] ([(o, .inr (13, [.int 0, .int 0, .null, .int 0]))]) (S := Unit) (fun _ => True) (fun _ => ([(o, .inr (13, [.int x1, .int x2, .ref q1, .int x3]))])) := by
  refine x_openc (by decide) (Nat.le_of_ble_eq_true rfl) ?_
  intro p e s m args below meth c A Q ls C0 hK hP hD hA hl hin hret
  obtain ⟨hx, hb, hml, hown, hts⟩ := id C0
  have hS : va_S A s.heap s.heap [] := va_S.rf
  have hP : va_P G.1 vwCl ([(o, .inr (13, [.int 0, .int 0, .null, .int 0]))]) s.heap := hP
  have hD : va_D A ([(o, .inr (13, [.int 0, .int 0, .null, .int 0]))]) := hD
  have hl : lv_has ls 5 [(0, .ref o), (1, .int x1), (2, .ref q1), (3, .int x2), (4, .int x3)] := hl
  refine lv_aload_n hx hb dX16_init_0 rfl (lv_at hl 0 rfl) ?_
  refine lv_iload_n hx hb dX16_init_1 rfl (lv_at hl 1 rfl) ?_
  refine lv_aload_n hx hb dX16_init_2 rfl (lv_at hl 2 rfl) ?_
  refine lv_iload_n hx hb dX16_init_3 rfl (lv_at hl 3 rfl) ?_
  refine x_Iv (wN := fun _ => ([(o, .inr (13, [.int x1, .int x2, .ref q1, .int 0]))])) ⟨C0, hK, hP, hD, hS, hA⟩ ((m_X15_init_X16 l G o x1 q1 x2)) (cwI 3 hts (lw_meth q433) rfl rfl rfl (hts _ q104) (hts _ q468) (hts _ q432) rfl (by decide +kernel) ⟨Nat.le_of_ble_eq_true rfl, Nat.le_of_ble_eq_true rfl⟩) [0] [1] rfl (fun _ => rfl) rfl rfl hl.1 rfl (Nat.le_of_ble_eq_true rfl) dX16_init_4 ⟨(Nat.le_of_ble_eq_true rfl), (Nat.le_of_ble_eq_true rfl)⟩ (fun u_1 H locs hw_1 hP hD hS => ?_)
  have hP : va_P G.1 vwCl ([(o, .inr (13, [.int x1, .int x2, .ref q1, .int 0]))]) H := hP
  have hD : va_D A ([(o, .inr (13, [.int x1, .int x2, .ref q1, .int 0]))]) := hD
  refine lv_aload_n hx hb dX16_init_7 rfl (lv_at hl 0 rfl) ?_
  refine lv_iload hx hb dX16_init_8 (lv_at hl 4 rfl) ?_
  refine va_putF (D := G.1) (ci := 13) (v := .int x3) (ty := .int) (C := RX16) (T := TX16) (N := 4) hx hb hts in_X16 tyX16 tyX16_ok nmX16 hown hK.1 hP hD hS 0 rfl rfl 3 (by decide) (hts _ q469) (fun _ h9 => h9) rfl hin rfl (by decide +kernel) rfl rfl (Nat.le_of_ble_eq_true rfl) dX16_init_10 (fun H locs hP hD hS => ?_)
  have hP : va_P G.1 vwCl ([(o, .inr (13, [.int x1, .int x2, .ref q1, .int x3]))]) H := hP
  have hD : va_D A ([(o, .inr (13, [.int x1, .int x2, .ref q1, .int x3]))]) := hD
  refine hret _ _ _ _ _ _ () dX16_init_13 ?_ hP hD hS (Nat.le_of_ble_eq_true rfl) (Nat.le_of_ble_eq_true rfl)
  trivial
set_option maxHeartbeats 4000000 in
set_option maxRecDepth 100000 in
theorem m_X17_init_X17 (l : Launch) (G : xG) (o : Nat) (x1 x2 x3 : Int32) : xCv l G yX17_init cX17_init 4 none ({ frames := 2, cells := 0, slots := 0, locals := 34 } : Room) [.ref o, .int x1, .int x2, .int x3] ([(o, .inr (14, [.int 0, .int 0, .int 0]))]) (S := Unit) (fun _ => True) (fun _ => ([(o, .inr (14, [.int x1, .int x2, .int x3]))])) := by
  refine x_openc (by decide) (Nat.le_of_ble_eq_true rfl) ?_
  intro p e s m args below meth c A Q ls C0 hK hP hD hA hl hin hret
  obtain ⟨hx, hb, hml, hown, hts⟩ := id C0
  have hS : va_S A s.heap s.heap [] := va_S.rf
  have hP : va_P G.1 vwCl ([(o, .inr (14, [.int 0, .int 0, .int 0]))]) s.heap := hP
  have hD : va_D A ([(o, .inr (14, [.int 0, .int 0, .int 0]))]) := hD
  have hl : lv_has ls 4 [(0, .ref o), (1, .int x1), (2, .int x2), (3, .int x3)] := hl
  refine lv_aload_n hx hb dX17_init_0 rfl (lv_at hl 0 rfl) ?_
  refine lv_iload_n hx hb dX17_init_1 rfl (lv_at hl 1 rfl) ?_
  refine lv_iload_n hx hb dX17_init_2 rfl (lv_at hl 2 rfl) ?_
  refine x_Iv (wN := fun _ => ([(o, .inr (14, [.int x1, .int x2, .int 0]))])) ⟨C0, hK, hP, hD, hS, hA⟩ ((m_X14_init_X17 l G o x1 x2)) (cwI 2 hts (lw_meth q436) rfl rfl rfl (hts _ q103) (hts _ q485) (hts _ q435) rfl (by decide +kernel) ⟨Nat.le_of_ble_eq_true rfl, Nat.le_of_ble_eq_true rfl⟩) [0] [1] rfl (fun _ => rfl) rfl rfl hl.1 rfl (Nat.le_of_ble_eq_true rfl) dX17_init_3 ⟨(Nat.le_of_ble_eq_true rfl), (Nat.le_of_ble_eq_true rfl)⟩ (fun u_1 H locs hw_1 hP hD hS => ?_)
  have hP : va_P G.1 vwCl ([(o, .inr (14, [.int x1, .int x2, .int 0]))]) H := hP
  have hD : va_D A ([(o, .inr (14, [.int x1, .int x2, .int 0]))]) := hD
  refine lv_aload_n hx hb dX17_init_6 rfl (lv_at hl 0 rfl) ?_
  refine lv_iload_n hx hb dX17_init_7 rfl (lv_at hl 3 rfl) ?_
  refine va_putF (D := G.1) (ci := 14) (v := .int x3) (ty := .int) (C := RX17) (T := TX17) (N := 3) hx hb hts in_X17 tyX17 tyX17_ok nmX17 hown hK.1 hP hD hS 0 rfl rfl 2 (by decide) (hts _ q486) (fun _ h9 => h9) rfl hin rfl (by decide +kernel) rfl rfl (Nat.le_of_ble_eq_true rfl) dX17_init_8 (fun H locs hP hD hS => ?_)
  have hP : va_P G.1 vwCl ([(o, .inr (14, [.int x1, .int x2, .int x3]))]) H := hP
  have hD : va_D A ([(o, .inr (14, [.int x1, .int x2, .int x3]))]) := hD
  refine hret _ _ _ _ _ _ () dX17_init_11 ?_ hP hD hS (Nat.le_of_ble_eq_true rfl) (Nat.le_of_ble_eq_true rfl)
  trivial
set_option maxHeartbeats 4000000 in
set_option maxRecDepth 100000 in
theorem m_X18_init_X18 (l : Launch) (G : xG) (o : Nat) (x1 x2 : Int32) : xCv l G yX18_init cX18_init 3 none ({ frames := 2, cells := 0, slots := 0, locals := 34 } : Room) [.ref o, .int x1, .int x2] ([(o, .inr (15, [.int 0, .int 0]))]) (S := Unit) (fun _ => True) (fun _ => ([(o, .inr (15, [.int x1, .int x2]))])) := by
  refine x_openc (by decide) (Nat.le_of_ble_eq_true rfl) ?_
  intro p e s m args below meth c A Q ls C0 hK hP hD hA hl hin hret
  obtain ⟨hx, hb, hml, hown, hts⟩ := id C0
  have hS : va_S A s.heap s.heap [] := va_S.rf
  have hP : va_P G.1 vwCl ([(o, .inr (15, [.int 0, .int 0]))]) s.heap := hP
  have hD : va_D A ([(o, .inr (15, [.int 0, .int 0]))]) := hD
  have hl : lv_has ls 3 [(0, .ref o), (1, .int x1), (2, .int x2)] := hl
  refine lv_aload_n hx hb dX18_init_0 rfl (lv_at hl 0 rfl) ?_
  refine lv_iload_n hx hb dX18_init_1 rfl (lv_at hl 1 rfl) ?_
  refine lv_iload_n hx hb dX18_init_2 rfl (lv_at hl 2 rfl) ?_
  refine x_Iv (wN := fun _ => ([(o, .inr (15, [.int x1, .int x2]))])) ⟨C0, hK, hP, hD, hS, hA⟩ ((m_X14_init_X18 l G o x1 x2)) (cwI 2 hts (lw_meth q436) rfl rfl rfl (hts _ q103) (hts _ q497) (hts _ q435) rfl (by decide +kernel) ⟨Nat.le_of_ble_eq_true rfl, Nat.le_of_ble_eq_true rfl⟩) [0] [1] rfl (fun _ => rfl) rfl rfl hl.1 rfl (Nat.le_of_ble_eq_true rfl) dX18_init_3 ⟨(Nat.le_of_ble_eq_true rfl), (Nat.le_of_ble_eq_true rfl)⟩ (fun u_1 H locs hw_1 hP hD hS => ?_)
  have hP : va_P G.1 vwCl ([(o, .inr (15, [.int x1, .int x2]))]) H := hP
  have hD : va_D A ([(o, .inr (15, [.int x1, .int x2]))]) := hD
  refine hret _ _ _ _ _ _ () dX18_init_6 ?_ hP hD hS (Nat.le_of_ble_eq_true rfl) (Nat.le_of_ble_eq_true rfl)
  trivial
set_option maxHeartbeats 4000000 in
set_option maxRecDepth 100000 in
theorem m_X19_init_X19 (l : Launch) (G : xG) (o : Nat) (x1 x2 : Int32) : xCv l G yX19_init cX19_init 3 none ({ frames := 2, cells := 0, slots := 0, locals := 34 } : Room) [.ref o, .int x1, .int x2] ([(o, .inr (16, [.int 0, .int 0]))]) (S := Unit) (fun _ => True) (fun _ => ([(o, .inr (16, [.int x1, .int x2]))])) := by
  refine x_openc (by decide) (Nat.le_of_ble_eq_true rfl) ?_
  intro p e s m args below meth c A Q ls C0 hK hP hD hA hl hin hret
  obtain ⟨hx, hb, hml, hown, hts⟩ := id C0
  have hS : va_S A s.heap s.heap [] := va_S.rf
  have hP : va_P G.1 vwCl ([(o, .inr (16, [.int 0, .int 0]))]) s.heap := hP
  have hD : va_D A ([(o, .inr (16, [.int 0, .int 0]))]) := hD
  have hl : lv_has ls 3 [(0, .ref o), (1, .int x1), (2, .int x2)] := hl
  refine lv_aload_n hx hb dX19_init_0 rfl (lv_at hl 0 rfl) ?_
  refine lv_iload_n hx hb dX19_init_1 rfl (lv_at hl 1 rfl) ?_
  refine lv_iload_n hx hb dX19_init_2 rfl (lv_at hl 2 rfl) ?_
  refine x_Iv (wN := fun _ => ([(o, .inr (16, [.int x1, .int x2]))])) ⟨C0, hK, hP, hD, hS, hA⟩ ((m_X14_init_X19 l G o x1 x2)) (cwI 2 hts (lw_meth q436) rfl rfl rfl (hts _ q103) (hts _ q506) (hts _ q435) rfl (by decide +kernel) ⟨Nat.le_of_ble_eq_true rfl, Nat.le_of_ble_eq_true rfl⟩) [0] [1] rfl (fun _ => rfl) rfl rfl hl.1 rfl (Nat.le_of_ble_eq_true rfl) dX19_init_3 ⟨(Nat.le_of_ble_eq_true rfl), (Nat.le_of_ble_eq_true rfl)⟩ (fun u_1 H locs hw_1 hP hD hS => ?_)
  have hP : va_P G.1 vwCl ([(o, .inr (16, [.int x1, .int x2]))]) H := hP
  have hD : va_D A ([(o, .inr (16, [.int x1, .int x2]))]) := hD
  refine hret _ _ _ _ _ _ () dX19_init_6 ?_ hP hD hS (Nat.le_of_ble_eq_true rfl) (Nat.le_of_ble_eq_true rfl)
  trivial
set_option maxHeartbeats 4000000 in
set_option maxRecDepth 100000 in
theorem m_X20_init_X20 (l : Launch) (G : xG) (o : Nat) (x1 x2 : Int32) : xCv l G yX20_init cX20_init 3 none ({ frames := 2, cells := 0, slots := 0, locals := 34 } : Room) [.ref o, .int x1, .int x2] ([(o, .inr (17, [.int 0, .int 0]))]) (S := Unit) (fun _ => True) (fun _ => ([(o, .inr (17, [.int x1, .int x2]))])) := by
  refine x_openc (by decide) (Nat.le_of_ble_eq_true rfl) ?_
  intro p e s m args below meth c A Q ls C0 hK hP hD hA hl hin hret
  obtain ⟨hx, hb, hml, hown, hts⟩ := id C0
  have hS : va_S A s.heap s.heap [] := va_S.rf
  have hP : va_P G.1 vwCl ([(o, .inr (17, [.int 0, .int 0]))]) s.heap := hP
  have hD : va_D A ([(o, .inr (17, [.int 0, .int 0]))]) := hD
  have hl : lv_has ls 3 [(0, .ref o), (1, .int x1), (2, .int x2)] := hl
  refine lv_aload_n hx hb dX20_init_0 rfl (lv_at hl 0 rfl) ?_
  refine lv_iload_n hx hb dX20_init_1 rfl (lv_at hl 1 rfl) ?_
  refine lv_iload_n hx hb dX20_init_2 rfl (lv_at hl 2 rfl) ?_
  refine x_Iv (wN := fun _ => ([(o, .inr (17, [.int x1, .int x2]))])) ⟨C0, hK, hP, hD, hS, hA⟩ ((m_X14_init_X20 l G o x1 x2)) (cwI 2 hts (lw_meth q436) rfl rfl rfl (hts _ q103) (hts _ q515) (hts _ q435) rfl (by decide +kernel) ⟨Nat.le_of_ble_eq_true rfl, Nat.le_of_ble_eq_true rfl⟩) [0] [1] rfl (fun _ => rfl) rfl rfl hl.1 rfl (Nat.le_of_ble_eq_true rfl) dX20_init_3 ⟨(Nat.le_of_ble_eq_true rfl), (Nat.le_of_ble_eq_true rfl)⟩ (fun u_1 H locs hw_1 hP hD hS => ?_)
  have hP : va_P G.1 vwCl ([(o, .inr (17, [.int x1, .int x2]))]) H := hP
  have hD : va_D A ([(o, .inr (17, [.int x1, .int x2]))]) := hD
  refine hret _ _ _ _ _ _ () dX20_init_6 ?_ hP hD hS (Nat.le_of_ble_eq_true rfl) (Nat.le_of_ble_eq_true rfl)
  trivial
set_option maxHeartbeats 4000000 in
set_option maxRecDepth 100000 in
theorem m_thing_t (l : Launch) (hl0 : l.stackTraces = false) (G : xG) (ad : Nat → Nat → Nat) (ho rn ln dr : Int32) (ro lt rf th sb : Nat → Int32) (rd z k : Nat) (hz : z ≤ 96) (hk9 : k < 2 ^ 29) (k0 : Nat) : yCr l G yX12_thing cX12_thing 5 (some (.object "PulledFromUnder$Told")) ({ frames := 9, cells := 3, slots := 17, locals := 149 } : Room) [.ref rd, .int 116, .int (nI k0)] (wX G ad ho rn ln dr ro lt rf th sb ++ [(rd, .inr (10, [.int (nI z), .int (nI k), .ref (ad 0 0)]))]) (S := Nat) (SX := Int32) (fun _ => (ck (kB (hC lt z k)) k (ck (dB (hC lt z (k + 1))) (k + 1) (true, k + 2))).1 = true ∧ (ck (kB (hC lt z k)) k (ck (dB (hC lt z (k + 1))) (k + 1) (true, k + 2))).2 = k + 2) (fun u => u) (fun u => (wX G ad ho rn ln dr ro lt rf th sb ++ [(rd, .inr (10, [.int (nI z), .int (nI (k + 2)), .ref (ad 0 0)]))] ++ [(u, .inr (12, [.int (nI k0), .int (nI (dV (hC lt z (k + 1)))), .ref ((ad 4) (kV (hC lt z k)))]))])) (fun n _ => (ck (kB (hC lt z k)) k (ck (dB (hC lt z (k + 1))) (k + 1) (true, k + 2))).1 = false ∧ n = -1000 - nI (ck (kB (hC lt z k)) k (ck (dB (hC lt z (k + 1))) (k + 1) (true, k + 2))).2) (fun u => (wX G ad ho rn ln dr ro lt rf th sb ++ [(rd, .inr (10, [.int (nI z), .int u, .ref (ad 0 0)]))])) := by
  refine y_openr (by decide) (Nat.le_of_ble_eq_true rfl) (Or.inl ⟨_, rfl⟩) ?_
  intro p e s m args below meth c A Q ls C0 hK hZ hP hD hA hl hret hthr
  obtain ⟨hx, hb, hml, hown, hts⟩ := id C0
  have hS : va_S A s.heap s.heap [] := va_S.rf
  have hP : va_P G.1 vwCl (wX G ad ho rn ln dr ro lt rf th sb ++ [(rd, .inr (10, [.int (nI z), .int (nI k), .ref (ad 0 0)]))]) s.heap := hP
  have hD : va_D A (wX G ad ho rn ln dr ro lt rf th sb ++ [(rd, .inr (10, [.int (nI z), .int (nI k), .ref (ad 0 0)]))]) := hD
  have hl : lv_has ls 5 [(0, .ref rd), (1, .int 116), (2, .int (nI k0))] := hl
  refine lv_aload_n hx hb dX12_thing_0 rfl (lv_at hl 0 rfl) ?_
  refine va_get (D := G.1) (ci := 10) (v := .ref (ad 0 0)) (C := RX12) (T := TX12) (N := 3) hx hb hts in_X12 hown hK.1 hP 7 rfl rfl 2 (by decide) (hts _ q372) (fun _ h9 => h9) rfl dX12_thing_1 ?_
  refine lv_aload_n hx hb dX12_thing_4 rfl (lv_at hl 0 rfl) ?_
  refine x_Vi (wN := fun _ => (wX G ad ho rn ln dr ro lt rf th sb ++ [(rd, .inr (10, [.int (nI z), .int (nI k), .ref (ad 0 0)]))])) ⟨C0, hK, hP, hD, hS, hA⟩ 7 rfl (ci := 10) rfl rfl ((m_X12_here l G ad ho rn ln dr ro lt rf th sb rd z k hz (by omega) )) (cwV 0 hts (lw_V q386 q388 qs5 q101 q389) rfl rfl rfl (by decide +kernel) ⟨Nat.le_of_ble_eq_true rfl, Nat.le_of_ble_eq_true rfl⟩) [0, 1, 2, 3, 4, 5, 6, 7] [1, 3, 5, 7, 9, 11, 13, 15] rfl (fun _ => rfl) rfl rfl hl.1 rfl (Nat.le_of_ble_eq_true rfl) dX12_thing_5 ⟨(Nat.le_of_ble_eq_true rfl), (Nat.le_of_ble_eq_true rfl)⟩ (fun r_1 u_1 H locs hw_1 hP hD hS => ?_)
  have hw_1 : (hC lt z k : Int32) = r_1 := hw_1.symm
  subst hw_1
  refine x_VNi (wN := fun _ => (wX G ad ho rn ln dr ro lt rf th sb ++ [(rd, .inr (10, [.int (nI z), .int (nI k), .ref (ad 0 0)]))])) ⟨C0, hK, hP, hD, hS, hA⟩ 0 rfl (ci := 0) rfl rfl ((m_kindOf l G ad ho rn ln dr ro lt rf th sb (hC lt z k))) ⟨va_cnB 1 hts (lw_meth q419) rfl rfl rfl (hK.2.M 16 rfl) (hts _ q86) (by decide +kernel) ⟨Nat.le_of_ble_eq_true rfl, Nat.le_of_ble_eq_true rfl⟩, hts _ q418, hts _ qs8⟩ [0, 1, 2, 3, 4, 5, 6] [1, 3, 5, 7, 9, 11, 13, 14] rfl (fun _ => rfl) rfl rfl hl.1 rfl (Nat.le_of_ble_eq_true rfl) dX12_thing_8 ⟨(Nat.le_of_ble_eq_true rfl), (Nat.le_of_ble_eq_true rfl)⟩ (fun r_2 u_2 H locs hw_2 hP hD hS => ?_)
  have hw_2 : (kO (hC lt z k) : Int32) = r_2 := hw_2.symm
  subst hw_2
  refine lv_istore_n (lv' := [(3, .int (kO (hC lt z k))), (0, .ref rd), (1, .int 116), (2, .int (nI k0))]) hx hb dX12_thing_11 rfl hl (by decide) rfl (fun ls hl => ?_)
  refine lv_aload_n hx hb dX12_thing_12 rfl (lv_at hl 1 rfl) ?_
  refine lv_iload_n hx hb dX12_thing_13 rfl (lv_at hl 0 rfl) ?_
  refine lv_if_lt (tgt := 21) hx hb dX12_thing_14 (by decide) (fun c_3 => ?_) (fun c_3 => ?_)
  · skip
    refine lv_iconst (v := 0) hx hb dX12_thing_21 (by decide) ?_
    have eb_22 : (0 : Int32) = bI (kB (hC lt z k)) := bI_F (decide_eq_false (fun z9 => z9 c_3))
    rw [eb_22]
    have ef_22 : (kB (hC lt z k)) = false := bI_0.mp eb_22.symm
    refine y_Vv (wN := fun _ => (wX G ad ho rn ln dr ro lt rf th sb ++ [(rd, .inr (10, [.int (nI z), .int (nI k), .ref (ad 0 0)]))])) (wNx := fun u9 => (wX G ad ho rn ln dr ro lt rf th sb ++ [(rd, .inr (10, [.int (nI z), .int (nI k), .ref (ad 0 0)]))])) ⟨C0, hK, hP, hD, hS, hA⟩ hZ 7 rfl (ci := 10) rfl rfl ((m_X12_mustStand l hl0 G ad rd z k (kB (hC lt z k)))) (cwV 1 hts (lw_V q390 q392 qs6 q101 q393) rfl rfl rfl (by decide +kernel) ⟨Nat.le_of_ble_eq_true rfl, Nat.le_of_ble_eq_true rfl⟩) [7] [0, 2, 4, 6, 8, 10, 12, 1] [0, 2, 4, 6, 8, 10, 12, 1, 3] rfl (fun _ => rfl) (fun _ _ _ => rfl) rfl rfl rfl hl.1 rfl (Nat.le_of_ble_eq_true rfl) dX12_thing_22 ⟨(Nat.le_of_ble_eq_true rfl), (Nat.le_of_ble_eq_true rfl)⟩ (fun q9 u9 ee H locs hw_4 hP hD hS => ?_) (fun u_4 H locs hw_4 hP hD hS => ?_)
    · skip
      refine hthr _ _ _ _ _ _ _ q9 (nI k) ee ?_ hP hD hS (Nat.le_of_ble_eq_true rfl) (Nat.le_of_ble_eq_true rfl)
      obtain ⟨h8, h9⟩ := hw_4
      refine ⟨?_, ?_⟩
      · rw [ck_f h8]
      · rw [ck_f h8]; exact h9
    · skip
      refine W.widen (k := 1) (n := 7) (Nat.le_of_ble_eq_true rfl) (Nat.le_of_ble_eq_true rfl) ?_
      exact absurd hw_4 (by rw [ef_22]; decide)
  · skip
    refine lv_iconst (v := 1) hx hb dX12_thing_17 (by decide) ?_
    refine lv_goto (tgt := 22) hx hb dX12_thing_18 (by decide) ?_
    have eb_22 : (1 : Int32) = bI (kB (hC lt z k)) := bI_T (decide_eq_true (show ¬ kO (hC lt z k) < 0 from c_3))
    rw [eb_22]
    refine y_Vv (wN := fun _ => (wX G ad ho rn ln dr ro lt rf th sb ++ [(rd, .inr (10, [.int (nI z), .int (nI k), .ref (ad 0 0)]))])) (wNx := fun u9 => (wX G ad ho rn ln dr ro lt rf th sb ++ [(rd, .inr (10, [.int (nI z), .int (nI k), .ref (ad 0 0)]))])) ⟨C0, hK, hP, hD, hS, hA⟩ hZ 7 rfl (ci := 10) rfl rfl ((m_X12_mustStand l hl0 G ad rd z k (kB (hC lt z k)))) (cwV 1 hts (lw_V q390 q392 qs6 q101 q393) rfl rfl rfl (by decide +kernel) ⟨Nat.le_of_ble_eq_true rfl, Nat.le_of_ble_eq_true rfl⟩) [7] [0, 2, 4, 6, 8, 10, 12, 1] [0, 2, 4, 6, 8, 10, 12, 1, 3] rfl (fun _ => rfl) (fun _ _ _ => rfl) rfl rfl rfl hl.1 rfl (Nat.le_of_ble_eq_true rfl) dX12_thing_22 ⟨(Nat.le_of_ble_eq_true rfl), (Nat.le_of_ble_eq_true rfl)⟩ (fun q9 u9 ee H locs hw_5 hP hD hS => ?_) (fun u_5 H locs hw_5 hP hD hS => ?_)
    · skip
      refine hthr _ _ _ _ _ _ _ q9 (nI k) ee ?_ hP hD hS (Nat.le_of_ble_eq_true rfl) (Nat.le_of_ble_eq_true rfl)
      obtain ⟨h8, h9⟩ := hw_5
      refine ⟨?_, ?_⟩
      · rw [ck_f h8]
      · rw [ck_f h8]; exact h9
    · skip
      refine W.widen (k := 1) (n := 7) (Nat.le_of_ble_eq_true rfl) (Nat.le_of_ble_eq_true rfl) ?_
      obtain ⟨ekv, hkv⟩ := kV_c hw_5
      rw [ekv] at hl
      refine lv_aload_n hx hb dX12_thing_25 rfl (lv_at hl 1 rfl) ?_
      refine lv_dup hx hb dX12_thing_26 rfl ?_
      refine va_get (D := G.1) (ci := 10) (v := .int (nI k)) (C := RX12) (T := TX12) (N := 3) hx hb hts in_X12 hown hK.1 hP 7 rfl rfl 1 (by decide) (hts _ q370) (fun _ h9 => h9) rfl dX12_thing_27 ?_
      refine lv_iconst (v := 1) hx hb dX12_thing_30 (by decide) ?_
      refine x_iadd hx hb dX12_thing_31 (v := nI (k + 1)) (nI_1 _) ?_
      refine va_put (D := G.1) (ci := 10) (v := .int (nI (k + 1))) (ty := .int) (C := RX12) (T := TX12) (N := 3) hx hb hts in_X12 tyX12 tyX12_ok nmX12 hown hK.1 hP hD hS 7 rfl rfl 1 (by decide) (hts _ q370) (fun _ h9 => h9) rfl (by decide +kernel) rfl rfl (Nat.le_of_ble_eq_true rfl) dX12_thing_32 (fun H locs hP hD hS => ?_)
      have hP : va_P G.1 vwCl (wX G ad ho rn ln dr ro lt rf th sb ++ [(rd, .inr (10, [.int (nI z), .int (nI (k + 1)), .ref (ad 0 0)]))]) H := hP
      have hD : va_D A (wX G ad ho rn ln dr ro lt rf th sb ++ [(rd, .inr (10, [.int (nI z), .int (nI (k + 1)), .ref (ad 0 0)]))]) := hD
      refine lv_aload_n hx hb dX12_thing_35 rfl (lv_at hl 1 rfl) ?_
      refine y_Vi (wN := fun _ => (wX G ad ho rn ln dr ro lt rf th sb ++ [(rd, .inr (10, [.int (nI z), .int (nI ((k + 1) + 1)), .ref (ad 0 0)]))])) (wNx := fun u9 => (wX G ad ho rn ln dr ro lt rf th sb ++ [(rd, .inr (10, [.int (nI z), .int (nI (k + 1)), .ref (ad 0 0)]))])) ⟨C0, hK, hP, hD, hS, hA⟩ hZ 7 rfl (ci := 10) rfl rfl ((m_X12_digit l hl0 G ad ho rn ln dr ro lt rf th sb rd z (k + 1) hz (by omega) )) (cwV 0 hts (lw_V q420 q422 qs9 q101 q423) rfl rfl rfl (by decide +kernel) ⟨Nat.le_of_ble_eq_true rfl, Nat.le_of_ble_eq_true rfl⟩) [0, 1, 2, 3, 4, 5, 6, 7] [1, 3, 5, 7, 9, 11, 13, 15] [1, 3, 5, 7, 9, 11, 13, 15, 17] rfl (fun _ => rfl) (fun _ _ _ => rfl) rfl rfl rfl hl.1 rfl (Nat.le_of_ble_eq_true rfl) dX12_thing_36 ⟨(Nat.le_of_ble_eq_true rfl), (Nat.le_of_ble_eq_true rfl)⟩ (fun q9 u9 ee H locs hw_6 hP hD hS => ?_) (fun r_6 u_6 H locs hw_6 hP hD hS => ?_)
      · skip
        refine hthr _ _ _ _ _ _ _ q9 (nI (k + 1)) ee ?_ hP hD hS (Nat.le_of_ble_eq_true rfl) (Nat.le_of_ble_eq_true rfl)
        obtain ⟨h8, h9⟩ := hw_6
        refine ⟨?_, ?_⟩
        · rw [ck_t hw_5, ck_f h8]
        · rw [ck_t hw_5, ck_f h8]; exact h9
      · skip
        obtain ⟨hz_6, hw_6⟩ := hw_6
        have hw_6 : (nI (dV (hC lt z (k + 1))) : Int32) = r_6 := hw_6.symm
        subst hw_6
        have hP : va_P G.1 vwCl (wX G ad ho rn ln dr ro lt rf th sb ++ [(rd, .inr (10, [.int (nI z), .int (nI ((k + 1) + 1)), .ref (ad 0 0)]))]) H := hP
        have hD : va_D A (wX G ad ho rn ln dr ro lt rf th sb ++ [(rd, .inr (10, [.int (nI z), .int (nI ((k + 1) + 1)), .ref (ad 0 0)]))]) := hD
        refine W.widen (k := 2) (n := 14) (Nat.le_of_ble_eq_true rfl) (Nat.le_of_ble_eq_true rfl) ?_
        refine lv_istore (lv' := [(4, .int (nI (dV (hC lt z (k + 1))))), (3, .int (nI (kV (hC lt z k)))), (0, .ref rd), (1, .int 116), (2, .int (nI k0))]) hx hb dX12_thing_39 hl (by decide) rfl (fun ls hl => ?_)
        refine lv_iload_n hx hb dX12_thing_41 rfl (lv_at hl 3 rfl) ?_
        refine lv_bipush (v := 116) hx hb dX12_thing_42 (by decide) ?_
        refine lv_icmp_ne (tgt := 69) hx hb dX12_thing_44 (by decide) (fun c_7 => ?_) (fun c_7 => ?_)
        · skip
          exact absurd c_7 (by decide)
        · skip
          refine va_new (D := G.1) (ci := 12) (fs := [.int 0, .int 0, .null]) (C := RX15) (T := TX15) (N := 3) hx hb hts in_X15 tyX15 tyX15_ok hown (hts _ q429) (hts _ q430) (hts _ q104) hK.1 hP hD hS hA rfl (fun j hj => by rcases (show j = 0 ∨ j = 1 ∨ j = 2 by omega) with rfl | rfl | rfl <;> rfl) (Nat.le_of_ble_eq_true rfl) (Nat.le_of_ble_eq_true rfl) dX12_thing_47 (fun q_8 H hP hD hS => ?_)
          have hP : va_P G.1 vwCl (wX G ad ho rn ln dr ro lt rf th sb ++ [(rd, .inr (10, [.int (nI z), .int (nI ((k + 1) + 1)), .ref (ad 0 0)]))] ++ [(q_8, .inr (12, [.int 0, .int 0, .null]))]) H := hP
          have hD : va_D A (wX G ad ho rn ln dr ro lt rf th sb ++ [(rd, .inr (10, [.int (nI z), .int (nI ((k + 1) + 1)), .ref (ad 0 0)]))] ++ [(q_8, .inr (12, [.int 0, .int 0, .null]))]) := hD
          refine W.widen (k := 3) (n := 17) (Nat.le_of_ble_eq_true rfl) (Nat.le_of_ble_eq_true rfl) ?_
          refine lv_dup hx hb dX12_thing_50 rfl ?_
          refine lv_iload_n hx hb dX12_thing_51 rfl (lv_at hl 4 rfl) ?_
          refine lv_aload_n hx hb dX12_thing_52 rfl (lv_at hl 2 rfl) ?_
          refine va_get (D := G.1) (ci := 10) (v := .ref (ad 0 0)) (C := RX12) (T := TX12) (N := 3) hx hb hts in_X12 hown hK.1 hP 7 rfl rfl 2 (by decide) (hts _ q372) (fun _ h9 => h9) rfl dX12_thing_53 ?_
          refine va_getN (D := G.1) (ci := 0) (v := .ref (ad 0 1)) (C := RX0) (T := TX0) (N := 13) hx hb hts in_X0 hown hK.1 hP 0 rfl rfl 0 (by decide) (va_Nw.use rfl (hK.2.F 17 rfl)) (fun _ h9 => h9) rfl dX12_thing_56 ?_
          refine lv_iload_n hx hb dX12_thing_59 rfl (lv_at hl 1 rfl) ?_
          refine x_aald hx hb hK.1 hP 1 3 rfl rfl (vp_in_nI (by omega) (by decide)) (x := (ad 4) (kV (hC lt z k))) (congrArg (fun j => some (ad 4 j)) (nI_clamp (by omega))) dX12_thing_60 ?_
          refine lv_iload hx hb dX12_thing_61 (lv_at hl 0 rfl) ?_
          refine x_Iv (wN := fun _ => (wX G ad ho rn ln dr ro lt rf th sb ++ [(rd, .inr (10, [.int (nI z), .int (nI ((k + 1) + 1)), .ref (ad 0 0)]))] ++ [(q_8, .inr (12, [.int (nI k0), .int (nI (dV (hC lt z (k + 1)))), .ref ((ad 4) (kV (hC lt z k)))]))])) ⟨C0, hK, hP, hD, hS, hA⟩ ((m_X15_init_X15 l G q_8 (nI k0) ((ad 4) (kV (hC lt z k))) (nI (dV (hC lt z (k + 1)))))) (cwI 3 hts (lw_meth q433) rfl rfl rfl (hts _ q104) (hts _ q431) (hts _ q432) rfl (by decide +kernel) ⟨Nat.le_of_ble_eq_true rfl, Nat.le_of_ble_eq_true rfl⟩) [8] [0, 2, 4, 6, 8, 10, 12, 14, 1] rfl (fun _ => rfl) rfl rfl hl.1 rfl (Nat.le_of_ble_eq_true rfl) dX12_thing_63 ⟨(Nat.le_of_ble_eq_true rfl), (Nat.le_of_ble_eq_true rfl)⟩ (fun u_9 H locs hw_9 hP hD hS => ?_)
          have hP : va_P G.1 vwCl (wX G ad ho rn ln dr ro lt rf th sb ++ [(rd, .inr (10, [.int (nI z), .int (nI ((k + 1) + 1)), .ref (ad 0 0)]))] ++ [(q_8, .inr (12, [.int (nI k0), .int (nI (dV (hC lt z (k + 1)))), .ref ((ad 4) (kV (hC lt z k)))]))]) H := hP
          have hD : va_D A (wX G ad ho rn ln dr ro lt rf th sb ++ [(rd, .inr (10, [.int (nI z), .int (nI ((k + 1) + 1)), .ref (ad 0 0)]))] ++ [(q_8, .inr (12, [.int (nI k0), .int (nI (dV (hC lt z (k + 1)))), .ref ((ad 4) (kV (hC lt z k)))]))]) := hD
          refine lv_goto (tgt := 92) hx hb dX12_thing_66 (by decide) ?_
          refine hret _ _ _ _ _ _ q_8 dX12_thing_92 ?_ hP hD hS (Nat.le_of_ble_eq_true rfl) (Nat.le_of_ble_eq_true rfl)
          refine ⟨?_, ?_⟩
          · rw [ck_t hw_5, ck_t hz_6]
          · rw [ck_t hw_5, ck_t hz_6]
set_option maxHeartbeats 4000000 in
set_option maxRecDepth 100000 in
theorem m_thing_o (l : Launch) (hl0 : l.stackTraces = false) (G : xG) (ad : Nat → Nat → Nat) (ho rn ln dr : Int32) (ro lt rf th sb : Nat → Int32) (rd z k : Nat) (hz : z ≤ 96) (hk9 : k < 2 ^ 29) (k0 : Nat) : yCr l G yX12_thing cX12_thing 5 (some (.object "PulledFromUnder$Told")) ({ frames := 9, cells := 4, slots := 25, locals := 149 } : Room) [.ref rd, .int 111, .int (nI k0)] (wX G ad ho rn ln dr ro lt rf th sb ++ [(rd, .inr (10, [.int (nI z), .int (nI k), .ref (ad 0 0)]))]) (S := Nat) (SX := Int32) (fun _ => (ck (kB (hC lt z k)) k (ck (dB (hC lt z (k + 1))) (k + 1) (ck (dB (hC lt z (k + 2))) (k + 2) (true, k + 3)))).1 = true ∧ (ck (kB (hC lt z k)) k (ck (dB (hC lt z (k + 1))) (k + 1) (ck (dB (hC lt z (k + 2))) (k + 2) (true, k + 3)))).2 = k + 3) (fun u => u) (fun u => (wX G ad ho rn ln dr ro lt rf th sb ++ [(rd, .inr (10, [.int (nI z), .int (nI (k + 3)), .ref (ad 0 0)]))] ++ [(u, .inr (13, [.int (nI k0), .int (nI (dV (hC lt z (k + 1)))), .ref ((ad 4) (kV (hC lt z k))), .int (nI (dV (hC lt z (k + 2))))]))])) (fun n _ => (ck (kB (hC lt z k)) k (ck (dB (hC lt z (k + 1))) (k + 1) (ck (dB (hC lt z (k + 2))) (k + 2) (true, k + 3)))).1 = false ∧ n = -1000 - nI (ck (kB (hC lt z k)) k (ck (dB (hC lt z (k + 1))) (k + 1) (ck (dB (hC lt z (k + 2))) (k + 2) (true, k + 3)))).2) (fun u => (wX G ad ho rn ln dr ro lt rf th sb ++ [(rd, .inr (10, [.int (nI z), .int u, .ref (ad 0 0)]))])) := by
  refine y_openr (by decide) (Nat.le_of_ble_eq_true rfl) (Or.inl ⟨_, rfl⟩) ?_
  intro p e s m args below meth c A Q ls C0 hK hZ hP hD hA hl hret hthr
  obtain ⟨hx, hb, hml, hown, hts⟩ := id C0
  have hS : va_S A s.heap s.heap [] := va_S.rf
  have hP : va_P G.1 vwCl (wX G ad ho rn ln dr ro lt rf th sb ++ [(rd, .inr (10, [.int (nI z), .int (nI k), .ref (ad 0 0)]))]) s.heap := hP
  have hD : va_D A (wX G ad ho rn ln dr ro lt rf th sb ++ [(rd, .inr (10, [.int (nI z), .int (nI k), .ref (ad 0 0)]))]) := hD
  have hl : lv_has ls 5 [(0, .ref rd), (1, .int 111), (2, .int (nI k0))] := hl
  refine lv_aload_n hx hb dX12_thing_0 rfl (lv_at hl 0 rfl) ?_
  refine va_get (D := G.1) (ci := 10) (v := .ref (ad 0 0)) (C := RX12) (T := TX12) (N := 3) hx hb hts in_X12 hown hK.1 hP 7 rfl rfl 2 (by decide) (hts _ q372) (fun _ h9 => h9) rfl dX12_thing_1 ?_
  refine lv_aload_n hx hb dX12_thing_4 rfl (lv_at hl 0 rfl) ?_
  refine x_Vi (wN := fun _ => (wX G ad ho rn ln dr ro lt rf th sb ++ [(rd, .inr (10, [.int (nI z), .int (nI k), .ref (ad 0 0)]))])) ⟨C0, hK, hP, hD, hS, hA⟩ 7 rfl (ci := 10) rfl rfl ((m_X12_here l G ad ho rn ln dr ro lt rf th sb rd z k hz (by omega) )) (cwV 0 hts (lw_V q386 q388 qs5 q101 q389) rfl rfl rfl (by decide +kernel) ⟨Nat.le_of_ble_eq_true rfl, Nat.le_of_ble_eq_true rfl⟩) [0, 1, 2, 3, 4, 5, 6, 7] [1, 3, 5, 7, 9, 11, 13, 15] rfl (fun _ => rfl) rfl rfl hl.1 rfl (Nat.le_of_ble_eq_true rfl) dX12_thing_5 ⟨(Nat.le_of_ble_eq_true rfl), (Nat.le_of_ble_eq_true rfl)⟩ (fun r_1 u_1 H locs hw_1 hP hD hS => ?_)
  have hw_1 : (hC lt z k : Int32) = r_1 := hw_1.symm
  subst hw_1
  refine x_VNi (wN := fun _ => (wX G ad ho rn ln dr ro lt rf th sb ++ [(rd, .inr (10, [.int (nI z), .int (nI k), .ref (ad 0 0)]))])) ⟨C0, hK, hP, hD, hS, hA⟩ 0 rfl (ci := 0) rfl rfl ((m_kindOf l G ad ho rn ln dr ro lt rf th sb (hC lt z k))) ⟨va_cnB 1 hts (lw_meth q419) rfl rfl rfl (hK.2.M 16 rfl) (hts _ q86) (by decide +kernel) ⟨Nat.le_of_ble_eq_true rfl, Nat.le_of_ble_eq_true rfl⟩, hts _ q418, hts _ qs8⟩ [0, 1, 2, 3, 4, 5, 6] [1, 3, 5, 7, 9, 11, 13, 14] rfl (fun _ => rfl) rfl rfl hl.1 rfl (Nat.le_of_ble_eq_true rfl) dX12_thing_8 ⟨(Nat.le_of_ble_eq_true rfl), (Nat.le_of_ble_eq_true rfl)⟩ (fun r_2 u_2 H locs hw_2 hP hD hS => ?_)
  have hw_2 : (kO (hC lt z k) : Int32) = r_2 := hw_2.symm
  subst hw_2
  refine lv_istore_n (lv' := [(3, .int (kO (hC lt z k))), (0, .ref rd), (1, .int 111), (2, .int (nI k0))]) hx hb dX12_thing_11 rfl hl (by decide) rfl (fun ls hl => ?_)
  refine lv_aload_n hx hb dX12_thing_12 rfl (lv_at hl 1 rfl) ?_
  refine lv_iload_n hx hb dX12_thing_13 rfl (lv_at hl 0 rfl) ?_
  refine lv_if_lt (tgt := 21) hx hb dX12_thing_14 (by decide) (fun c_3 => ?_) (fun c_3 => ?_)
  · skip
    refine lv_iconst (v := 0) hx hb dX12_thing_21 (by decide) ?_
    have eb_22 : (0 : Int32) = bI (kB (hC lt z k)) := bI_F (decide_eq_false (fun z9 => z9 c_3))
    rw [eb_22]
    have ef_22 : (kB (hC lt z k)) = false := bI_0.mp eb_22.symm
    refine y_Vv (wN := fun _ => (wX G ad ho rn ln dr ro lt rf th sb ++ [(rd, .inr (10, [.int (nI z), .int (nI k), .ref (ad 0 0)]))])) (wNx := fun u9 => (wX G ad ho rn ln dr ro lt rf th sb ++ [(rd, .inr (10, [.int (nI z), .int (nI k), .ref (ad 0 0)]))])) ⟨C0, hK, hP, hD, hS, hA⟩ hZ 7 rfl (ci := 10) rfl rfl ((m_X12_mustStand l hl0 G ad rd z k (kB (hC lt z k)))) (cwV 1 hts (lw_V q390 q392 qs6 q101 q393) rfl rfl rfl (by decide +kernel) ⟨Nat.le_of_ble_eq_true rfl, Nat.le_of_ble_eq_true rfl⟩) [7] [0, 2, 4, 6, 8, 10, 12, 1] [0, 2, 4, 6, 8, 10, 12, 1, 3] rfl (fun _ => rfl) (fun _ _ _ => rfl) rfl rfl rfl hl.1 rfl (Nat.le_of_ble_eq_true rfl) dX12_thing_22 ⟨(Nat.le_of_ble_eq_true rfl), (Nat.le_of_ble_eq_true rfl)⟩ (fun q9 u9 ee H locs hw_4 hP hD hS => ?_) (fun u_4 H locs hw_4 hP hD hS => ?_)
    · skip
      refine hthr _ _ _ _ _ _ _ q9 (nI k) ee ?_ hP hD hS (Nat.le_of_ble_eq_true rfl) (Nat.le_of_ble_eq_true rfl)
      obtain ⟨h8, h9⟩ := hw_4
      refine ⟨?_, ?_⟩
      · rw [ck_f h8]
      · rw [ck_f h8]; exact h9
    · skip
      refine W.widen (k := 1) (n := 7) (Nat.le_of_ble_eq_true rfl) (Nat.le_of_ble_eq_true rfl) ?_
      exact absurd hw_4 (by rw [ef_22]; decide)
  · skip
    refine lv_iconst (v := 1) hx hb dX12_thing_17 (by decide) ?_
    refine lv_goto (tgt := 22) hx hb dX12_thing_18 (by decide) ?_
    have eb_22 : (1 : Int32) = bI (kB (hC lt z k)) := bI_T (decide_eq_true (show ¬ kO (hC lt z k) < 0 from c_3))
    rw [eb_22]
    refine y_Vv (wN := fun _ => (wX G ad ho rn ln dr ro lt rf th sb ++ [(rd, .inr (10, [.int (nI z), .int (nI k), .ref (ad 0 0)]))])) (wNx := fun u9 => (wX G ad ho rn ln dr ro lt rf th sb ++ [(rd, .inr (10, [.int (nI z), .int (nI k), .ref (ad 0 0)]))])) ⟨C0, hK, hP, hD, hS, hA⟩ hZ 7 rfl (ci := 10) rfl rfl ((m_X12_mustStand l hl0 G ad rd z k (kB (hC lt z k)))) (cwV 1 hts (lw_V q390 q392 qs6 q101 q393) rfl rfl rfl (by decide +kernel) ⟨Nat.le_of_ble_eq_true rfl, Nat.le_of_ble_eq_true rfl⟩) [7] [0, 2, 4, 6, 8, 10, 12, 1] [0, 2, 4, 6, 8, 10, 12, 1, 3] rfl (fun _ => rfl) (fun _ _ _ => rfl) rfl rfl rfl hl.1 rfl (Nat.le_of_ble_eq_true rfl) dX12_thing_22 ⟨(Nat.le_of_ble_eq_true rfl), (Nat.le_of_ble_eq_true rfl)⟩ (fun q9 u9 ee H locs hw_5 hP hD hS => ?_) (fun u_5 H locs hw_5 hP hD hS => ?_)
    · skip
      refine hthr _ _ _ _ _ _ _ q9 (nI k) ee ?_ hP hD hS (Nat.le_of_ble_eq_true rfl) (Nat.le_of_ble_eq_true rfl)
      obtain ⟨h8, h9⟩ := hw_5
      refine ⟨?_, ?_⟩
      · rw [ck_f h8]
      · rw [ck_f h8]; exact h9
    · skip
      refine W.widen (k := 1) (n := 7) (Nat.le_of_ble_eq_true rfl) (Nat.le_of_ble_eq_true rfl) ?_
      obtain ⟨ekv, hkv⟩ := kV_c hw_5
      rw [ekv] at hl
      refine lv_aload_n hx hb dX12_thing_25 rfl (lv_at hl 1 rfl) ?_
      refine lv_dup hx hb dX12_thing_26 rfl ?_
      refine va_get (D := G.1) (ci := 10) (v := .int (nI k)) (C := RX12) (T := TX12) (N := 3) hx hb hts in_X12 hown hK.1 hP 7 rfl rfl 1 (by decide) (hts _ q370) (fun _ h9 => h9) rfl dX12_thing_27 ?_
      refine lv_iconst (v := 1) hx hb dX12_thing_30 (by decide) ?_
      refine x_iadd hx hb dX12_thing_31 (v := nI (k + 1)) (nI_1 _) ?_
      refine va_put (D := G.1) (ci := 10) (v := .int (nI (k + 1))) (ty := .int) (C := RX12) (T := TX12) (N := 3) hx hb hts in_X12 tyX12 tyX12_ok nmX12 hown hK.1 hP hD hS 7 rfl rfl 1 (by decide) (hts _ q370) (fun _ h9 => h9) rfl (by decide +kernel) rfl rfl (Nat.le_of_ble_eq_true rfl) dX12_thing_32 (fun H locs hP hD hS => ?_)
      have hP : va_P G.1 vwCl (wX G ad ho rn ln dr ro lt rf th sb ++ [(rd, .inr (10, [.int (nI z), .int (nI (k + 1)), .ref (ad 0 0)]))]) H := hP
      have hD : va_D A (wX G ad ho rn ln dr ro lt rf th sb ++ [(rd, .inr (10, [.int (nI z), .int (nI (k + 1)), .ref (ad 0 0)]))]) := hD
      refine lv_aload_n hx hb dX12_thing_35 rfl (lv_at hl 1 rfl) ?_
      refine y_Vi (wN := fun _ => (wX G ad ho rn ln dr ro lt rf th sb ++ [(rd, .inr (10, [.int (nI z), .int (nI ((k + 1) + 1)), .ref (ad 0 0)]))])) (wNx := fun u9 => (wX G ad ho rn ln dr ro lt rf th sb ++ [(rd, .inr (10, [.int (nI z), .int (nI (k + 1)), .ref (ad 0 0)]))])) ⟨C0, hK, hP, hD, hS, hA⟩ hZ 7 rfl (ci := 10) rfl rfl ((m_X12_digit l hl0 G ad ho rn ln dr ro lt rf th sb rd z (k + 1) hz (by omega) )) (cwV 0 hts (lw_V q420 q422 qs9 q101 q423) rfl rfl rfl (by decide +kernel) ⟨Nat.le_of_ble_eq_true rfl, Nat.le_of_ble_eq_true rfl⟩) [0, 1, 2, 3, 4, 5, 6, 7] [1, 3, 5, 7, 9, 11, 13, 15] [1, 3, 5, 7, 9, 11, 13, 15, 17] rfl (fun _ => rfl) (fun _ _ _ => rfl) rfl rfl rfl hl.1 rfl (Nat.le_of_ble_eq_true rfl) dX12_thing_36 ⟨(Nat.le_of_ble_eq_true rfl), (Nat.le_of_ble_eq_true rfl)⟩ (fun q9 u9 ee H locs hw_6 hP hD hS => ?_) (fun r_6 u_6 H locs hw_6 hP hD hS => ?_)
      · skip
        refine hthr _ _ _ _ _ _ _ q9 (nI (k + 1)) ee ?_ hP hD hS (Nat.le_of_ble_eq_true rfl) (Nat.le_of_ble_eq_true rfl)
        obtain ⟨h8, h9⟩ := hw_6
        refine ⟨?_, ?_⟩
        · rw [ck_t hw_5, ck_f h8]
        · rw [ck_t hw_5, ck_f h8]; exact h9
      · skip
        obtain ⟨hz_6, hw_6⟩ := hw_6
        have hw_6 : (nI (dV (hC lt z (k + 1))) : Int32) = r_6 := hw_6.symm
        subst hw_6
        have hP : va_P G.1 vwCl (wX G ad ho rn ln dr ro lt rf th sb ++ [(rd, .inr (10, [.int (nI z), .int (nI ((k + 1) + 1)), .ref (ad 0 0)]))]) H := hP
        have hD : va_D A (wX G ad ho rn ln dr ro lt rf th sb ++ [(rd, .inr (10, [.int (nI z), .int (nI ((k + 1) + 1)), .ref (ad 0 0)]))]) := hD
        refine W.widen (k := 2) (n := 14) (Nat.le_of_ble_eq_true rfl) (Nat.le_of_ble_eq_true rfl) ?_
        refine lv_istore (lv' := [(4, .int (nI (dV (hC lt z (k + 1))))), (3, .int (nI (kV (hC lt z k)))), (0, .ref rd), (1, .int 111), (2, .int (nI k0))]) hx hb dX12_thing_39 hl (by decide) rfl (fun ls hl => ?_)
        refine lv_iload_n hx hb dX12_thing_41 rfl (lv_at hl 3 rfl) ?_
        refine lv_bipush (v := 116) hx hb dX12_thing_42 (by decide) ?_
        refine lv_icmp_ne (tgt := 69) hx hb dX12_thing_44 (by decide) (fun c_7 => ?_) (fun c_7 => ?_)
        · skip
          refine va_new (D := G.1) (ci := 13) (fs := [.int 0, .int 0, .null, .int 0]) (C := RX16) (T := TX16) (N := 4) hx hb hts in_X16 tyX16 tyX16_ok hown (hts _ q463) (hts _ q464) (hts _ q105) hK.1 hP hD hS hA rfl (fun j hj => by rcases (show j = 0 ∨ j = 1 ∨ j = 2 ∨ j = 3 by omega) with rfl | rfl | rfl | rfl <;> rfl) (Nat.le_of_ble_eq_true rfl) (Nat.le_of_ble_eq_true rfl) dX12_thing_69 (fun q_8 H hP hD hS => ?_)
          have hP : va_P G.1 vwCl (wX G ad ho rn ln dr ro lt rf th sb ++ [(rd, .inr (10, [.int (nI z), .int (nI ((k + 1) + 1)), .ref (ad 0 0)]))] ++ [(q_8, .inr (13, [.int 0, .int 0, .null, .int 0]))]) H := hP
          have hD : va_D A (wX G ad ho rn ln dr ro lt rf th sb ++ [(rd, .inr (10, [.int (nI z), .int (nI ((k + 1) + 1)), .ref (ad 0 0)]))] ++ [(q_8, .inr (13, [.int 0, .int 0, .null, .int 0]))]) := hD
          refine W.widen (k := 3) (n := 18) (Nat.le_of_ble_eq_true rfl) (Nat.le_of_ble_eq_true rfl) ?_
          refine lv_dup hx hb dX12_thing_72 rfl ?_
          refine lv_iload_n hx hb dX12_thing_73 rfl (lv_at hl 4 rfl) ?_
          refine lv_aload_n hx hb dX12_thing_74 rfl (lv_at hl 2 rfl) ?_
          refine va_get (D := G.1) (ci := 10) (v := .ref (ad 0 0)) (C := RX12) (T := TX12) (N := 3) hx hb hts in_X12 hown hK.1 hP 7 rfl rfl 2 (by decide) (hts _ q372) (fun _ h9 => h9) rfl dX12_thing_75 ?_
          refine va_getN (D := G.1) (ci := 0) (v := .ref (ad 0 1)) (C := RX0) (T := TX0) (N := 13) hx hb hts in_X0 hown hK.1 hP 0 rfl rfl 0 (by decide) (va_Nw.use rfl (hK.2.F 17 rfl)) (fun _ h9 => h9) rfl dX12_thing_78 ?_
          refine lv_iload_n hx hb dX12_thing_81 rfl (lv_at hl 1 rfl) ?_
          refine x_aald hx hb hK.1 hP 1 3 rfl rfl (vp_in_nI (by omega) (by decide)) (x := (ad 4) (kV (hC lt z k))) (congrArg (fun j => some (ad 4 j)) (nI_clamp (by omega))) dX12_thing_82 ?_
          refine lv_iload hx hb dX12_thing_83 (lv_at hl 0 rfl) ?_
          refine lv_aload_n hx hb dX12_thing_85 rfl (lv_at hl 2 rfl) ?_
          refine y_Vi (wN := fun _ => (wX G ad ho rn ln dr ro lt rf th sb ++ [(rd, .inr (10, [.int (nI z), .int (nI (((k + 1) + 1) + 1)), .ref (ad 0 0)]))] ++ [(q_8, .inr (13, [.int 0, .int 0, .null, .int 0]))])) (wNx := fun u9 => (wX G ad ho rn ln dr ro lt rf th sb ++ [(rd, .inr (10, [.int (nI z), .int (nI ((k + 1) + 1)), .ref (ad 0 0)]))] ++ [(q_8, .inr (13, [.int 0, .int 0, .null, .int 0]))])) ⟨C0, hK, hP, hD, hS, hA⟩ hZ 7 rfl (ci := 10) rfl rfl ((m_X12_digit l hl0 G ad ho rn ln dr ro lt rf th sb rd z ((k + 1) + 1) hz (by omega) )) (cwV 0 hts (lw_V q420 q422 qs9 q101 q423) rfl rfl rfl (by decide +kernel) ⟨Nat.le_of_ble_eq_true rfl, Nat.le_of_ble_eq_true rfl⟩) [0, 1, 2, 3, 4, 5, 6, 7] [1, 3, 5, 7, 9, 11, 13, 15, 16] [1, 3, 5, 7, 9, 11, 13, 15, 16, 17] rfl (fun _ => rfl) (fun _ _ _ => rfl) rfl rfl rfl hl.1 rfl (Nat.le_of_ble_eq_true rfl) dX12_thing_86 ⟨(Nat.le_of_ble_eq_true rfl), (Nat.le_of_ble_eq_true rfl)⟩ (fun q9 u9 ee H locs hw_9 hP hD hS => ?_) (fun r_9 u_9 H locs hw_9 hP hD hS => ?_)
          · skip
            have hP := x_subP (w' := (wX G ad ho rn ln dr ro lt rf th sb ++ [(rd, .inr (10, [.int (nI z), .int (nI ((k + 1) + 1)), .ref (ad 0 0)]))]) ++ [yEc q9 ee]) (List.Sublist.append (List.sublist_append_left _ _) (List.Sublist.refl _)) hP
            have hD := x_subD (w' := (wX G ad ho rn ln dr ro lt rf th sb ++ [(rd, .inr (10, [.int (nI z), .int (nI ((k + 1) + 1)), .ref (ad 0 0)]))]) ++ [yEc q9 ee]) (List.Sublist.append (List.sublist_append_left _ _) (List.Sublist.refl _)) hD
            refine hthr _ _ _ _ _ _ _ q9 (nI ((k + 1) + 1)) ee ?_ hP hD hS (Nat.le_of_ble_eq_true rfl) (Nat.le_of_ble_eq_true rfl)
            obtain ⟨h8, h9⟩ := hw_9
            refine ⟨?_, ?_⟩
            · rw [ck_t hw_5, ck_t hz_6, ck_f h8]
            · rw [ck_t hw_5, ck_t hz_6, ck_f h8]; exact h9
          · skip
            obtain ⟨hz_9, hw_9⟩ := hw_9
            have hw_9 : (nI (dV (hC lt z ((k + 1) + 1))) : Int32) = r_9 := hw_9.symm
            subst hw_9
            have hP : va_P G.1 vwCl (wX G ad ho rn ln dr ro lt rf th sb ++ [(rd, .inr (10, [.int (nI z), .int (nI (((k + 1) + 1) + 1)), .ref (ad 0 0)]))] ++ [(q_8, .inr (13, [.int 0, .int 0, .null, .int 0]))]) H := hP
            have hD : va_D A (wX G ad ho rn ln dr ro lt rf th sb ++ [(rd, .inr (10, [.int (nI z), .int (nI (((k + 1) + 1) + 1)), .ref (ad 0 0)]))] ++ [(q_8, .inr (13, [.int 0, .int 0, .null, .int 0]))]) := hD
            refine W.widen (k := 4) (n := 25) (Nat.le_of_ble_eq_true rfl) (Nat.le_of_ble_eq_true rfl) ?_
            refine x_Iv (wN := fun _ => (wX G ad ho rn ln dr ro lt rf th sb ++ [(rd, .inr (10, [.int (nI z), .int (nI (((k + 1) + 1) + 1)), .ref (ad 0 0)]))] ++ [(q_8, .inr (13, [.int (nI k0), .int (nI (dV (hC lt z (k + 1)))), .ref ((ad 4) (kV (hC lt z k))), .int (nI (dV (hC lt z ((k + 1) + 1))))]))])) ⟨C0, hK, hP, hD, hS, hA⟩ ((m_X16_init_X16 l G q_8 (nI k0) ((ad 4) (kV (hC lt z k))) (nI (dV (hC lt z (k + 1)))) (nI (dV (hC lt z ((k + 1) + 1)))))) (cwI 4 hts (lw_meth q467) rfl rfl rfl (hts _ q105) (hts _ q465) (hts _ q466) rfl (by decide +kernel) ⟨Nat.le_of_ble_eq_true rfl, Nat.le_of_ble_eq_true rfl⟩) [8] [0, 2, 4, 6, 8, 10, 12, 14, 1] rfl (fun _ => rfl) rfl rfl hl.1 rfl (Nat.le_of_ble_eq_true rfl) dX12_thing_89 ⟨(Nat.le_of_ble_eq_true rfl), (Nat.le_of_ble_eq_true rfl)⟩ (fun u_10 H locs hw_10 hP hD hS => ?_)
            have hP : va_P G.1 vwCl (wX G ad ho rn ln dr ro lt rf th sb ++ [(rd, .inr (10, [.int (nI z), .int (nI (((k + 1) + 1) + 1)), .ref (ad 0 0)]))] ++ [(q_8, .inr (13, [.int (nI k0), .int (nI (dV (hC lt z (k + 1)))), .ref ((ad 4) (kV (hC lt z k))), .int (nI (dV (hC lt z ((k + 1) + 1))))]))]) H := hP
            have hD : va_D A (wX G ad ho rn ln dr ro lt rf th sb ++ [(rd, .inr (10, [.int (nI z), .int (nI (((k + 1) + 1) + 1)), .ref (ad 0 0)]))] ++ [(q_8, .inr (13, [.int (nI k0), .int (nI (dV (hC lt z (k + 1)))), .ref ((ad 4) (kV (hC lt z k))), .int (nI (dV (hC lt z ((k + 1) + 1))))]))]) := hD
            refine hret _ _ _ _ _ _ q_8 dX12_thing_92 ?_ hP hD hS (Nat.le_of_ble_eq_true rfl) (Nat.le_of_ble_eq_true rfl)
            refine ⟨?_, ?_⟩
            · rw [ck_t hw_5, ck_t hz_6, ck_t hz_9]
            · rw [ck_t hw_5, ck_t hz_6, ck_t hz_9]
        · skip
          exact absurd c_7 (by decide)
set_option maxHeartbeats 4000000 in
set_option maxRecDepth 100000 in
theorem m_told_p (l : Launch) (hl0 : l.stackTraces = false) (G : xG) (ad : Nat → Nat → Nat) (ho rn ln dr : Int32) (ro lt rf th sb : Nat → Int32) (rd z k : Nat) (hz : z ≤ 96) (hk9 : k < 2 ^ 29) (k0 : Nat) : yCr l G yX12_told cX12_told 4 (some (.object "PulledFromUnder$Told")) ({ frames := 9, cells := 3, slots := 17, locals := 149 } : Room) [.ref rd, .int 112, .int (nI k0)] (wX G ad ho rn ln dr ro lt rf th sb ++ [(rd, .inr (10, [.int (nI z), .int (nI k), .ref (ad 0 0)]))]) (S := Nat) (SX := Int32) (fun _ => (ck (dB (hC lt z k)) k (ck (dB (hC lt z (k + 1))) (k + 1) (true, k + 2))).1 = true ∧ (ck (dB (hC lt z k)) k (ck (dB (hC lt z (k + 1))) (k + 1) (true, k + 2))).2 = k + 2) (fun u => u) (fun u => (wX G ad ho rn ln dr ro lt rf th sb ++ [(rd, .inr (10, [.int (nI z), .int (nI (k + 2)), .ref (ad 0 0)]))] ++ [(u, .inr (14, [.int (nI k0), .int (nI (dV (hC lt z k))), .int (nI (dV (hC lt z (k + 1))))]))])) (fun n _ => (ck (dB (hC lt z k)) k (ck (dB (hC lt z (k + 1))) (k + 1) (true, k + 2))).1 = false ∧ n = -1000 - nI (ck (dB (hC lt z k)) k (ck (dB (hC lt z (k + 1))) (k + 1) (true, k + 2))).2) (fun u => (wX G ad ho rn ln dr ro lt rf th sb ++ [(rd, .inr (10, [.int (nI z), .int u, .ref (ad 0 0)]))])) := by
  refine y_openr (by decide) (Nat.le_of_ble_eq_true rfl) (Or.inl ⟨_, rfl⟩) ?_
  intro p e s m args below meth c A Q ls C0 hK hZ hP hD hA hl hret hthr
  obtain ⟨hx, hb, hml, hown, hts⟩ := id C0
  have hS : va_S A s.heap s.heap [] := va_S.rf
  have hP : va_P G.1 vwCl (wX G ad ho rn ln dr ro lt rf th sb ++ [(rd, .inr (10, [.int (nI z), .int (nI k), .ref (ad 0 0)]))]) s.heap := hP
  have hD : va_D A (wX G ad ho rn ln dr ro lt rf th sb ++ [(rd, .inr (10, [.int (nI z), .int (nI k), .ref (ad 0 0)]))]) := hD
  have hl : lv_has ls 4 [(0, .ref rd), (1, .int 112), (2, .int (nI k0))] := hl
  refine lv_aload_n hx hb dX12_told_0 rfl (lv_at hl 0 rfl) ?_
  refine y_Vi (wN := fun _ => (wX G ad ho rn ln dr ro lt rf th sb ++ [(rd, .inr (10, [.int (nI z), .int (nI (k + 1)), .ref (ad 0 0)]))])) (wNx := fun u9 => (wX G ad ho rn ln dr ro lt rf th sb ++ [(rd, .inr (10, [.int (nI z), .int (nI k), .ref (ad 0 0)]))])) ⟨C0, hK, hP, hD, hS, hA⟩ hZ 7 rfl (ci := 10) rfl rfl ((m_X12_digit l hl0 G ad ho rn ln dr ro lt rf th sb rd z k hz (by omega) )) (cwV 0 hts (lw_V q420 q422 qs9 q101 q423) rfl rfl rfl (by decide +kernel) ⟨Nat.le_of_ble_eq_true rfl, Nat.le_of_ble_eq_true rfl⟩) [0, 1, 2, 3, 4, 5, 6, 7] [1, 3, 5, 7, 9, 11, 13, 15] [1, 3, 5, 7, 9, 11, 13, 15, 17] rfl (fun _ => rfl) (fun _ _ _ => rfl) rfl rfl rfl hl.1 rfl (Nat.le_of_ble_eq_true rfl) dX12_told_1 ⟨(Nat.le_of_ble_eq_true rfl), (Nat.le_of_ble_eq_true rfl)⟩ (fun q9 u9 ee H locs hw_1 hP hD hS => ?_) (fun r_1 u_1 H locs hw_1 hP hD hS => ?_)
  · skip
    refine hthr _ _ _ _ _ _ _ q9 (nI k) ee ?_ hP hD hS (Nat.le_of_ble_eq_true rfl) (Nat.le_of_ble_eq_true rfl)
    obtain ⟨h8, h9⟩ := hw_1
    refine ⟨?_, ?_⟩
    · rw [ck_f h8]
    · rw [ck_f h8]; exact h9
  · skip
    obtain ⟨hz_1, hw_1⟩ := hw_1
    have hw_1 : (nI (dV (hC lt z k)) : Int32) = r_1 := hw_1.symm
    subst hw_1
    have hP : va_P G.1 vwCl (wX G ad ho rn ln dr ro lt rf th sb ++ [(rd, .inr (10, [.int (nI z), .int (nI (k + 1)), .ref (ad 0 0)]))]) H := hP
    have hD : va_D A (wX G ad ho rn ln dr ro lt rf th sb ++ [(rd, .inr (10, [.int (nI z), .int (nI (k + 1)), .ref (ad 0 0)]))]) := hD
    refine W.widen (k := 1) (n := 7) (Nat.le_of_ble_eq_true rfl) (Nat.le_of_ble_eq_true rfl) ?_
    refine lv_istore_n (lv' := [(3, .int (nI (dV (hC lt z k)))), (0, .ref rd), (1, .int 112), (2, .int (nI k0))]) hx hb dX12_told_4 rfl hl (by decide) rfl (fun ls hl => ?_)
    refine lv_iload_n hx hb dX12_told_5 rfl (lv_at hl 2 rfl) ?_
    refine lv_lookup (off := 34) (tgt := 40) hx hb dX12_told_6 (by decide) (by decide) (by decide) ?_
    refine va_new (D := G.1) (ci := 14) (fs := [.int 0, .int 0, .int 0]) (C := RX17) (T := TX17) (N := 3) hx hb hts in_X17 tyX17 tyX17_ok hown (hts _ q480) (hts _ q481) (hts _ q106) hK.1 hP hD hS hA rfl (fun j hj => by rcases (show j = 0 ∨ j = 1 ∨ j = 2 by omega) with rfl | rfl | rfl <;> rfl) (Nat.le_of_ble_eq_true rfl) (Nat.le_of_ble_eq_true rfl) dX12_told_40 (fun q_2 H hP hD hS => ?_)
    have hP : va_P G.1 vwCl (wX G ad ho rn ln dr ro lt rf th sb ++ [(rd, .inr (10, [.int (nI z), .int (nI (k + 1)), .ref (ad 0 0)]))] ++ [(q_2, .inr (14, [.int 0, .int 0, .int 0]))]) H := hP
    have hD : va_D A (wX G ad ho rn ln dr ro lt rf th sb ++ [(rd, .inr (10, [.int (nI z), .int (nI (k + 1)), .ref (ad 0 0)]))] ++ [(q_2, .inr (14, [.int 0, .int 0, .int 0]))]) := hD
    refine W.widen (k := 2) (n := 10) (Nat.le_of_ble_eq_true rfl) (Nat.le_of_ble_eq_true rfl) ?_
    refine lv_dup hx hb dX12_told_43 rfl ?_
    refine lv_iload_n hx hb dX12_told_44 rfl (lv_at hl 3 rfl) ?_
    refine lv_iload_n hx hb dX12_told_45 rfl (lv_at hl 0 rfl) ?_
    refine lv_aload_n hx hb dX12_told_46 rfl (lv_at hl 1 rfl) ?_
    refine y_Vi (wN := fun _ => (wX G ad ho rn ln dr ro lt rf th sb ++ [(rd, .inr (10, [.int (nI z), .int (nI ((k + 1) + 1)), .ref (ad 0 0)]))] ++ [(q_2, .inr (14, [.int 0, .int 0, .int 0]))])) (wNx := fun u9 => (wX G ad ho rn ln dr ro lt rf th sb ++ [(rd, .inr (10, [.int (nI z), .int (nI (k + 1)), .ref (ad 0 0)]))] ++ [(q_2, .inr (14, [.int 0, .int 0, .int 0]))])) ⟨C0, hK, hP, hD, hS, hA⟩ hZ 7 rfl (ci := 10) rfl rfl ((m_X12_digit l hl0 G ad ho rn ln dr ro lt rf th sb rd z (k + 1) hz (by omega) )) (cwV 0 hts (lw_V q420 q422 qs9 q101 q423) rfl rfl rfl (by decide +kernel) ⟨Nat.le_of_ble_eq_true rfl, Nat.le_of_ble_eq_true rfl⟩) [0, 1, 2, 3, 4, 5, 6, 7] [1, 3, 5, 7, 9, 11, 13, 15, 16] [1, 3, 5, 7, 9, 11, 13, 15, 16, 17] rfl (fun _ => rfl) (fun _ _ _ => rfl) rfl rfl rfl hl.1 rfl (Nat.le_of_ble_eq_true rfl) dX12_told_47 ⟨(Nat.le_of_ble_eq_true rfl), (Nat.le_of_ble_eq_true rfl)⟩ (fun q9 u9 ee H locs hw_3 hP hD hS => ?_) (fun r_3 u_3 H locs hw_3 hP hD hS => ?_)
    · skip
      have hP := x_subP (w' := (wX G ad ho rn ln dr ro lt rf th sb ++ [(rd, .inr (10, [.int (nI z), .int (nI (k + 1)), .ref (ad 0 0)]))]) ++ [yEc q9 ee]) (List.Sublist.append (List.sublist_append_left _ _) (List.Sublist.refl _)) hP
      have hD := x_subD (w' := (wX G ad ho rn ln dr ro lt rf th sb ++ [(rd, .inr (10, [.int (nI z), .int (nI (k + 1)), .ref (ad 0 0)]))]) ++ [yEc q9 ee]) (List.Sublist.append (List.sublist_append_left _ _) (List.Sublist.refl _)) hD
      refine hthr _ _ _ _ _ _ _ q9 (nI (k + 1)) ee ?_ hP hD hS (Nat.le_of_ble_eq_true rfl) (Nat.le_of_ble_eq_true rfl)
      obtain ⟨h8, h9⟩ := hw_3
      refine ⟨?_, ?_⟩
      · rw [ck_t hz_1, ck_f h8]
      · rw [ck_t hz_1, ck_f h8]; exact h9
    · skip
      obtain ⟨hz_3, hw_3⟩ := hw_3
      have hw_3 : (nI (dV (hC lt z (k + 1))) : Int32) = r_3 := hw_3.symm
      subst hw_3
      have hP : va_P G.1 vwCl (wX G ad ho rn ln dr ro lt rf th sb ++ [(rd, .inr (10, [.int (nI z), .int (nI ((k + 1) + 1)), .ref (ad 0 0)]))] ++ [(q_2, .inr (14, [.int 0, .int 0, .int 0]))]) H := hP
      have hD : va_D A (wX G ad ho rn ln dr ro lt rf th sb ++ [(rd, .inr (10, [.int (nI z), .int (nI ((k + 1) + 1)), .ref (ad 0 0)]))] ++ [(q_2, .inr (14, [.int 0, .int 0, .int 0]))]) := hD
      refine W.widen (k := 3) (n := 17) (Nat.le_of_ble_eq_true rfl) (Nat.le_of_ble_eq_true rfl) ?_
      refine x_Iv (wN := fun _ => (wX G ad ho rn ln dr ro lt rf th sb ++ [(rd, .inr (10, [.int (nI z), .int (nI ((k + 1) + 1)), .ref (ad 0 0)]))] ++ [(q_2, .inr (14, [.int (nI k0), .int (nI (dV (hC lt z k))), .int (nI (dV (hC lt z (k + 1))))]))])) ⟨C0, hK, hP, hD, hS, hA⟩ ((m_X17_init_X17 l G q_2 (nI k0) (nI (dV (hC lt z k))) (nI (dV (hC lt z (k + 1)))))) (cwI 3 hts (lw_meth q484) rfl rfl rfl (hts _ q106) (hts _ q482) (hts _ q483) rfl (by decide +kernel) ⟨Nat.le_of_ble_eq_true rfl, Nat.le_of_ble_eq_true rfl⟩) [8] [0, 2, 4, 6, 8, 10, 12, 14, 1] rfl (fun _ => rfl) rfl rfl hl.1 rfl (Nat.le_of_ble_eq_true rfl) dX12_told_50 ⟨(Nat.le_of_ble_eq_true rfl), (Nat.le_of_ble_eq_true rfl)⟩ (fun u_4 H locs hw_4 hP hD hS => ?_)
      have hP : va_P G.1 vwCl (wX G ad ho rn ln dr ro lt rf th sb ++ [(rd, .inr (10, [.int (nI z), .int (nI ((k + 1) + 1)), .ref (ad 0 0)]))] ++ [(q_2, .inr (14, [.int (nI k0), .int (nI (dV (hC lt z k))), .int (nI (dV (hC lt z (k + 1))))]))]) H := hP
      have hD : va_D A (wX G ad ho rn ln dr ro lt rf th sb ++ [(rd, .inr (10, [.int (nI z), .int (nI ((k + 1) + 1)), .ref (ad 0 0)]))] ++ [(q_2, .inr (14, [.int (nI k0), .int (nI (dV (hC lt z k))), .int (nI (dV (hC lt z (k + 1))))]))]) := hD
      refine hret _ _ _ _ _ _ q_2 dX12_told_53 ?_ hP hD hS (Nat.le_of_ble_eq_true rfl) (Nat.le_of_ble_eq_true rfl)
      refine ⟨?_, ?_⟩
      · rw [ck_t hz_1, ck_t hz_3]
      · rw [ck_t hz_1, ck_t hz_3]
set_option maxHeartbeats 4000000 in
set_option maxRecDepth 100000 in
theorem m_told_f (l : Launch) (hl0 : l.stackTraces = false) (G : xG) (ad : Nat → Nat → Nat) (ho rn ln dr : Int32) (ro lt rf th sb : Nat → Int32) (rd z k : Nat) (hz : z ≤ 96) (hk9 : k < 2 ^ 29) (k0 : Nat) : yCr l G yX12_told cX12_told 4 (some (.object "PulledFromUnder$Told")) ({ frames := 9, cells := 2, slots := 9, locals := 149 } : Room) [.ref rd, .int 102, .int (nI k0)] (wX G ad ho rn ln dr ro lt rf th sb ++ [(rd, .inr (10, [.int (nI z), .int (nI k), .ref (ad 0 0)]))]) (S := Nat) (SX := Int32) (fun _ => (ck (dB (hC lt z k)) k (true, k + 1)).1 = true ∧ (ck (dB (hC lt z k)) k (true, k + 1)).2 = k + 1) (fun u => u) (fun u => (wX G ad ho rn ln dr ro lt rf th sb ++ [(rd, .inr (10, [.int (nI z), .int (nI (k + 1)), .ref (ad 0 0)]))] ++ [(u, .inr (15, [.int (nI k0), .int (nI (dV (hC lt z k)))]))])) (fun n _ => (ck (dB (hC lt z k)) k (true, k + 1)).1 = false ∧ n = -1000 - nI (ck (dB (hC lt z k)) k (true, k + 1)).2) (fun u => (wX G ad ho rn ln dr ro lt rf th sb ++ [(rd, .inr (10, [.int (nI z), .int u, .ref (ad 0 0)]))])) := by
  refine y_openr (by decide) (Nat.le_of_ble_eq_true rfl) (Or.inl ⟨_, rfl⟩) ?_
  intro p e s m args below meth c A Q ls C0 hK hZ hP hD hA hl hret hthr
  obtain ⟨hx, hb, hml, hown, hts⟩ := id C0
  have hS : va_S A s.heap s.heap [] := va_S.rf
  have hP : va_P G.1 vwCl (wX G ad ho rn ln dr ro lt rf th sb ++ [(rd, .inr (10, [.int (nI z), .int (nI k), .ref (ad 0 0)]))]) s.heap := hP
  have hD : va_D A (wX G ad ho rn ln dr ro lt rf th sb ++ [(rd, .inr (10, [.int (nI z), .int (nI k), .ref (ad 0 0)]))]) := hD
  have hl : lv_has ls 4 [(0, .ref rd), (1, .int 102), (2, .int (nI k0))] := hl
  refine lv_aload_n hx hb dX12_told_0 rfl (lv_at hl 0 rfl) ?_
  refine y_Vi (wN := fun _ => (wX G ad ho rn ln dr ro lt rf th sb ++ [(rd, .inr (10, [.int (nI z), .int (nI (k + 1)), .ref (ad 0 0)]))])) (wNx := fun u9 => (wX G ad ho rn ln dr ro lt rf th sb ++ [(rd, .inr (10, [.int (nI z), .int (nI k), .ref (ad 0 0)]))])) ⟨C0, hK, hP, hD, hS, hA⟩ hZ 7 rfl (ci := 10) rfl rfl ((m_X12_digit l hl0 G ad ho rn ln dr ro lt rf th sb rd z k hz (by omega) )) (cwV 0 hts (lw_V q420 q422 qs9 q101 q423) rfl rfl rfl (by decide +kernel) ⟨Nat.le_of_ble_eq_true rfl, Nat.le_of_ble_eq_true rfl⟩) [0, 1, 2, 3, 4, 5, 6, 7] [1, 3, 5, 7, 9, 11, 13, 15] [1, 3, 5, 7, 9, 11, 13, 15, 17] rfl (fun _ => rfl) (fun _ _ _ => rfl) rfl rfl rfl hl.1 rfl (Nat.le_of_ble_eq_true rfl) dX12_told_1 ⟨(Nat.le_of_ble_eq_true rfl), (Nat.le_of_ble_eq_true rfl)⟩ (fun q9 u9 ee H locs hw_1 hP hD hS => ?_) (fun r_1 u_1 H locs hw_1 hP hD hS => ?_)
  · skip
    refine hthr _ _ _ _ _ _ _ q9 (nI k) ee ?_ hP hD hS (Nat.le_of_ble_eq_true rfl) (Nat.le_of_ble_eq_true rfl)
    obtain ⟨h8, h9⟩ := hw_1
    refine ⟨?_, ?_⟩
    · rw [ck_f h8]
    · rw [ck_f h8]; exact h9
  · skip
    obtain ⟨hz_1, hw_1⟩ := hw_1
    have hw_1 : (nI (dV (hC lt z k)) : Int32) = r_1 := hw_1.symm
    subst hw_1
    have hP : va_P G.1 vwCl (wX G ad ho rn ln dr ro lt rf th sb ++ [(rd, .inr (10, [.int (nI z), .int (nI (k + 1)), .ref (ad 0 0)]))]) H := hP
    have hD : va_D A (wX G ad ho rn ln dr ro lt rf th sb ++ [(rd, .inr (10, [.int (nI z), .int (nI (k + 1)), .ref (ad 0 0)]))]) := hD
    refine W.widen (k := 1) (n := 7) (Nat.le_of_ble_eq_true rfl) (Nat.le_of_ble_eq_true rfl) ?_
    refine lv_istore_n (lv' := [(3, .int (nI (dV (hC lt z k)))), (0, .ref rd), (1, .int 102), (2, .int (nI k0))]) hx hb dX12_told_4 rfl hl (by decide) rfl (fun ls hl => ?_)
    refine lv_iload_n hx hb dX12_told_5 rfl (lv_at hl 2 rfl) ?_
    refine lv_lookup (off := 48) (tgt := 54) hx hb dX12_told_6 (by decide) (by decide) (by decide) ?_
    refine va_new (D := G.1) (ci := 15) (fs := [.int 0, .int 0]) (C := RX18) (T := TX18) (N := 2) hx hb hts in_X18 tyX18 tyX18_ok hown (hts _ q492) (hts _ q493) (hts _ q107) hK.1 hP hD hS hA rfl (fun j hj => by rcases (show j = 0 ∨ j = 1 by omega) with rfl | rfl <;> rfl) (Nat.le_of_ble_eq_true rfl) (Nat.le_of_ble_eq_true rfl) dX12_told_54 (fun q_2 H hP hD hS => ?_)
    have hP : va_P G.1 vwCl (wX G ad ho rn ln dr ro lt rf th sb ++ [(rd, .inr (10, [.int (nI z), .int (nI (k + 1)), .ref (ad 0 0)]))] ++ [(q_2, .inr (15, [.int 0, .int 0]))]) H := hP
    have hD : va_D A (wX G ad ho rn ln dr ro lt rf th sb ++ [(rd, .inr (10, [.int (nI z), .int (nI (k + 1)), .ref (ad 0 0)]))] ++ [(q_2, .inr (15, [.int 0, .int 0]))]) := hD
    refine W.widen (k := 2) (n := 9) (Nat.le_of_ble_eq_true rfl) (Nat.le_of_ble_eq_true rfl) ?_
    refine lv_dup hx hb dX12_told_57 rfl ?_
    refine lv_iload_n hx hb dX12_told_58 rfl (lv_at hl 3 rfl) ?_
    refine lv_iload_n hx hb dX12_told_59 rfl (lv_at hl 0 rfl) ?_
    refine x_Iv (wN := fun _ => (wX G ad ho rn ln dr ro lt rf th sb ++ [(rd, .inr (10, [.int (nI z), .int (nI (k + 1)), .ref (ad 0 0)]))] ++ [(q_2, .inr (15, [.int (nI k0), .int (nI (dV (hC lt z k)))]))])) ⟨C0, hK, hP, hD, hS, hA⟩ ((m_X18_init_X18 l G q_2 (nI k0) (nI (dV (hC lt z k))))) (cwI 2 hts (lw_meth q496) rfl rfl rfl (hts _ q107) (hts _ q494) (hts _ q495) rfl (by decide +kernel) ⟨Nat.le_of_ble_eq_true rfl, Nat.le_of_ble_eq_true rfl⟩) [8] [0, 2, 4, 6, 8, 10, 12, 14, 1] rfl (fun _ => rfl) rfl rfl hl.1 rfl (Nat.le_of_ble_eq_true rfl) dX12_told_60 ⟨(Nat.le_of_ble_eq_true rfl), (Nat.le_of_ble_eq_true rfl)⟩ (fun u_3 H locs hw_3 hP hD hS => ?_)
    have hP : va_P G.1 vwCl (wX G ad ho rn ln dr ro lt rf th sb ++ [(rd, .inr (10, [.int (nI z), .int (nI (k + 1)), .ref (ad 0 0)]))] ++ [(q_2, .inr (15, [.int (nI k0), .int (nI (dV (hC lt z k)))]))]) H := hP
    have hD : va_D A (wX G ad ho rn ln dr ro lt rf th sb ++ [(rd, .inr (10, [.int (nI z), .int (nI (k + 1)), .ref (ad 0 0)]))] ++ [(q_2, .inr (15, [.int (nI k0), .int (nI (dV (hC lt z k)))]))]) := hD
    refine hret _ _ _ _ _ _ q_2 dX12_told_63 ?_ hP hD hS (Nat.le_of_ble_eq_true rfl) (Nat.le_of_ble_eq_true rfl)
    refine ⟨?_, ?_⟩
    · rw [ck_t hz_1]
    · rw [ck_t hz_1]
set_option maxHeartbeats 4000000 in
set_option maxRecDepth 100000 in
theorem m_told_h (l : Launch) (hl0 : l.stackTraces = false) (G : xG) (ad : Nat → Nat → Nat) (ho rn ln dr : Int32) (ro lt rf th sb : Nat → Int32) (rd z k : Nat) (hz : z ≤ 96) (hk9 : k < 2 ^ 29) (k0 : Nat) : yCr l G yX12_told cX12_told 4 (some (.object "PulledFromUnder$Told")) ({ frames := 9, cells := 2, slots := 9, locals := 149 } : Room) [.ref rd, .int 104, .int (nI k0)] (wX G ad ho rn ln dr ro lt rf th sb ++ [(rd, .inr (10, [.int (nI z), .int (nI k), .ref (ad 0 0)]))]) (S := Nat) (SX := Int32) (fun _ => (ck (dB (hC lt z k)) k (true, k + 1)).1 = true ∧ (ck (dB (hC lt z k)) k (true, k + 1)).2 = k + 1) (fun u => u) (fun u => (wX G ad ho rn ln dr ro lt rf th sb ++ [(rd, .inr (10, [.int (nI z), .int (nI (k + 1)), .ref (ad 0 0)]))] ++ [(u, .inr (16, [.int (nI k0), .int (nI (dV (hC lt z k)))]))])) (fun n _ => (ck (dB (hC lt z k)) k (true, k + 1)).1 = false ∧ n = -1000 - nI (ck (dB (hC lt z k)) k (true, k + 1)).2) (fun u => (wX G ad ho rn ln dr ro lt rf th sb ++ [(rd, .inr (10, [.int (nI z), .int u, .ref (ad 0 0)]))])) := by
  refine y_openr (by decide) (Nat.le_of_ble_eq_true rfl) (Or.inl ⟨_, rfl⟩) ?_
  intro p e s m args below meth c A Q ls C0 hK hZ hP hD hA hl hret hthr
  obtain ⟨hx, hb, hml, hown, hts⟩ := id C0
  have hS : va_S A s.heap s.heap [] := va_S.rf
  have hP : va_P G.1 vwCl (wX G ad ho rn ln dr ro lt rf th sb ++ [(rd, .inr (10, [.int (nI z), .int (nI k), .ref (ad 0 0)]))]) s.heap := hP
  have hD : va_D A (wX G ad ho rn ln dr ro lt rf th sb ++ [(rd, .inr (10, [.int (nI z), .int (nI k), .ref (ad 0 0)]))]) := hD
  have hl : lv_has ls 4 [(0, .ref rd), (1, .int 104), (2, .int (nI k0))] := hl
  refine lv_aload_n hx hb dX12_told_0 rfl (lv_at hl 0 rfl) ?_
  refine y_Vi (wN := fun _ => (wX G ad ho rn ln dr ro lt rf th sb ++ [(rd, .inr (10, [.int (nI z), .int (nI (k + 1)), .ref (ad 0 0)]))])) (wNx := fun u9 => (wX G ad ho rn ln dr ro lt rf th sb ++ [(rd, .inr (10, [.int (nI z), .int (nI k), .ref (ad 0 0)]))])) ⟨C0, hK, hP, hD, hS, hA⟩ hZ 7 rfl (ci := 10) rfl rfl ((m_X12_digit l hl0 G ad ho rn ln dr ro lt rf th sb rd z k hz (by omega) )) (cwV 0 hts (lw_V q420 q422 qs9 q101 q423) rfl rfl rfl (by decide +kernel) ⟨Nat.le_of_ble_eq_true rfl, Nat.le_of_ble_eq_true rfl⟩) [0, 1, 2, 3, 4, 5, 6, 7] [1, 3, 5, 7, 9, 11, 13, 15] [1, 3, 5, 7, 9, 11, 13, 15, 17] rfl (fun _ => rfl) (fun _ _ _ => rfl) rfl rfl rfl hl.1 rfl (Nat.le_of_ble_eq_true rfl) dX12_told_1 ⟨(Nat.le_of_ble_eq_true rfl), (Nat.le_of_ble_eq_true rfl)⟩ (fun q9 u9 ee H locs hw_1 hP hD hS => ?_) (fun r_1 u_1 H locs hw_1 hP hD hS => ?_)
  · skip
    refine hthr _ _ _ _ _ _ _ q9 (nI k) ee ?_ hP hD hS (Nat.le_of_ble_eq_true rfl) (Nat.le_of_ble_eq_true rfl)
    obtain ⟨h8, h9⟩ := hw_1
    refine ⟨?_, ?_⟩
    · rw [ck_f h8]
    · rw [ck_f h8]; exact h9
  · skip
    obtain ⟨hz_1, hw_1⟩ := hw_1
    have hw_1 : (nI (dV (hC lt z k)) : Int32) = r_1 := hw_1.symm
    subst hw_1
    have hP : va_P G.1 vwCl (wX G ad ho rn ln dr ro lt rf th sb ++ [(rd, .inr (10, [.int (nI z), .int (nI (k + 1)), .ref (ad 0 0)]))]) H := hP
    have hD : va_D A (wX G ad ho rn ln dr ro lt rf th sb ++ [(rd, .inr (10, [.int (nI z), .int (nI (k + 1)), .ref (ad 0 0)]))]) := hD
    refine W.widen (k := 1) (n := 7) (Nat.le_of_ble_eq_true rfl) (Nat.le_of_ble_eq_true rfl) ?_
    refine lv_istore_n (lv' := [(3, .int (nI (dV (hC lt z k)))), (0, .ref rd), (1, .int 104), (2, .int (nI k0))]) hx hb dX12_told_4 rfl hl (by decide) rfl (fun ls hl => ?_)
    refine lv_iload_n hx hb dX12_told_5 rfl (lv_at hl 2 rfl) ?_
    refine lv_lookup (off := 58) (tgt := 64) hx hb dX12_told_6 (by decide) (by decide) (by decide) ?_
    refine va_new (D := G.1) (ci := 16) (fs := [.int 0, .int 0]) (C := RX19) (T := TX19) (N := 2) hx hb hts in_X19 tyX19 tyX19_ok hown (hts _ q501) (hts _ q502) (hts _ q108) hK.1 hP hD hS hA rfl (fun j hj => by rcases (show j = 0 ∨ j = 1 by omega) with rfl | rfl <;> rfl) (Nat.le_of_ble_eq_true rfl) (Nat.le_of_ble_eq_true rfl) dX12_told_64 (fun q_2 H hP hD hS => ?_)
    have hP : va_P G.1 vwCl (wX G ad ho rn ln dr ro lt rf th sb ++ [(rd, .inr (10, [.int (nI z), .int (nI (k + 1)), .ref (ad 0 0)]))] ++ [(q_2, .inr (16, [.int 0, .int 0]))]) H := hP
    have hD : va_D A (wX G ad ho rn ln dr ro lt rf th sb ++ [(rd, .inr (10, [.int (nI z), .int (nI (k + 1)), .ref (ad 0 0)]))] ++ [(q_2, .inr (16, [.int 0, .int 0]))]) := hD
    refine W.widen (k := 2) (n := 9) (Nat.le_of_ble_eq_true rfl) (Nat.le_of_ble_eq_true rfl) ?_
    refine lv_dup hx hb dX12_told_67 rfl ?_
    refine lv_iload_n hx hb dX12_told_68 rfl (lv_at hl 3 rfl) ?_
    refine lv_iload_n hx hb dX12_told_69 rfl (lv_at hl 0 rfl) ?_
    refine x_Iv (wN := fun _ => (wX G ad ho rn ln dr ro lt rf th sb ++ [(rd, .inr (10, [.int (nI z), .int (nI (k + 1)), .ref (ad 0 0)]))] ++ [(q_2, .inr (16, [.int (nI k0), .int (nI (dV (hC lt z k)))]))])) ⟨C0, hK, hP, hD, hS, hA⟩ ((m_X19_init_X19 l G q_2 (nI k0) (nI (dV (hC lt z k))))) (cwI 2 hts (lw_meth q505) rfl rfl rfl (hts _ q108) (hts _ q503) (hts _ q504) rfl (by decide +kernel) ⟨Nat.le_of_ble_eq_true rfl, Nat.le_of_ble_eq_true rfl⟩) [8] [0, 2, 4, 6, 8, 10, 12, 14, 1] rfl (fun _ => rfl) rfl rfl hl.1 rfl (Nat.le_of_ble_eq_true rfl) dX12_told_70 ⟨(Nat.le_of_ble_eq_true rfl), (Nat.le_of_ble_eq_true rfl)⟩ (fun u_3 H locs hw_3 hP hD hS => ?_)
    have hP : va_P G.1 vwCl (wX G ad ho rn ln dr ro lt rf th sb ++ [(rd, .inr (10, [.int (nI z), .int (nI (k + 1)), .ref (ad 0 0)]))] ++ [(q_2, .inr (16, [.int (nI k0), .int (nI (dV (hC lt z k)))]))]) H := hP
    have hD : va_D A (wX G ad ho rn ln dr ro lt rf th sb ++ [(rd, .inr (10, [.int (nI z), .int (nI (k + 1)), .ref (ad 0 0)]))] ++ [(q_2, .inr (16, [.int (nI k0), .int (nI (dV (hC lt z k)))]))]) := hD
    refine hret _ _ _ _ _ _ q_2 dX12_told_73 ?_ hP hD hS (Nat.le_of_ble_eq_true rfl) (Nat.le_of_ble_eq_true rfl)
    refine ⟨?_, ?_⟩
    · rw [ck_t hz_1]
    · rw [ck_t hz_1]
set_option maxHeartbeats 4000000 in
set_option maxRecDepth 100000 in
theorem m_told_m (l : Launch) (hl0 : l.stackTraces = false) (G : xG) (ad : Nat → Nat → Nat) (ho rn ln dr : Int32) (ro lt rf th sb : Nat → Int32) (rd z k : Nat) (hz : z ≤ 96) (hk9 : k < 2 ^ 29) (k0 : Nat) : yCr l G yX12_told cX12_told 4 (some (.object "PulledFromUnder$Told")) ({ frames := 9, cells := 3, slots := 16, locals := 149 } : Room) [.ref rd, .int 109, .int (nI k0)] (wX G ad ho rn ln dr ro lt rf th sb ++ [(rd, .inr (10, [.int (nI z), .int (nI k), .ref (ad 0 0)]))]) (S := Nat) (SX := Int32) (fun _ => (ck (dB (hC lt z k)) k (ck (dB (hC lt z (k + 1))) (k + 1) (true, k + 2))).1 = true ∧ (ck (dB (hC lt z k)) k (ck (dB (hC lt z (k + 1))) (k + 1) (true, k + 2))).2 = k + 2) (fun u => u) (fun u => (wX G ad ho rn ln dr ro lt rf th sb ++ [(rd, .inr (10, [.int (nI z), .int (nI (k + 2)), .ref (ad 0 0)]))] ++ [(u, .inr (17, [.int (nI k0), .int (nI (10 * dV (hC lt z k) + dV (hC lt z (k + 1))))]))])) (fun n _ => (ck (dB (hC lt z k)) k (ck (dB (hC lt z (k + 1))) (k + 1) (true, k + 2))).1 = false ∧ n = -1000 - nI (ck (dB (hC lt z k)) k (ck (dB (hC lt z (k + 1))) (k + 1) (true, k + 2))).2) (fun u => (wX G ad ho rn ln dr ro lt rf th sb ++ [(rd, .inr (10, [.int (nI z), .int u, .ref (ad 0 0)]))])) := by
  refine y_openr (by decide) (Nat.le_of_ble_eq_true rfl) (Or.inl ⟨_, rfl⟩) ?_
  intro p e s m args below meth c A Q ls C0 hK hZ hP hD hA hl hret hthr
  obtain ⟨hx, hb, hml, hown, hts⟩ := id C0
  have hS : va_S A s.heap s.heap [] := va_S.rf
  have hP : va_P G.1 vwCl (wX G ad ho rn ln dr ro lt rf th sb ++ [(rd, .inr (10, [.int (nI z), .int (nI k), .ref (ad 0 0)]))]) s.heap := hP
  have hD : va_D A (wX G ad ho rn ln dr ro lt rf th sb ++ [(rd, .inr (10, [.int (nI z), .int (nI k), .ref (ad 0 0)]))]) := hD
  have hl : lv_has ls 4 [(0, .ref rd), (1, .int 109), (2, .int (nI k0))] := hl
  refine lv_aload_n hx hb dX12_told_0 rfl (lv_at hl 0 rfl) ?_
  refine y_Vi (wN := fun _ => (wX G ad ho rn ln dr ro lt rf th sb ++ [(rd, .inr (10, [.int (nI z), .int (nI (k + 1)), .ref (ad 0 0)]))])) (wNx := fun u9 => (wX G ad ho rn ln dr ro lt rf th sb ++ [(rd, .inr (10, [.int (nI z), .int (nI k), .ref (ad 0 0)]))])) ⟨C0, hK, hP, hD, hS, hA⟩ hZ 7 rfl (ci := 10) rfl rfl ((m_X12_digit l hl0 G ad ho rn ln dr ro lt rf th sb rd z k hz (by omega) )) (cwV 0 hts (lw_V q420 q422 qs9 q101 q423) rfl rfl rfl (by decide +kernel) ⟨Nat.le_of_ble_eq_true rfl, Nat.le_of_ble_eq_true rfl⟩) [0, 1, 2, 3, 4, 5, 6, 7] [1, 3, 5, 7, 9, 11, 13, 15] [1, 3, 5, 7, 9, 11, 13, 15, 17] rfl (fun _ => rfl) (fun _ _ _ => rfl) rfl rfl rfl hl.1 rfl (Nat.le_of_ble_eq_true rfl) dX12_told_1 ⟨(Nat.le_of_ble_eq_true rfl), (Nat.le_of_ble_eq_true rfl)⟩ (fun q9 u9 ee H locs hw_1 hP hD hS => ?_) (fun r_1 u_1 H locs hw_1 hP hD hS => ?_)
  · skip
    refine hthr _ _ _ _ _ _ _ q9 (nI k) ee ?_ hP hD hS (Nat.le_of_ble_eq_true rfl) (Nat.le_of_ble_eq_true rfl)
    obtain ⟨h8, h9⟩ := hw_1
    refine ⟨?_, ?_⟩
    · rw [ck_f h8]
    · rw [ck_f h8]; exact h9
  · skip
    obtain ⟨hz_1, hw_1⟩ := hw_1
    have hw_1 : (nI (dV (hC lt z k)) : Int32) = r_1 := hw_1.symm
    subst hw_1
    have hP : va_P G.1 vwCl (wX G ad ho rn ln dr ro lt rf th sb ++ [(rd, .inr (10, [.int (nI z), .int (nI (k + 1)), .ref (ad 0 0)]))]) H := hP
    have hD : va_D A (wX G ad ho rn ln dr ro lt rf th sb ++ [(rd, .inr (10, [.int (nI z), .int (nI (k + 1)), .ref (ad 0 0)]))]) := hD
    refine W.widen (k := 1) (n := 7) (Nat.le_of_ble_eq_true rfl) (Nat.le_of_ble_eq_true rfl) ?_
    refine lv_istore_n (lv' := [(3, .int (nI (dV (hC lt z k)))), (0, .ref rd), (1, .int 109), (2, .int (nI k0))]) hx hb dX12_told_4 rfl hl (by decide) rfl (fun ls hl => ?_)
    refine lv_iload_n hx hb dX12_told_5 rfl (lv_at hl 2 rfl) ?_
    refine lv_lookup (off := 68) (tgt := 74) hx hb dX12_told_6 (by decide) (by decide) (by decide) ?_
    refine va_new (D := G.1) (ci := 17) (fs := [.int 0, .int 0]) (C := RX20) (T := TX20) (N := 2) hx hb hts in_X20 tyX20 tyX20_ok hown (hts _ q510) (hts _ q511) (hts _ q109) hK.1 hP hD hS hA rfl (fun j hj => by rcases (show j = 0 ∨ j = 1 by omega) with rfl | rfl <;> rfl) (Nat.le_of_ble_eq_true rfl) (Nat.le_of_ble_eq_true rfl) dX12_told_74 (fun q_2 H hP hD hS => ?_)
    have hP : va_P G.1 vwCl (wX G ad ho rn ln dr ro lt rf th sb ++ [(rd, .inr (10, [.int (nI z), .int (nI (k + 1)), .ref (ad 0 0)]))] ++ [(q_2, .inr (17, [.int 0, .int 0]))]) H := hP
    have hD : va_D A (wX G ad ho rn ln dr ro lt rf th sb ++ [(rd, .inr (10, [.int (nI z), .int (nI (k + 1)), .ref (ad 0 0)]))] ++ [(q_2, .inr (17, [.int 0, .int 0]))]) := hD
    refine W.widen (k := 2) (n := 9) (Nat.le_of_ble_eq_true rfl) (Nat.le_of_ble_eq_true rfl) ?_
    refine lv_dup hx hb dX12_told_77 rfl ?_
    refine lv_iload_n hx hb dX12_told_78 rfl (lv_at hl 3 rfl) ?_
    refine lv_bipush (v := 10) hx hb dX12_told_79 (by decide) ?_
    refine lv_iload_n hx hb dX12_told_81 rfl (lv_at hl 0 rfl) ?_
    refine x_imul hx hb dX12_told_82 (v := nI (10 * dV (hC lt z k))) (show (10 : Int32) * _ = _ from pk_mul 10 _) ?_
    refine lv_aload_n hx hb dX12_told_83 rfl (lv_at hl 1 rfl) ?_
    refine y_Vi (wN := fun _ => (wX G ad ho rn ln dr ro lt rf th sb ++ [(rd, .inr (10, [.int (nI z), .int (nI ((k + 1) + 1)), .ref (ad 0 0)]))] ++ [(q_2, .inr (17, [.int 0, .int 0]))])) (wNx := fun u9 => (wX G ad ho rn ln dr ro lt rf th sb ++ [(rd, .inr (10, [.int (nI z), .int (nI (k + 1)), .ref (ad 0 0)]))] ++ [(q_2, .inr (17, [.int 0, .int 0]))])) ⟨C0, hK, hP, hD, hS, hA⟩ hZ 7 rfl (ci := 10) rfl rfl ((m_X12_digit l hl0 G ad ho rn ln dr ro lt rf th sb rd z (k + 1) hz (by omega) )) (cwV 0 hts (lw_V q420 q422 qs9 q101 q423) rfl rfl rfl (by decide +kernel) ⟨Nat.le_of_ble_eq_true rfl, Nat.le_of_ble_eq_true rfl⟩) [0, 1, 2, 3, 4, 5, 6, 7] [1, 3, 5, 7, 9, 11, 13, 15, 16] [1, 3, 5, 7, 9, 11, 13, 15, 16, 17] rfl (fun _ => rfl) (fun _ _ _ => rfl) rfl rfl rfl hl.1 rfl (Nat.le_of_ble_eq_true rfl) dX12_told_84 ⟨(Nat.le_of_ble_eq_true rfl), (Nat.le_of_ble_eq_true rfl)⟩ (fun q9 u9 ee H locs hw_3 hP hD hS => ?_) (fun r_3 u_3 H locs hw_3 hP hD hS => ?_)
    · skip
      have hP := x_subP (w' := (wX G ad ho rn ln dr ro lt rf th sb ++ [(rd, .inr (10, [.int (nI z), .int (nI (k + 1)), .ref (ad 0 0)]))]) ++ [yEc q9 ee]) (List.Sublist.append (List.sublist_append_left _ _) (List.Sublist.refl _)) hP
      have hD := x_subD (w' := (wX G ad ho rn ln dr ro lt rf th sb ++ [(rd, .inr (10, [.int (nI z), .int (nI (k + 1)), .ref (ad 0 0)]))]) ++ [yEc q9 ee]) (List.Sublist.append (List.sublist_append_left _ _) (List.Sublist.refl _)) hD
      refine hthr _ _ _ _ _ _ _ q9 (nI (k + 1)) ee ?_ hP hD hS (Nat.le_of_ble_eq_true rfl) (Nat.le_of_ble_eq_true rfl)
      obtain ⟨h8, h9⟩ := hw_3
      refine ⟨?_, ?_⟩
      · rw [ck_t hz_1, ck_f h8]
      · rw [ck_t hz_1, ck_f h8]; exact h9
    · skip
      obtain ⟨hz_3, hw_3⟩ := hw_3
      have hw_3 : (nI (dV (hC lt z (k + 1))) : Int32) = r_3 := hw_3.symm
      subst hw_3
      have hP : va_P G.1 vwCl (wX G ad ho rn ln dr ro lt rf th sb ++ [(rd, .inr (10, [.int (nI z), .int (nI ((k + 1) + 1)), .ref (ad 0 0)]))] ++ [(q_2, .inr (17, [.int 0, .int 0]))]) H := hP
      have hD : va_D A (wX G ad ho rn ln dr ro lt rf th sb ++ [(rd, .inr (10, [.int (nI z), .int (nI ((k + 1) + 1)), .ref (ad 0 0)]))] ++ [(q_2, .inr (17, [.int 0, .int 0]))]) := hD
      refine W.widen (k := 3) (n := 16) (Nat.le_of_ble_eq_true rfl) (Nat.le_of_ble_eq_true rfl) ?_
      refine x_iadd hx hb dX12_told_87 (v := nI (10 * dV (hC lt z k) + dV (hC lt z (k + 1)))) (nI_add _ _) ?_
      refine x_Iv (wN := fun _ => (wX G ad ho rn ln dr ro lt rf th sb ++ [(rd, .inr (10, [.int (nI z), .int (nI ((k + 1) + 1)), .ref (ad 0 0)]))] ++ [(q_2, .inr (17, [.int (nI k0), .int (nI (10 * dV (hC lt z k) + dV (hC lt z (k + 1))))]))])) ⟨C0, hK, hP, hD, hS, hA⟩ ((m_X20_init_X20 l G q_2 (nI k0) (nI (10 * dV (hC lt z k) + dV (hC lt z (k + 1)))))) (cwI 2 hts (lw_meth q514) rfl rfl rfl (hts _ q109) (hts _ q512) (hts _ q513) rfl (by decide +kernel) ⟨Nat.le_of_ble_eq_true rfl, Nat.le_of_ble_eq_true rfl⟩) [8] [0, 2, 4, 6, 8, 10, 12, 14, 1] rfl (fun _ => rfl) rfl rfl hl.1 rfl (Nat.le_of_ble_eq_true rfl) dX12_told_88 ⟨(Nat.le_of_ble_eq_true rfl), (Nat.le_of_ble_eq_true rfl)⟩ (fun u_4 H locs hw_4 hP hD hS => ?_)
      have hP : va_P G.1 vwCl (wX G ad ho rn ln dr ro lt rf th sb ++ [(rd, .inr (10, [.int (nI z), .int (nI ((k + 1) + 1)), .ref (ad 0 0)]))] ++ [(q_2, .inr (17, [.int (nI k0), .int (nI (10 * dV (hC lt z k) + dV (hC lt z (k + 1))))]))]) H := hP
      have hD : va_D A (wX G ad ho rn ln dr ro lt rf th sb ++ [(rd, .inr (10, [.int (nI z), .int (nI ((k + 1) + 1)), .ref (ad 0 0)]))] ++ [(q_2, .inr (17, [.int (nI k0), .int (nI (10 * dV (hC lt z k) + dV (hC lt z (k + 1))))]))]) := hD
      refine hret _ _ _ _ _ _ q_2 dX12_told_91 ?_ hP hD hS (Nat.le_of_ble_eq_true rfl) (Nat.le_of_ble_eq_true rfl)
      refine ⟨?_, ?_⟩
      · rw [ck_t hz_1, ck_t hz_3]
      · rw [ck_t hz_1, ck_t hz_3]
/-- a chain that fails fails with any end -/
theorem ck_x1 {b1 : Bool} {k1 k2 : Nat} {x : Bool × Nat} (h : (ck b1 k1 (true, k2)).1 = false) : (ck b1 k1 x).1 = false ∧ (ck b1 k1 x).2 = (ck b1 k1 (true, k2)).2 := by cases b1 <;> first | exact ⟨rfl, rfl⟩ | cases h
theorem ck_x2 {b1 b2 : Bool} {k1 k2 k3 : Nat} {x : Bool × Nat} (h : (ck b1 k1 (ck b2 k2 (true, k3))).1 = false) : (ck b1 k1 (ck b2 k2 x)).1 = false ∧ (ck b1 k1 (ck b2 k2 x)).2 = (ck b1 k1 (ck b2 k2 (true, k3))).2 := by cases b1 <;> cases b2 <;> first | exact ⟨rfl, rfl⟩ | cases h
theorem ck_x3 {b1 b2 b3 : Bool} {k1 k2 k3 k4 : Nat} {x : Bool × Nat} (h : (ck b1 k1 (ck b2 k2 (ck b3 k3 (true, k4)))).1 = false) : (ck b1 k1 (ck b2 k2 (ck b3 k3 x))).1 = false ∧ (ck b1 k1 (ck b2 k2 (ck b3 k3 x))).2 = (ck b1 k1 (ck b2 k2 (ck b3 k3 (true, k4)))).2 := by cases b1 <;> cases b2 <;> cases b3 <;> first | exact ⟨rfl, rfl⟩ | cases h
theorem ck_y1 {b1 : Bool} {k1 k2 : Nat} {x : Bool × Nat} (h : (ck b1 k1 (true, k2)).1 = true) : ck b1 k1 x = x := by cases b1 <;> first | rfl | cases h
theorem ck_y2 {b1 b2 : Bool} {k1 k2 k3 : Nat} {x : Bool × Nat} (h : (ck b1 k1 (ck b2 k2 (true, k3))).1 = true) : ck b1 k1 (ck b2 k2 x) = x := by cases b1 <;> cases b2 <;> first | rfl | cases h
theorem ck_y3 {b1 b2 b3 : Bool} {k1 k2 k3 k4 : Nat} {x : Bool × Nat} (h : (ck b1 k1 (ck b2 k2 (ck b3 k3 (true, k4)))).1 = true) : ck b1 k1 (ck b2 k2 (ck b3 k3 x)) = x := by cases b1 <;> cases b2 <;> cases b3 <;> first | rfl | cases h
set_option maxHeartbeats 4000000 in
set_option maxRecDepth 100000 in
theorem m_statement (l : Launch) (hl0 : l.stackTraces = false) (G : xG) (ad : Nat → Nat → Nat) (ho rn ln dr : Int32) (ro lt rf th sb : Nat → Int32) (rd z k : Nat) (hz : z ≤ 96) (hk9 : k < 2 ^ 28) : yCr l G yX12_statement cX12_statement 4 (some (.object "PulledFromUnder$Told")) ({ frames := 10, cells := 6, slots := 39, locals := 173 } : Room) [.ref rd] (wX G ad ho rn ln dr ro lt rf th sb ++ [(rd, .inr (10, [.int (nI z), .int (nI k), .ref (ad 0 0)]))]) (S := Nat) (SX := Int32) (fun _ => (sR lt z k).1 = true) (fun u => u) (fun u => (wX G ad ho rn ln dr ro lt rf th sb ++ [(rd, .inr (10, [.int (nI z), .int (nI (sR lt z k).2), .ref (ad 0 0)]))]) ++ [(u, tdE (ad 4) k (sT lt z k))]) (fun n _ => (sR lt z k).1 = false ∧ n = -1000 - nI (sR lt z k).2) (fun u => (wX G ad ho rn ln dr ro lt rf th sb ++ [(rd, .inr (10, [.int (nI z), .int u, .ref (ad 0 0)]))])) := by
  refine y_openr (by decide) (Nat.le_of_ble_eq_true rfl) (Or.inl ⟨_, rfl⟩) ?_
  intro p e s m args below meth c A Q ls C0 hK hZ hP hD hA hl hret hthr
  obtain ⟨hx, hb, hml, hown, hts⟩ := id C0
  have hS : va_S A s.heap s.heap [] := va_S.rf
  have hP : va_P G.1 vwCl (wX G ad ho rn ln dr ro lt rf th sb ++ [(rd, .inr (10, [.int (nI z), .int (nI k), .ref (ad 0 0)]))]) s.heap := hP
  have hD : va_D A (wX G ad ho rn ln dr ro lt rf th sb ++ [(rd, .inr (10, [.int (nI z), .int (nI k), .ref (ad 0 0)]))]) := hD
  have hl : lv_has ls 4 [(0, .ref rd)] := hl
  refine lv_aload_n hx hb dX12_statement_0 rfl (lv_at hl 0 rfl) ?_
  refine va_get (D := G.1) (ci := 10) (v := .int (nI k)) (C := RX12) (T := TX12) (N := 3) hx hb hts in_X12 hown hK.1 hP 7 rfl rfl 1 (by decide) (hts _ q370) (fun _ h9 => h9) rfl dX12_statement_1 ?_
  refine lv_istore_n (lv' := [(1, .int (nI k)), (0, .ref rd)]) hx hb dX12_statement_4 rfl hl (by decide) rfl (fun ls hl => ?_)
  refine lv_aload_n hx hb dX12_statement_5 rfl (lv_at hl 1 rfl) ?_
  refine x_Vi (wN := fun _ => (wX G ad ho rn ln dr ro lt rf th sb ++ [(rd, .inr (10, [.int (nI z), .int (nI k), .ref (ad 0 0)]))])) ⟨C0, hK, hP, hD, hS, hA⟩ 7 rfl (ci := 10) rfl rfl ((m_X12_here l G ad ho rn ln dr ro lt rf th sb rd z k hz (by omega) )) (cwV 0 hts (lw_V q386 q388 qs5 q101 q389) rfl rfl rfl (by decide +kernel) ⟨Nat.le_of_ble_eq_true rfl, Nat.le_of_ble_eq_true rfl⟩) [0, 1, 2, 3, 4, 5, 6, 7] [1, 3, 5, 7, 9, 11, 13, 15] rfl (fun _ => rfl) rfl rfl hl.1 rfl (Nat.le_of_ble_eq_true rfl) dX12_statement_6 ⟨(Nat.le_of_ble_eq_true rfl), (Nat.le_of_ble_eq_true rfl)⟩ (fun r_1 u_1 H locs hw_1 hP hD hS => ?_)
  have hw_1 : (hC lt z k : Int32) = r_1 := hw_1.symm
  subst hw_1
  refine lv_istore_n (lv' := [(2, .int (hC lt z k)), (1, .int (nI k)), (0, .ref rd)]) hx hb dX12_statement_9 rfl hl (by decide) rfl (fun ls hl => ?_)
  refine lv_aload_n hx hb dX12_statement_10 rfl (lv_at hl 2 rfl) ?_
  refine lv_iload_n hx hb dX12_statement_11 rfl (lv_at hl 0 rfl) ?_
  refine lv_bipush (v := 116) hx hb dX12_statement_12 (by decide) ?_
  refine lv_icmp_eq (tgt := 47) hx hb dX12_statement_14 (by decide) (fun c_2 => ?_) (fun c_2 => ?_)
  · skip
    refine lv_iconst (v := 1) hx hb dX12_statement_47 (by decide) ?_
    refine lv_goto (tgt := 52) hx hb dX12_statement_48 (by decide) ?_
    have eb_52 : (1 : Int32) = bI (sLt (hC lt z k)) := bI_T (decide_eq_true (by rw [c_2]; simp))
    rw [eb_52]
    refine y_Vv (wN := fun _ => (wX G ad ho rn ln dr ro lt rf th sb ++ [(rd, .inr (10, [.int (nI z), .int (nI k), .ref (ad 0 0)]))])) (wNx := fun u9 => (wX G ad ho rn ln dr ro lt rf th sb ++ [(rd, .inr (10, [.int (nI z), .int (nI k), .ref (ad 0 0)]))])) ⟨C0, hK, hP, hD, hS, hA⟩ hZ 7 rfl (ci := 10) rfl rfl ((m_X12_mustStand l hl0 G ad rd z k (sLt (hC lt z k)))) (cwV 1 hts (lw_V q390 q392 qs6 q101 q393) rfl rfl rfl (by decide +kernel) ⟨Nat.le_of_ble_eq_true rfl, Nat.le_of_ble_eq_true rfl⟩) [7] [0, 2, 4, 6, 8, 10, 12, 1] [0, 2, 4, 6, 8, 10, 12, 1, 3] rfl (fun _ => rfl) (fun _ _ _ => rfl) rfl rfl rfl hl.1 rfl (Nat.le_of_ble_eq_true rfl) dX12_statement_52 ⟨(Nat.le_of_ble_eq_true rfl), (Nat.le_of_ble_eq_true rfl)⟩ (fun q9 u9 ee H locs hw_3 hP hD hS => ?_) (fun u_3 H locs hw_3 hP hD hS => ?_)
    · skip
      refine hthr _ _ _ _ _ _ _ q9 (nI k) ee ?_ hP hD hS (Nat.le_of_ble_eq_true rfl) (Nat.le_of_ble_eq_true rfl)
      exact absurd hw_3.1 (by rw [show sLt (hC lt z k) = true from decide_eq_true (by rw [c_2]; simp)]; decide)
    · skip
      refine W.widen (k := 1) (n := 7) (Nat.le_of_ble_eq_true rfl) (Nat.le_of_ble_eq_true rfl) ?_
      rw [c_2] at hl
      refine lv_aload_n hx hb dX12_statement_55 rfl (lv_at hl 2 rfl) ?_
      refine lv_dup hx hb dX12_statement_56 rfl ?_
      refine va_get (D := G.1) (ci := 10) (v := .int (nI k)) (C := RX12) (T := TX12) (N := 3) hx hb hts in_X12 hown hK.1 hP 7 rfl rfl 1 (by decide) (hts _ q370) (fun _ h9 => h9) rfl dX12_statement_57 ?_
      refine lv_iconst (v := 1) hx hb dX12_statement_60 (by decide) ?_
      refine x_iadd hx hb dX12_statement_61 (v := nI (k + 1)) (nI_1 _) ?_
      refine va_put (D := G.1) (ci := 10) (v := .int (nI (k + 1))) (ty := .int) (C := RX12) (T := TX12) (N := 3) hx hb hts in_X12 tyX12 tyX12_ok nmX12 hown hK.1 hP hD hS 7 rfl rfl 1 (by decide) (hts _ q370) (fun _ h9 => h9) rfl (by decide +kernel) rfl rfl (Nat.le_of_ble_eq_true rfl) dX12_statement_62 (fun H locs hP hD hS => ?_)
      have hP : va_P G.1 vwCl (wX G ad ho rn ln dr ro lt rf th sb ++ [(rd, .inr (10, [.int (nI z), .int (nI (k + 1)), .ref (ad 0 0)]))]) H := hP
      have hD : va_D A (wX G ad ho rn ln dr ro lt rf th sb ++ [(rd, .inr (10, [.int (nI z), .int (nI (k + 1)), .ref (ad 0 0)]))]) := hD
      refine lv_iload_n hx hb dX12_statement_65 rfl (lv_at hl 0 rfl) ?_
      refine lv_bipush (v := 116) hx hb dX12_statement_66 (by decide) ?_
      refine lv_icmp_eq (tgt := 77) hx hb dX12_statement_68 (by decide) (fun c_4 => ?_) (fun c_4 => ?_)
      · skip
        refine lv_aload_n hx hb dX12_statement_77 rfl (lv_at hl 2 rfl) ?_
        refine lv_iload_n hx hb dX12_statement_78 rfl (lv_at hl 0 rfl) ?_
        refine lv_iload_n hx hb dX12_statement_79 rfl (lv_at hl 1 rfl) ?_
        refine y_Vr (wN := fun u_5 => (wX G ad ho rn ln dr ro lt rf th sb ++ [(rd, .inr (10, [.int (nI z), .int (nI ((k + 1) + 2)), .ref (ad 0 0)]))] ++ [(u_5, .inr (12, [.int (nI k), .int (nI (dV (hC lt z ((k + 1) + 1)))), .ref ((ad 4) (kV (hC lt z (k + 1))))]))])) (wNx := fun u9 => (wX G ad ho rn ln dr ro lt rf th sb ++ [(rd, .inr (10, [.int (nI z), .int u9, .ref (ad 0 0)]))])) ⟨C0, hK, hP, hD, hS, hA⟩ hZ 7 rfl (ci := 10) rfl rfl ((m_thing_t l hl0 G ad ho rn ln dr ro lt rf th sb rd z (k + 1) hz (by omega) k)) (cwV 2 hts (lw_V q412 q414 qs7 q101 q415) rfl rfl rfl (by decide +kernel) ⟨Nat.le_of_ble_eq_true rfl, Nat.le_of_ble_eq_true rfl⟩) [0, 1, 2, 3, 4, 5, 6, 7] [1, 3, 5, 7, 9, 11, 13, 15, 17] [1, 3, 5, 7, 9, 11, 13, 15, 17] rfl (fun _ => rfl) (fun _ _ _ => rfl) rfl rfl rfl hl.1 rfl (Nat.le_of_ble_eq_true rfl) dX12_statement_80 ⟨(Nat.le_of_ble_eq_true rfl), (Nat.le_of_ble_eq_true rfl)⟩ (fun q9 u9 ee H locs hw_5 hP hD hS => ?_) (fun u_5 H locs hw_5 hP hD hS => ?_)
        · skip
          refine hthr _ _ _ _ _ _ _ q9 u9 ee ?_ hP hD hS (Nat.le_of_ble_eq_true rfl) (Nat.le_of_ble_eq_true rfl)
          obtain ⟨h8, h9⟩ := hw_5
          obtain ⟨h6, h7⟩ := ck_x2 (x := ck (cB (hC lt z (k + 3))) (k + 3) (true, k + 4)) h8
          exact ⟨by rw [sR_t c_2]; exact h6, by rw [sR_t c_2]; exact h9.trans (congrArg (fun v => -1000 - nI v) h7.symm)⟩
        · skip
          obtain ⟨hz_5, hw_5⟩ := hw_5
          have hP : va_P G.1 vwCl (wX G ad ho rn ln dr ro lt rf th sb ++ [(rd, .inr (10, [.int (nI z), .int (nI ((k + 1) + 2)), .ref (ad 0 0)]))] ++ [(u_5, .inr (12, [.int (nI k), .int (nI (dV (hC lt z ((k + 1) + 1)))), .ref ((ad 4) (kV (hC lt z (k + 1))))]))]) H := hP
          have hD : va_D A (wX G ad ho rn ln dr ro lt rf th sb ++ [(rd, .inr (10, [.int (nI z), .int (nI ((k + 1) + 2)), .ref (ad 0 0)]))] ++ [(u_5, .inr (12, [.int (nI k), .int (nI (dV (hC lt z ((k + 1) + 1)))), .ref ((ad 4) (kV (hC lt z (k + 1))))]))]) := hD
          refine W.widen (k := 4) (n := 24) (Nat.le_of_ble_eq_true rfl) (Nat.le_of_ble_eq_true rfl) ?_
          refine lv_goto (tgt := 92) hx hb dX12_statement_83 (by decide) ?_
          refine lv_astore_n (lv' := [(3, .ref u_5), (2, .int 116), (1, .int (nI k)), (0, .ref rd)]) hx hb dX12_statement_92 rfl hl (by decide) rfl (fun ls hl => ?_)
          refine lv_aload_n hx hb dX12_statement_93 rfl (lv_at hl 3 rfl) ?_
          refine lv_bipush (v := 59) hx hb dX12_statement_94 (by decide) ?_
          refine y_Vv (wN := fun _ => (wX G ad ho rn ln dr ro lt rf th sb ++ [(rd, .inr (10, [.int (nI z), .int (nI (((k + 1) + 2) + 1)), .ref (ad 0 0)]))] ++ [(u_5, .inr (12, [.int (nI k), .int (nI (dV (hC lt z ((k + 1) + 1)))), .ref ((ad 4) (kV (hC lt z (k + 1))))]))])) (wNx := fun u9 => (wX G ad ho rn ln dr ro lt rf th sb ++ [(rd, .inr (10, [.int (nI z), .int (nI ((k + 1) + 2)), .ref (ad 0 0)]))] ++ [(u_5, .inr (12, [.int (nI k), .int (nI (dV (hC lt z ((k + 1) + 1)))), .ref ((ad 4) (kV (hC lt z (k + 1))))]))])) ⟨C0, hK, hP, hD, hS, hA⟩ hZ 7 rfl (ci := 10) rfl rfl ((m_X12_take l hl0 G ad ho rn ln dr ro lt rf th sb rd z ((k + 1) + 2) hz (by omega) 59)) (cwV 1 hts (lw_V q519 q521 qs11 q101 q522) rfl rfl rfl (by decide +kernel) ⟨Nat.le_of_ble_eq_true rfl, Nat.le_of_ble_eq_true rfl⟩) [0, 1, 2, 3, 4, 5, 6, 7] [1, 3, 5, 7, 9, 11, 13, 15, 16] [1, 3, 5, 7, 9, 11, 13, 15, 16, 17] rfl (fun _ => rfl) (fun _ _ _ => rfl) rfl rfl rfl hl.1 rfl (Nat.le_of_ble_eq_true rfl) dX12_statement_96 ⟨(Nat.le_of_ble_eq_true rfl), (Nat.le_of_ble_eq_true rfl)⟩ (fun q9 u9 ee H locs hw_6 hP hD hS => ?_) (fun u_6 H locs hw_6 hP hD hS => ?_)
          · skip
            have hP := x_subP (w' := (wX G ad ho rn ln dr ro lt rf th sb ++ [(rd, .inr (10, [.int (nI z), .int (nI ((k + 1) + 2)), .ref (ad 0 0)]))]) ++ [yEc q9 ee]) (List.Sublist.append (List.sublist_append_left _ _) (List.Sublist.refl _)) hP
            have hD := x_subD (w' := (wX G ad ho rn ln dr ro lt rf th sb ++ [(rd, .inr (10, [.int (nI z), .int (nI ((k + 1) + 2)), .ref (ad 0 0)]))]) ++ [yEc q9 ee]) (List.Sublist.append (List.sublist_append_left _ _) (List.Sublist.refl _)) hD
            refine hthr _ _ _ _ _ _ _ q9 (nI ((k + 1) + 2)) ee ?_ hP hD hS (Nat.le_of_ble_eq_true rfl) (Nat.le_of_ble_eq_true rfl)
            obtain ⟨h8, h9⟩ := hw_6
            have h8 : cB (hC lt z (k + 3)) = false := h8
            refine ⟨?_, ?_⟩
            · rw [sR_t c_2, ck_y2 hz_5, ck_f h8]
            · rw [sR_t c_2, ck_y2 hz_5, ck_f h8]; exact h9
          · skip
            have hP : va_P G.1 vwCl (wX G ad ho rn ln dr ro lt rf th sb ++ [(rd, .inr (10, [.int (nI z), .int (nI (((k + 1) + 2) + 1)), .ref (ad 0 0)]))] ++ [(u_5, .inr (12, [.int (nI k), .int (nI (dV (hC lt z ((k + 1) + 1)))), .ref ((ad 4) (kV (hC lt z (k + 1))))]))]) H := hP
            have hD : va_D A (wX G ad ho rn ln dr ro lt rf th sb ++ [(rd, .inr (10, [.int (nI z), .int (nI (((k + 1) + 2) + 1)), .ref (ad 0 0)]))] ++ [(u_5, .inr (12, [.int (nI k), .int (nI (dV (hC lt z ((k + 1) + 1)))), .ref ((ad 4) (kV (hC lt z (k + 1))))]))]) := hD
            refine W.widen (k := 5) (n := 31) (Nat.le_of_ble_eq_true rfl) (Nat.le_of_ble_eq_true rfl) ?_
            have h59 : cB (hC lt z (k + 3)) = true := hw_6
            refine lv_aload_n hx hb dX12_statement_99 rfl (lv_at hl 0 rfl) ?_
            have e7 : (sR lt z k).2 = k + 4 := by rw [sR_t c_2, ck_y2 hz_5, ck_t h59]
            have hP : va_P G.1 vwCl (wX G ad ho rn ln dr ro lt rf th sb ++ [(rd, .inr (10, [.int (nI z), .int (nI (sR lt z k).2), .ref (ad 0 0)]))] ++ [(u_5, tdE (ad 4) k (sT lt z k))]) H := by rw [e7, sT_t c_2]; exact hP
            have hD : va_D A (wX G ad ho rn ln dr ro lt rf th sb ++ [(rd, .inr (10, [.int (nI z), .int (nI (sR lt z k).2), .ref (ad 0 0)]))] ++ [(u_5, tdE (ad 4) k (sT lt z k))]) := by rw [e7, sT_t c_2]; exact hD
            refine hret _ _ _ _ _ _ u_5 dX12_statement_100 ?_ hP hD hS (Nat.le_of_ble_eq_true rfl) (Nat.le_of_ble_eq_true rfl)
            rw [sR_t c_2, ck_y2 hz_5, ck_t h59]
      · skip
        exact absurd c_4 (by decide)
  · skip
    refine lv_iload_n hx hb dX12_statement_17 rfl (lv_at hl 0 rfl) ?_
    refine lv_bipush (v := 111) hx hb dX12_statement_18 (by decide) ?_
    refine lv_icmp_eq (tgt := 47) hx hb dX12_statement_20 (by decide) (fun c_7 => ?_) (fun c_7 => ?_)
    · skip
      refine lv_iconst (v := 1) hx hb dX12_statement_47 (by decide) ?_
      refine lv_goto (tgt := 52) hx hb dX12_statement_48 (by decide) ?_
      have eb_52 : (1 : Int32) = bI (sLt (hC lt z k)) := bI_T (decide_eq_true (by rw [c_7]; simp))
      rw [eb_52]
      refine y_Vv (wN := fun _ => (wX G ad ho rn ln dr ro lt rf th sb ++ [(rd, .inr (10, [.int (nI z), .int (nI k), .ref (ad 0 0)]))])) (wNx := fun u9 => (wX G ad ho rn ln dr ro lt rf th sb ++ [(rd, .inr (10, [.int (nI z), .int (nI k), .ref (ad 0 0)]))])) ⟨C0, hK, hP, hD, hS, hA⟩ hZ 7 rfl (ci := 10) rfl rfl ((m_X12_mustStand l hl0 G ad rd z k (sLt (hC lt z k)))) (cwV 1 hts (lw_V q390 q392 qs6 q101 q393) rfl rfl rfl (by decide +kernel) ⟨Nat.le_of_ble_eq_true rfl, Nat.le_of_ble_eq_true rfl⟩) [7] [0, 2, 4, 6, 8, 10, 12, 1] [0, 2, 4, 6, 8, 10, 12, 1, 3] rfl (fun _ => rfl) (fun _ _ _ => rfl) rfl rfl rfl hl.1 rfl (Nat.le_of_ble_eq_true rfl) dX12_statement_52 ⟨(Nat.le_of_ble_eq_true rfl), (Nat.le_of_ble_eq_true rfl)⟩ (fun q9 u9 ee H locs hw_8 hP hD hS => ?_) (fun u_8 H locs hw_8 hP hD hS => ?_)
      · skip
        refine hthr _ _ _ _ _ _ _ q9 (nI k) ee ?_ hP hD hS (Nat.le_of_ble_eq_true rfl) (Nat.le_of_ble_eq_true rfl)
        exact absurd hw_8.1 (by rw [show sLt (hC lt z k) = true from decide_eq_true (by rw [c_7]; simp)]; decide)
      · skip
        refine W.widen (k := 1) (n := 7) (Nat.le_of_ble_eq_true rfl) (Nat.le_of_ble_eq_true rfl) ?_
        rw [c_7] at hl
        refine lv_aload_n hx hb dX12_statement_55 rfl (lv_at hl 2 rfl) ?_
        refine lv_dup hx hb dX12_statement_56 rfl ?_
        refine va_get (D := G.1) (ci := 10) (v := .int (nI k)) (C := RX12) (T := TX12) (N := 3) hx hb hts in_X12 hown hK.1 hP 7 rfl rfl 1 (by decide) (hts _ q370) (fun _ h9 => h9) rfl dX12_statement_57 ?_
        refine lv_iconst (v := 1) hx hb dX12_statement_60 (by decide) ?_
        refine x_iadd hx hb dX12_statement_61 (v := nI (k + 1)) (nI_1 _) ?_
        refine va_put (D := G.1) (ci := 10) (v := .int (nI (k + 1))) (ty := .int) (C := RX12) (T := TX12) (N := 3) hx hb hts in_X12 tyX12 tyX12_ok nmX12 hown hK.1 hP hD hS 7 rfl rfl 1 (by decide) (hts _ q370) (fun _ h9 => h9) rfl (by decide +kernel) rfl rfl (Nat.le_of_ble_eq_true rfl) dX12_statement_62 (fun H locs hP hD hS => ?_)
        have hP : va_P G.1 vwCl (wX G ad ho rn ln dr ro lt rf th sb ++ [(rd, .inr (10, [.int (nI z), .int (nI (k + 1)), .ref (ad 0 0)]))]) H := hP
        have hD : va_D A (wX G ad ho rn ln dr ro lt rf th sb ++ [(rd, .inr (10, [.int (nI z), .int (nI (k + 1)), .ref (ad 0 0)]))]) := hD
        refine lv_iload_n hx hb dX12_statement_65 rfl (lv_at hl 0 rfl) ?_
        refine lv_bipush (v := 116) hx hb dX12_statement_66 (by decide) ?_
        refine lv_icmp_eq (tgt := 77) hx hb dX12_statement_68 (by decide) (fun c_9 => ?_) (fun c_9 => ?_)
        · skip
          exact absurd c_9 (by decide)
        · skip
          refine lv_iload_n hx hb dX12_statement_71 rfl (lv_at hl 0 rfl) ?_
          refine lv_bipush (v := 111) hx hb dX12_statement_72 (by decide) ?_
          refine lv_icmp_ne (tgt := 86) hx hb dX12_statement_74 (by decide) (fun c_10 => ?_) (fun c_10 => ?_)
          · skip
            exact absurd c_10 (by decide)
          · skip
            refine lv_aload_n hx hb dX12_statement_77 rfl (lv_at hl 2 rfl) ?_
            refine lv_iload_n hx hb dX12_statement_78 rfl (lv_at hl 0 rfl) ?_
            refine lv_iload_n hx hb dX12_statement_79 rfl (lv_at hl 1 rfl) ?_
            refine y_Vr (wN := fun u_11 => (wX G ad ho rn ln dr ro lt rf th sb ++ [(rd, .inr (10, [.int (nI z), .int (nI ((k + 1) + 3)), .ref (ad 0 0)]))] ++ [(u_11, .inr (13, [.int (nI k), .int (nI (dV (hC lt z ((k + 1) + 1)))), .ref ((ad 4) (kV (hC lt z (k + 1)))), .int (nI (dV (hC lt z ((k + 1) + 2))))]))])) (wNx := fun u9 => (wX G ad ho rn ln dr ro lt rf th sb ++ [(rd, .inr (10, [.int (nI z), .int u9, .ref (ad 0 0)]))])) ⟨C0, hK, hP, hD, hS, hA⟩ hZ 7 rfl (ci := 10) rfl rfl ((m_thing_o l hl0 G ad ho rn ln dr ro lt rf th sb rd z (k + 1) hz (by omega) k)) (cwV 2 hts (lw_V q412 q414 qs7 q101 q415) rfl rfl rfl (by decide +kernel) ⟨Nat.le_of_ble_eq_true rfl, Nat.le_of_ble_eq_true rfl⟩) [0, 1, 2, 3, 4, 5, 6, 7] [1, 3, 5, 7, 9, 11, 13, 15, 17] [1, 3, 5, 7, 9, 11, 13, 15, 17] rfl (fun _ => rfl) (fun _ _ _ => rfl) rfl rfl rfl hl.1 rfl (Nat.le_of_ble_eq_true rfl) dX12_statement_80 ⟨(Nat.le_of_ble_eq_true rfl), (Nat.le_of_ble_eq_true rfl)⟩ (fun q9 u9 ee H locs hw_11 hP hD hS => ?_) (fun u_11 H locs hw_11 hP hD hS => ?_)
            · skip
              refine hthr _ _ _ _ _ _ _ q9 u9 ee ?_ hP hD hS (Nat.le_of_ble_eq_true rfl) (Nat.le_of_ble_eq_true rfl)
              obtain ⟨h8, h9⟩ := hw_11
              obtain ⟨h6, h7⟩ := ck_x3 (x := ck (cB (hC lt z (k + 4))) (k + 4) (true, k + 5)) h8
              exact ⟨by rw [sR_o c_7]; exact h6, by rw [sR_o c_7]; exact h9.trans (congrArg (fun v => -1000 - nI v) h7.symm)⟩
            · skip
              obtain ⟨hz_11, hw_11⟩ := hw_11
              have hP : va_P G.1 vwCl (wX G ad ho rn ln dr ro lt rf th sb ++ [(rd, .inr (10, [.int (nI z), .int (nI ((k + 1) + 3)), .ref (ad 0 0)]))] ++ [(u_11, .inr (13, [.int (nI k), .int (nI (dV (hC lt z ((k + 1) + 1)))), .ref ((ad 4) (kV (hC lt z (k + 1)))), .int (nI (dV (hC lt z ((k + 1) + 2))))]))]) H := hP
              have hD : va_D A (wX G ad ho rn ln dr ro lt rf th sb ++ [(rd, .inr (10, [.int (nI z), .int (nI ((k + 1) + 3)), .ref (ad 0 0)]))] ++ [(u_11, .inr (13, [.int (nI k), .int (nI (dV (hC lt z ((k + 1) + 1)))), .ref ((ad 4) (kV (hC lt z (k + 1)))), .int (nI (dV (hC lt z ((k + 1) + 2))))]))]) := hD
              refine W.widen (k := 5) (n := 32) (Nat.le_of_ble_eq_true rfl) (Nat.le_of_ble_eq_true rfl) ?_
              refine lv_goto (tgt := 92) hx hb dX12_statement_83 (by decide) ?_
              refine lv_astore_n (lv' := [(3, .ref u_11), (2, .int 111), (1, .int (nI k)), (0, .ref rd)]) hx hb dX12_statement_92 rfl hl (by decide) rfl (fun ls hl => ?_)
              refine lv_aload_n hx hb dX12_statement_93 rfl (lv_at hl 3 rfl) ?_
              refine lv_bipush (v := 59) hx hb dX12_statement_94 (by decide) ?_
              refine y_Vv (wN := fun _ => (wX G ad ho rn ln dr ro lt rf th sb ++ [(rd, .inr (10, [.int (nI z), .int (nI (((k + 1) + 3) + 1)), .ref (ad 0 0)]))] ++ [(u_11, .inr (13, [.int (nI k), .int (nI (dV (hC lt z ((k + 1) + 1)))), .ref ((ad 4) (kV (hC lt z (k + 1)))), .int (nI (dV (hC lt z ((k + 1) + 2))))]))])) (wNx := fun u9 => (wX G ad ho rn ln dr ro lt rf th sb ++ [(rd, .inr (10, [.int (nI z), .int (nI ((k + 1) + 3)), .ref (ad 0 0)]))] ++ [(u_11, .inr (13, [.int (nI k), .int (nI (dV (hC lt z ((k + 1) + 1)))), .ref ((ad 4) (kV (hC lt z (k + 1)))), .int (nI (dV (hC lt z ((k + 1) + 2))))]))])) ⟨C0, hK, hP, hD, hS, hA⟩ hZ 7 rfl (ci := 10) rfl rfl ((m_X12_take l hl0 G ad ho rn ln dr ro lt rf th sb rd z ((k + 1) + 3) hz (by omega) 59)) (cwV 1 hts (lw_V q519 q521 qs11 q101 q522) rfl rfl rfl (by decide +kernel) ⟨Nat.le_of_ble_eq_true rfl, Nat.le_of_ble_eq_true rfl⟩) [0, 1, 2, 3, 4, 5, 6, 7] [1, 3, 5, 7, 9, 11, 13, 15, 16] [1, 3, 5, 7, 9, 11, 13, 15, 16, 17] rfl (fun _ => rfl) (fun _ _ _ => rfl) rfl rfl rfl hl.1 rfl (Nat.le_of_ble_eq_true rfl) dX12_statement_96 ⟨(Nat.le_of_ble_eq_true rfl), (Nat.le_of_ble_eq_true rfl)⟩ (fun q9 u9 ee H locs hw_12 hP hD hS => ?_) (fun u_12 H locs hw_12 hP hD hS => ?_)
              · skip
                have hP := x_subP (w' := (wX G ad ho rn ln dr ro lt rf th sb ++ [(rd, .inr (10, [.int (nI z), .int (nI ((k + 1) + 3)), .ref (ad 0 0)]))]) ++ [yEc q9 ee]) (List.Sublist.append (List.sublist_append_left _ _) (List.Sublist.refl _)) hP
                have hD := x_subD (w' := (wX G ad ho rn ln dr ro lt rf th sb ++ [(rd, .inr (10, [.int (nI z), .int (nI ((k + 1) + 3)), .ref (ad 0 0)]))]) ++ [yEc q9 ee]) (List.Sublist.append (List.sublist_append_left _ _) (List.Sublist.refl _)) hD
                refine hthr _ _ _ _ _ _ _ q9 (nI ((k + 1) + 3)) ee ?_ hP hD hS (Nat.le_of_ble_eq_true rfl) (Nat.le_of_ble_eq_true rfl)
                obtain ⟨h8, h9⟩ := hw_12
                have h8 : cB (hC lt z (k + 4)) = false := h8
                refine ⟨?_, ?_⟩
                · rw [sR_o c_7, ck_y3 hz_11, ck_f h8]
                · rw [sR_o c_7, ck_y3 hz_11, ck_f h8]; exact h9
              · skip
                have hP : va_P G.1 vwCl (wX G ad ho rn ln dr ro lt rf th sb ++ [(rd, .inr (10, [.int (nI z), .int (nI (((k + 1) + 3) + 1)), .ref (ad 0 0)]))] ++ [(u_11, .inr (13, [.int (nI k), .int (nI (dV (hC lt z ((k + 1) + 1)))), .ref ((ad 4) (kV (hC lt z (k + 1)))), .int (nI (dV (hC lt z ((k + 1) + 2))))]))]) H := hP
                have hD : va_D A (wX G ad ho rn ln dr ro lt rf th sb ++ [(rd, .inr (10, [.int (nI z), .int (nI (((k + 1) + 3) + 1)), .ref (ad 0 0)]))] ++ [(u_11, .inr (13, [.int (nI k), .int (nI (dV (hC lt z ((k + 1) + 1)))), .ref ((ad 4) (kV (hC lt z (k + 1)))), .int (nI (dV (hC lt z ((k + 1) + 2))))]))]) := hD
                refine W.widen (k := 6) (n := 39) (Nat.le_of_ble_eq_true rfl) (Nat.le_of_ble_eq_true rfl) ?_
                have h59 : cB (hC lt z (k + 4)) = true := hw_12
                refine lv_aload_n hx hb dX12_statement_99 rfl (lv_at hl 0 rfl) ?_
                have e7 : (sR lt z k).2 = k + 5 := by rw [sR_o c_7, ck_y3 hz_11, ck_t h59]
                have hP : va_P G.1 vwCl (wX G ad ho rn ln dr ro lt rf th sb ++ [(rd, .inr (10, [.int (nI z), .int (nI (sR lt z k).2), .ref (ad 0 0)]))] ++ [(u_11, tdE (ad 4) k (sT lt z k))]) H := by rw [e7, sT_o c_7]; exact hP
                have hD : va_D A (wX G ad ho rn ln dr ro lt rf th sb ++ [(rd, .inr (10, [.int (nI z), .int (nI (sR lt z k).2), .ref (ad 0 0)]))] ++ [(u_11, tdE (ad 4) k (sT lt z k))]) := by rw [e7, sT_o c_7]; exact hD
                refine hret _ _ _ _ _ _ u_11 dX12_statement_100 ?_ hP hD hS (Nat.le_of_ble_eq_true rfl) (Nat.le_of_ble_eq_true rfl)
                rw [sR_o c_7, ck_y3 hz_11, ck_t h59]
    · skip
      refine lv_iload_n hx hb dX12_statement_23 rfl (lv_at hl 0 rfl) ?_
      refine lv_bipush (v := 112) hx hb dX12_statement_24 (by decide) ?_
      refine lv_icmp_eq (tgt := 47) hx hb dX12_statement_26 (by decide) (fun c_13 => ?_) (fun c_13 => ?_)
      · skip
        refine lv_iconst (v := 1) hx hb dX12_statement_47 (by decide) ?_
        refine lv_goto (tgt := 52) hx hb dX12_statement_48 (by decide) ?_
        have eb_52 : (1 : Int32) = bI (sLt (hC lt z k)) := bI_T (decide_eq_true (by rw [c_13]; simp))
        rw [eb_52]
        refine y_Vv (wN := fun _ => (wX G ad ho rn ln dr ro lt rf th sb ++ [(rd, .inr (10, [.int (nI z), .int (nI k), .ref (ad 0 0)]))])) (wNx := fun u9 => (wX G ad ho rn ln dr ro lt rf th sb ++ [(rd, .inr (10, [.int (nI z), .int (nI k), .ref (ad 0 0)]))])) ⟨C0, hK, hP, hD, hS, hA⟩ hZ 7 rfl (ci := 10) rfl rfl ((m_X12_mustStand l hl0 G ad rd z k (sLt (hC lt z k)))) (cwV 1 hts (lw_V q390 q392 qs6 q101 q393) rfl rfl rfl (by decide +kernel) ⟨Nat.le_of_ble_eq_true rfl, Nat.le_of_ble_eq_true rfl⟩) [7] [0, 2, 4, 6, 8, 10, 12, 1] [0, 2, 4, 6, 8, 10, 12, 1, 3] rfl (fun _ => rfl) (fun _ _ _ => rfl) rfl rfl rfl hl.1 rfl (Nat.le_of_ble_eq_true rfl) dX12_statement_52 ⟨(Nat.le_of_ble_eq_true rfl), (Nat.le_of_ble_eq_true rfl)⟩ (fun q9 u9 ee H locs hw_14 hP hD hS => ?_) (fun u_14 H locs hw_14 hP hD hS => ?_)
        · skip
          refine hthr _ _ _ _ _ _ _ q9 (nI k) ee ?_ hP hD hS (Nat.le_of_ble_eq_true rfl) (Nat.le_of_ble_eq_true rfl)
          exact absurd hw_14.1 (by rw [show sLt (hC lt z k) = true from decide_eq_true (by rw [c_13]; simp)]; decide)
        · skip
          refine W.widen (k := 1) (n := 7) (Nat.le_of_ble_eq_true rfl) (Nat.le_of_ble_eq_true rfl) ?_
          rw [c_13] at hl
          refine lv_aload_n hx hb dX12_statement_55 rfl (lv_at hl 2 rfl) ?_
          refine lv_dup hx hb dX12_statement_56 rfl ?_
          refine va_get (D := G.1) (ci := 10) (v := .int (nI k)) (C := RX12) (T := TX12) (N := 3) hx hb hts in_X12 hown hK.1 hP 7 rfl rfl 1 (by decide) (hts _ q370) (fun _ h9 => h9) rfl dX12_statement_57 ?_
          refine lv_iconst (v := 1) hx hb dX12_statement_60 (by decide) ?_
          refine x_iadd hx hb dX12_statement_61 (v := nI (k + 1)) (nI_1 _) ?_
          refine va_put (D := G.1) (ci := 10) (v := .int (nI (k + 1))) (ty := .int) (C := RX12) (T := TX12) (N := 3) hx hb hts in_X12 tyX12 tyX12_ok nmX12 hown hK.1 hP hD hS 7 rfl rfl 1 (by decide) (hts _ q370) (fun _ h9 => h9) rfl (by decide +kernel) rfl rfl (Nat.le_of_ble_eq_true rfl) dX12_statement_62 (fun H locs hP hD hS => ?_)
          have hP : va_P G.1 vwCl (wX G ad ho rn ln dr ro lt rf th sb ++ [(rd, .inr (10, [.int (nI z), .int (nI (k + 1)), .ref (ad 0 0)]))]) H := hP
          have hD : va_D A (wX G ad ho rn ln dr ro lt rf th sb ++ [(rd, .inr (10, [.int (nI z), .int (nI (k + 1)), .ref (ad 0 0)]))]) := hD
          refine lv_iload_n hx hb dX12_statement_65 rfl (lv_at hl 0 rfl) ?_
          refine lv_bipush (v := 116) hx hb dX12_statement_66 (by decide) ?_
          refine lv_icmp_eq (tgt := 77) hx hb dX12_statement_68 (by decide) (fun c_15 => ?_) (fun c_15 => ?_)
          · skip
            exact absurd c_15 (by decide)
          · skip
            refine lv_iload_n hx hb dX12_statement_71 rfl (lv_at hl 0 rfl) ?_
            refine lv_bipush (v := 111) hx hb dX12_statement_72 (by decide) ?_
            refine lv_icmp_ne (tgt := 86) hx hb dX12_statement_74 (by decide) (fun c_16 => ?_) (fun c_16 => ?_)
            · skip
              refine lv_aload_n hx hb dX12_statement_86 rfl (lv_at hl 2 rfl) ?_
              refine lv_iload_n hx hb dX12_statement_87 rfl (lv_at hl 0 rfl) ?_
              refine lv_iload_n hx hb dX12_statement_88 rfl (lv_at hl 1 rfl) ?_
              refine y_Vr (wN := fun u_17 => (wX G ad ho rn ln dr ro lt rf th sb ++ [(rd, .inr (10, [.int (nI z), .int (nI ((k + 1) + 2)), .ref (ad 0 0)]))] ++ [(u_17, .inr (14, [.int (nI k), .int (nI (dV (hC lt z (k + 1)))), .int (nI (dV (hC lt z ((k + 1) + 1))))]))])) (wNx := fun u9 => (wX G ad ho rn ln dr ro lt rf th sb ++ [(rd, .inr (10, [.int (nI z), .int u9, .ref (ad 0 0)]))])) ⟨C0, hK, hP, hD, hS, hA⟩ hZ 7 rfl (ci := 10) rfl rfl ((m_told_p l hl0 G ad ho rn ln dr ro lt rf th sb rd z (k + 1) hz (by omega) k)) (cwV 2 hts (lw_V q476 q478 qs10 q101 q479) rfl rfl rfl (by decide +kernel) ⟨Nat.le_of_ble_eq_true rfl, Nat.le_of_ble_eq_true rfl⟩) [0, 1, 2, 3, 4, 5, 6, 7] [1, 3, 5, 7, 9, 11, 13, 15, 17] [1, 3, 5, 7, 9, 11, 13, 15, 17] rfl (fun _ => rfl) (fun _ _ _ => rfl) rfl rfl rfl hl.1 rfl (Nat.le_of_ble_eq_true rfl) dX12_statement_89 ⟨(Nat.le_of_ble_eq_true rfl), (Nat.le_of_ble_eq_true rfl)⟩ (fun q9 u9 ee H locs hw_17 hP hD hS => ?_) (fun u_17 H locs hw_17 hP hD hS => ?_)
              · skip
                refine hthr _ _ _ _ _ _ _ q9 u9 ee ?_ hP hD hS (Nat.le_of_ble_eq_true rfl) (Nat.le_of_ble_eq_true rfl)
                obtain ⟨h8, h9⟩ := hw_17
                obtain ⟨h6, h7⟩ := ck_x2 (x := ck (cB (hC lt z (k + 3))) (k + 3) (true, k + 4)) h8
                exact ⟨by rw [sR_p c_13]; exact h6, by rw [sR_p c_13]; exact h9.trans (congrArg (fun v => -1000 - nI v) h7.symm)⟩
              · skip
                obtain ⟨hz_17, hw_17⟩ := hw_17
                have hP : va_P G.1 vwCl (wX G ad ho rn ln dr ro lt rf th sb ++ [(rd, .inr (10, [.int (nI z), .int (nI ((k + 1) + 2)), .ref (ad 0 0)]))] ++ [(u_17, .inr (14, [.int (nI k), .int (nI (dV (hC lt z (k + 1)))), .int (nI (dV (hC lt z ((k + 1) + 1))))]))]) H := hP
                have hD : va_D A (wX G ad ho rn ln dr ro lt rf th sb ++ [(rd, .inr (10, [.int (nI z), .int (nI ((k + 1) + 2)), .ref (ad 0 0)]))] ++ [(u_17, .inr (14, [.int (nI k), .int (nI (dV (hC lt z (k + 1)))), .int (nI (dV (hC lt z ((k + 1) + 1))))]))]) := hD
                refine W.widen (k := 4) (n := 24) (Nat.le_of_ble_eq_true rfl) (Nat.le_of_ble_eq_true rfl) ?_
                refine lv_astore_n (lv' := [(3, .ref u_17), (2, .int 112), (1, .int (nI k)), (0, .ref rd)]) hx hb dX12_statement_92 rfl hl (by decide) rfl (fun ls hl => ?_)
                refine lv_aload_n hx hb dX12_statement_93 rfl (lv_at hl 3 rfl) ?_
                refine lv_bipush (v := 59) hx hb dX12_statement_94 (by decide) ?_
                refine y_Vv (wN := fun _ => (wX G ad ho rn ln dr ro lt rf th sb ++ [(rd, .inr (10, [.int (nI z), .int (nI (((k + 1) + 2) + 1)), .ref (ad 0 0)]))] ++ [(u_17, .inr (14, [.int (nI k), .int (nI (dV (hC lt z (k + 1)))), .int (nI (dV (hC lt z ((k + 1) + 1))))]))])) (wNx := fun u9 => (wX G ad ho rn ln dr ro lt rf th sb ++ [(rd, .inr (10, [.int (nI z), .int (nI ((k + 1) + 2)), .ref (ad 0 0)]))] ++ [(u_17, .inr (14, [.int (nI k), .int (nI (dV (hC lt z (k + 1)))), .int (nI (dV (hC lt z ((k + 1) + 1))))]))])) ⟨C0, hK, hP, hD, hS, hA⟩ hZ 7 rfl (ci := 10) rfl rfl ((m_X12_take l hl0 G ad ho rn ln dr ro lt rf th sb rd z ((k + 1) + 2) hz (by omega) 59)) (cwV 1 hts (lw_V q519 q521 qs11 q101 q522) rfl rfl rfl (by decide +kernel) ⟨Nat.le_of_ble_eq_true rfl, Nat.le_of_ble_eq_true rfl⟩) [0, 1, 2, 3, 4, 5, 6, 7] [1, 3, 5, 7, 9, 11, 13, 15, 16] [1, 3, 5, 7, 9, 11, 13, 15, 16, 17] rfl (fun _ => rfl) (fun _ _ _ => rfl) rfl rfl rfl hl.1 rfl (Nat.le_of_ble_eq_true rfl) dX12_statement_96 ⟨(Nat.le_of_ble_eq_true rfl), (Nat.le_of_ble_eq_true rfl)⟩ (fun q9 u9 ee H locs hw_18 hP hD hS => ?_) (fun u_18 H locs hw_18 hP hD hS => ?_)
                · skip
                  have hP := x_subP (w' := (wX G ad ho rn ln dr ro lt rf th sb ++ [(rd, .inr (10, [.int (nI z), .int (nI ((k + 1) + 2)), .ref (ad 0 0)]))]) ++ [yEc q9 ee]) (List.Sublist.append (List.sublist_append_left _ _) (List.Sublist.refl _)) hP
                  have hD := x_subD (w' := (wX G ad ho rn ln dr ro lt rf th sb ++ [(rd, .inr (10, [.int (nI z), .int (nI ((k + 1) + 2)), .ref (ad 0 0)]))]) ++ [yEc q9 ee]) (List.Sublist.append (List.sublist_append_left _ _) (List.Sublist.refl _)) hD
                  refine hthr _ _ _ _ _ _ _ q9 (nI ((k + 1) + 2)) ee ?_ hP hD hS (Nat.le_of_ble_eq_true rfl) (Nat.le_of_ble_eq_true rfl)
                  obtain ⟨h8, h9⟩ := hw_18
                  have h8 : cB (hC lt z (k + 3)) = false := h8
                  refine ⟨?_, ?_⟩
                  · rw [sR_p c_13, ck_y2 hz_17, ck_f h8]
                  · rw [sR_p c_13, ck_y2 hz_17, ck_f h8]; exact h9
                · skip
                  have hP : va_P G.1 vwCl (wX G ad ho rn ln dr ro lt rf th sb ++ [(rd, .inr (10, [.int (nI z), .int (nI (((k + 1) + 2) + 1)), .ref (ad 0 0)]))] ++ [(u_17, .inr (14, [.int (nI k), .int (nI (dV (hC lt z (k + 1)))), .int (nI (dV (hC lt z ((k + 1) + 1))))]))]) H := hP
                  have hD : va_D A (wX G ad ho rn ln dr ro lt rf th sb ++ [(rd, .inr (10, [.int (nI z), .int (nI (((k + 1) + 2) + 1)), .ref (ad 0 0)]))] ++ [(u_17, .inr (14, [.int (nI k), .int (nI (dV (hC lt z (k + 1)))), .int (nI (dV (hC lt z ((k + 1) + 1))))]))]) := hD
                  refine W.widen (k := 5) (n := 31) (Nat.le_of_ble_eq_true rfl) (Nat.le_of_ble_eq_true rfl) ?_
                  have h59 : cB (hC lt z (k + 3)) = true := hw_18
                  refine lv_aload_n hx hb dX12_statement_99 rfl (lv_at hl 0 rfl) ?_
                  have e7 : (sR lt z k).2 = k + 4 := by rw [sR_p c_13, ck_y2 hz_17, ck_t h59]
                  have hP : va_P G.1 vwCl (wX G ad ho rn ln dr ro lt rf th sb ++ [(rd, .inr (10, [.int (nI z), .int (nI (sR lt z k).2), .ref (ad 0 0)]))] ++ [(u_17, tdE (ad 4) k (sT lt z k))]) H := by rw [e7, sT_p c_13]; exact hP
                  have hD : va_D A (wX G ad ho rn ln dr ro lt rf th sb ++ [(rd, .inr (10, [.int (nI z), .int (nI (sR lt z k).2), .ref (ad 0 0)]))] ++ [(u_17, tdE (ad 4) k (sT lt z k))]) := by rw [e7, sT_p c_13]; exact hD
                  refine hret _ _ _ _ _ _ u_17 dX12_statement_100 ?_ hP hD hS (Nat.le_of_ble_eq_true rfl) (Nat.le_of_ble_eq_true rfl)
                  rw [sR_p c_13, ck_y2 hz_17, ck_t h59]
            · skip
              exact absurd c_16 (by decide)
      · skip
        refine lv_iload_n hx hb dX12_statement_29 rfl (lv_at hl 0 rfl) ?_
        refine lv_bipush (v := 102) hx hb dX12_statement_30 (by decide) ?_
        refine lv_icmp_eq (tgt := 47) hx hb dX12_statement_32 (by decide) (fun c_19 => ?_) (fun c_19 => ?_)
        · skip
          refine lv_iconst (v := 1) hx hb dX12_statement_47 (by decide) ?_
          refine lv_goto (tgt := 52) hx hb dX12_statement_48 (by decide) ?_
          have eb_52 : (1 : Int32) = bI (sLt (hC lt z k)) := bI_T (decide_eq_true (by rw [c_19]; simp))
          rw [eb_52]
          refine y_Vv (wN := fun _ => (wX G ad ho rn ln dr ro lt rf th sb ++ [(rd, .inr (10, [.int (nI z), .int (nI k), .ref (ad 0 0)]))])) (wNx := fun u9 => (wX G ad ho rn ln dr ro lt rf th sb ++ [(rd, .inr (10, [.int (nI z), .int (nI k), .ref (ad 0 0)]))])) ⟨C0, hK, hP, hD, hS, hA⟩ hZ 7 rfl (ci := 10) rfl rfl ((m_X12_mustStand l hl0 G ad rd z k (sLt (hC lt z k)))) (cwV 1 hts (lw_V q390 q392 qs6 q101 q393) rfl rfl rfl (by decide +kernel) ⟨Nat.le_of_ble_eq_true rfl, Nat.le_of_ble_eq_true rfl⟩) [7] [0, 2, 4, 6, 8, 10, 12, 1] [0, 2, 4, 6, 8, 10, 12, 1, 3] rfl (fun _ => rfl) (fun _ _ _ => rfl) rfl rfl rfl hl.1 rfl (Nat.le_of_ble_eq_true rfl) dX12_statement_52 ⟨(Nat.le_of_ble_eq_true rfl), (Nat.le_of_ble_eq_true rfl)⟩ (fun q9 u9 ee H locs hw_20 hP hD hS => ?_) (fun u_20 H locs hw_20 hP hD hS => ?_)
          · skip
            refine hthr _ _ _ _ _ _ _ q9 (nI k) ee ?_ hP hD hS (Nat.le_of_ble_eq_true rfl) (Nat.le_of_ble_eq_true rfl)
            exact absurd hw_20.1 (by rw [show sLt (hC lt z k) = true from decide_eq_true (by rw [c_19]; simp)]; decide)
          · skip
            refine W.widen (k := 1) (n := 7) (Nat.le_of_ble_eq_true rfl) (Nat.le_of_ble_eq_true rfl) ?_
            rw [c_19] at hl
            refine lv_aload_n hx hb dX12_statement_55 rfl (lv_at hl 2 rfl) ?_
            refine lv_dup hx hb dX12_statement_56 rfl ?_
            refine va_get (D := G.1) (ci := 10) (v := .int (nI k)) (C := RX12) (T := TX12) (N := 3) hx hb hts in_X12 hown hK.1 hP 7 rfl rfl 1 (by decide) (hts _ q370) (fun _ h9 => h9) rfl dX12_statement_57 ?_
            refine lv_iconst (v := 1) hx hb dX12_statement_60 (by decide) ?_
            refine x_iadd hx hb dX12_statement_61 (v := nI (k + 1)) (nI_1 _) ?_
            refine va_put (D := G.1) (ci := 10) (v := .int (nI (k + 1))) (ty := .int) (C := RX12) (T := TX12) (N := 3) hx hb hts in_X12 tyX12 tyX12_ok nmX12 hown hK.1 hP hD hS 7 rfl rfl 1 (by decide) (hts _ q370) (fun _ h9 => h9) rfl (by decide +kernel) rfl rfl (Nat.le_of_ble_eq_true rfl) dX12_statement_62 (fun H locs hP hD hS => ?_)
            have hP : va_P G.1 vwCl (wX G ad ho rn ln dr ro lt rf th sb ++ [(rd, .inr (10, [.int (nI z), .int (nI (k + 1)), .ref (ad 0 0)]))]) H := hP
            have hD : va_D A (wX G ad ho rn ln dr ro lt rf th sb ++ [(rd, .inr (10, [.int (nI z), .int (nI (k + 1)), .ref (ad 0 0)]))]) := hD
            refine lv_iload_n hx hb dX12_statement_65 rfl (lv_at hl 0 rfl) ?_
            refine lv_bipush (v := 116) hx hb dX12_statement_66 (by decide) ?_
            refine lv_icmp_eq (tgt := 77) hx hb dX12_statement_68 (by decide) (fun c_21 => ?_) (fun c_21 => ?_)
            · skip
              exact absurd c_21 (by decide)
            · skip
              refine lv_iload_n hx hb dX12_statement_71 rfl (lv_at hl 0 rfl) ?_
              refine lv_bipush (v := 111) hx hb dX12_statement_72 (by decide) ?_
              refine lv_icmp_ne (tgt := 86) hx hb dX12_statement_74 (by decide) (fun c_22 => ?_) (fun c_22 => ?_)
              · skip
                refine lv_aload_n hx hb dX12_statement_86 rfl (lv_at hl 2 rfl) ?_
                refine lv_iload_n hx hb dX12_statement_87 rfl (lv_at hl 0 rfl) ?_
                refine lv_iload_n hx hb dX12_statement_88 rfl (lv_at hl 1 rfl) ?_
                refine y_Vr (wN := fun u_23 => (wX G ad ho rn ln dr ro lt rf th sb ++ [(rd, .inr (10, [.int (nI z), .int (nI ((k + 1) + 1)), .ref (ad 0 0)]))] ++ [(u_23, .inr (15, [.int (nI k), .int (nI (dV (hC lt z (k + 1))))]))])) (wNx := fun u9 => (wX G ad ho rn ln dr ro lt rf th sb ++ [(rd, .inr (10, [.int (nI z), .int u9, .ref (ad 0 0)]))])) ⟨C0, hK, hP, hD, hS, hA⟩ hZ 7 rfl (ci := 10) rfl rfl ((m_told_f l hl0 G ad ho rn ln dr ro lt rf th sb rd z (k + 1) hz (by omega) k)) (cwV 2 hts (lw_V q476 q478 qs10 q101 q479) rfl rfl rfl (by decide +kernel) ⟨Nat.le_of_ble_eq_true rfl, Nat.le_of_ble_eq_true rfl⟩) [0, 1, 2, 3, 4, 5, 6, 7] [1, 3, 5, 7, 9, 11, 13, 15, 17] [1, 3, 5, 7, 9, 11, 13, 15, 17] rfl (fun _ => rfl) (fun _ _ _ => rfl) rfl rfl rfl hl.1 rfl (Nat.le_of_ble_eq_true rfl) dX12_statement_89 ⟨(Nat.le_of_ble_eq_true rfl), (Nat.le_of_ble_eq_true rfl)⟩ (fun q9 u9 ee H locs hw_23 hP hD hS => ?_) (fun u_23 H locs hw_23 hP hD hS => ?_)
                · skip
                  refine hthr _ _ _ _ _ _ _ q9 u9 ee ?_ hP hD hS (Nat.le_of_ble_eq_true rfl) (Nat.le_of_ble_eq_true rfl)
                  obtain ⟨h8, h9⟩ := hw_23
                  obtain ⟨h6, h7⟩ := ck_x1 (x := ck (cB (hC lt z (k + 2))) (k + 2) (true, k + 3)) h8
                  exact ⟨by rw [sR_f c_19]; exact h6, by rw [sR_f c_19]; exact h9.trans (congrArg (fun v => -1000 - nI v) h7.symm)⟩
                · skip
                  obtain ⟨hz_23, hw_23⟩ := hw_23
                  have hP : va_P G.1 vwCl (wX G ad ho rn ln dr ro lt rf th sb ++ [(rd, .inr (10, [.int (nI z), .int (nI ((k + 1) + 1)), .ref (ad 0 0)]))] ++ [(u_23, .inr (15, [.int (nI k), .int (nI (dV (hC lt z (k + 1))))]))]) H := hP
                  have hD : va_D A (wX G ad ho rn ln dr ro lt rf th sb ++ [(rd, .inr (10, [.int (nI z), .int (nI ((k + 1) + 1)), .ref (ad 0 0)]))] ++ [(u_23, .inr (15, [.int (nI k), .int (nI (dV (hC lt z (k + 1))))]))]) := hD
                  refine W.widen (k := 3) (n := 16) (Nat.le_of_ble_eq_true rfl) (Nat.le_of_ble_eq_true rfl) ?_
                  refine lv_astore_n (lv' := [(3, .ref u_23), (2, .int 102), (1, .int (nI k)), (0, .ref rd)]) hx hb dX12_statement_92 rfl hl (by decide) rfl (fun ls hl => ?_)
                  refine lv_aload_n hx hb dX12_statement_93 rfl (lv_at hl 3 rfl) ?_
                  refine lv_bipush (v := 59) hx hb dX12_statement_94 (by decide) ?_
                  refine y_Vv (wN := fun _ => (wX G ad ho rn ln dr ro lt rf th sb ++ [(rd, .inr (10, [.int (nI z), .int (nI (((k + 1) + 1) + 1)), .ref (ad 0 0)]))] ++ [(u_23, .inr (15, [.int (nI k), .int (nI (dV (hC lt z (k + 1))))]))])) (wNx := fun u9 => (wX G ad ho rn ln dr ro lt rf th sb ++ [(rd, .inr (10, [.int (nI z), .int (nI ((k + 1) + 1)), .ref (ad 0 0)]))] ++ [(u_23, .inr (15, [.int (nI k), .int (nI (dV (hC lt z (k + 1))))]))])) ⟨C0, hK, hP, hD, hS, hA⟩ hZ 7 rfl (ci := 10) rfl rfl ((m_X12_take l hl0 G ad ho rn ln dr ro lt rf th sb rd z ((k + 1) + 1) hz (by omega) 59)) (cwV 1 hts (lw_V q519 q521 qs11 q101 q522) rfl rfl rfl (by decide +kernel) ⟨Nat.le_of_ble_eq_true rfl, Nat.le_of_ble_eq_true rfl⟩) [0, 1, 2, 3, 4, 5, 6, 7] [1, 3, 5, 7, 9, 11, 13, 15, 16] [1, 3, 5, 7, 9, 11, 13, 15, 16, 17] rfl (fun _ => rfl) (fun _ _ _ => rfl) rfl rfl rfl hl.1 rfl (Nat.le_of_ble_eq_true rfl) dX12_statement_96 ⟨(Nat.le_of_ble_eq_true rfl), (Nat.le_of_ble_eq_true rfl)⟩ (fun q9 u9 ee H locs hw_24 hP hD hS => ?_) (fun u_24 H locs hw_24 hP hD hS => ?_)
                  · skip
                    have hP := x_subP (w' := (wX G ad ho rn ln dr ro lt rf th sb ++ [(rd, .inr (10, [.int (nI z), .int (nI ((k + 1) + 1)), .ref (ad 0 0)]))]) ++ [yEc q9 ee]) (List.Sublist.append (List.sublist_append_left _ _) (List.Sublist.refl _)) hP
                    have hD := x_subD (w' := (wX G ad ho rn ln dr ro lt rf th sb ++ [(rd, .inr (10, [.int (nI z), .int (nI ((k + 1) + 1)), .ref (ad 0 0)]))]) ++ [yEc q9 ee]) (List.Sublist.append (List.sublist_append_left _ _) (List.Sublist.refl _)) hD
                    refine hthr _ _ _ _ _ _ _ q9 (nI ((k + 1) + 1)) ee ?_ hP hD hS (Nat.le_of_ble_eq_true rfl) (Nat.le_of_ble_eq_true rfl)
                    obtain ⟨h8, h9⟩ := hw_24
                    have h8 : cB (hC lt z (k + 2)) = false := h8
                    refine ⟨?_, ?_⟩
                    · rw [sR_f c_19, ck_y1 hz_23, ck_f h8]
                    · rw [sR_f c_19, ck_y1 hz_23, ck_f h8]; exact h9
                  · skip
                    have hP : va_P G.1 vwCl (wX G ad ho rn ln dr ro lt rf th sb ++ [(rd, .inr (10, [.int (nI z), .int (nI (((k + 1) + 1) + 1)), .ref (ad 0 0)]))] ++ [(u_23, .inr (15, [.int (nI k), .int (nI (dV (hC lt z (k + 1))))]))]) H := hP
                    have hD : va_D A (wX G ad ho rn ln dr ro lt rf th sb ++ [(rd, .inr (10, [.int (nI z), .int (nI (((k + 1) + 1) + 1)), .ref (ad 0 0)]))] ++ [(u_23, .inr (15, [.int (nI k), .int (nI (dV (hC lt z (k + 1))))]))]) := hD
                    refine W.widen (k := 4) (n := 23) (Nat.le_of_ble_eq_true rfl) (Nat.le_of_ble_eq_true rfl) ?_
                    have h59 : cB (hC lt z (k + 2)) = true := hw_24
                    refine lv_aload_n hx hb dX12_statement_99 rfl (lv_at hl 0 rfl) ?_
                    have e7 : (sR lt z k).2 = k + 3 := by rw [sR_f c_19, ck_y1 hz_23, ck_t h59]
                    have hP : va_P G.1 vwCl (wX G ad ho rn ln dr ro lt rf th sb ++ [(rd, .inr (10, [.int (nI z), .int (nI (sR lt z k).2), .ref (ad 0 0)]))] ++ [(u_23, tdE (ad 4) k (sT lt z k))]) H := by rw [e7, sT_f c_19]; exact hP
                    have hD : va_D A (wX G ad ho rn ln dr ro lt rf th sb ++ [(rd, .inr (10, [.int (nI z), .int (nI (sR lt z k).2), .ref (ad 0 0)]))] ++ [(u_23, tdE (ad 4) k (sT lt z k))]) := by rw [e7, sT_f c_19]; exact hD
                    refine hret _ _ _ _ _ _ u_23 dX12_statement_100 ?_ hP hD hS (Nat.le_of_ble_eq_true rfl) (Nat.le_of_ble_eq_true rfl)
                    rw [sR_f c_19, ck_y1 hz_23, ck_t h59]
              · skip
                exact absurd c_22 (by decide)
        · skip
          refine lv_iload_n hx hb dX12_statement_35 rfl (lv_at hl 0 rfl) ?_
          refine lv_bipush (v := 104) hx hb dX12_statement_36 (by decide) ?_
          refine lv_icmp_eq (tgt := 47) hx hb dX12_statement_38 (by decide) (fun c_25 => ?_) (fun c_25 => ?_)
          · skip
            refine lv_iconst (v := 1) hx hb dX12_statement_47 (by decide) ?_
            refine lv_goto (tgt := 52) hx hb dX12_statement_48 (by decide) ?_
            have eb_52 : (1 : Int32) = bI (sLt (hC lt z k)) := bI_T (decide_eq_true (by rw [c_25]; simp))
            rw [eb_52]
            refine y_Vv (wN := fun _ => (wX G ad ho rn ln dr ro lt rf th sb ++ [(rd, .inr (10, [.int (nI z), .int (nI k), .ref (ad 0 0)]))])) (wNx := fun u9 => (wX G ad ho rn ln dr ro lt rf th sb ++ [(rd, .inr (10, [.int (nI z), .int (nI k), .ref (ad 0 0)]))])) ⟨C0, hK, hP, hD, hS, hA⟩ hZ 7 rfl (ci := 10) rfl rfl ((m_X12_mustStand l hl0 G ad rd z k (sLt (hC lt z k)))) (cwV 1 hts (lw_V q390 q392 qs6 q101 q393) rfl rfl rfl (by decide +kernel) ⟨Nat.le_of_ble_eq_true rfl, Nat.le_of_ble_eq_true rfl⟩) [7] [0, 2, 4, 6, 8, 10, 12, 1] [0, 2, 4, 6, 8, 10, 12, 1, 3] rfl (fun _ => rfl) (fun _ _ _ => rfl) rfl rfl rfl hl.1 rfl (Nat.le_of_ble_eq_true rfl) dX12_statement_52 ⟨(Nat.le_of_ble_eq_true rfl), (Nat.le_of_ble_eq_true rfl)⟩ (fun q9 u9 ee H locs hw_26 hP hD hS => ?_) (fun u_26 H locs hw_26 hP hD hS => ?_)
            · skip
              refine hthr _ _ _ _ _ _ _ q9 (nI k) ee ?_ hP hD hS (Nat.le_of_ble_eq_true rfl) (Nat.le_of_ble_eq_true rfl)
              exact absurd hw_26.1 (by rw [show sLt (hC lt z k) = true from decide_eq_true (by rw [c_25]; simp)]; decide)
            · skip
              refine W.widen (k := 1) (n := 7) (Nat.le_of_ble_eq_true rfl) (Nat.le_of_ble_eq_true rfl) ?_
              rw [c_25] at hl
              refine lv_aload_n hx hb dX12_statement_55 rfl (lv_at hl 2 rfl) ?_
              refine lv_dup hx hb dX12_statement_56 rfl ?_
              refine va_get (D := G.1) (ci := 10) (v := .int (nI k)) (C := RX12) (T := TX12) (N := 3) hx hb hts in_X12 hown hK.1 hP 7 rfl rfl 1 (by decide) (hts _ q370) (fun _ h9 => h9) rfl dX12_statement_57 ?_
              refine lv_iconst (v := 1) hx hb dX12_statement_60 (by decide) ?_
              refine x_iadd hx hb dX12_statement_61 (v := nI (k + 1)) (nI_1 _) ?_
              refine va_put (D := G.1) (ci := 10) (v := .int (nI (k + 1))) (ty := .int) (C := RX12) (T := TX12) (N := 3) hx hb hts in_X12 tyX12 tyX12_ok nmX12 hown hK.1 hP hD hS 7 rfl rfl 1 (by decide) (hts _ q370) (fun _ h9 => h9) rfl (by decide +kernel) rfl rfl (Nat.le_of_ble_eq_true rfl) dX12_statement_62 (fun H locs hP hD hS => ?_)
              have hP : va_P G.1 vwCl (wX G ad ho rn ln dr ro lt rf th sb ++ [(rd, .inr (10, [.int (nI z), .int (nI (k + 1)), .ref (ad 0 0)]))]) H := hP
              have hD : va_D A (wX G ad ho rn ln dr ro lt rf th sb ++ [(rd, .inr (10, [.int (nI z), .int (nI (k + 1)), .ref (ad 0 0)]))]) := hD
              refine lv_iload_n hx hb dX12_statement_65 rfl (lv_at hl 0 rfl) ?_
              refine lv_bipush (v := 116) hx hb dX12_statement_66 (by decide) ?_
              refine lv_icmp_eq (tgt := 77) hx hb dX12_statement_68 (by decide) (fun c_27 => ?_) (fun c_27 => ?_)
              · skip
                exact absurd c_27 (by decide)
              · skip
                refine lv_iload_n hx hb dX12_statement_71 rfl (lv_at hl 0 rfl) ?_
                refine lv_bipush (v := 111) hx hb dX12_statement_72 (by decide) ?_
                refine lv_icmp_ne (tgt := 86) hx hb dX12_statement_74 (by decide) (fun c_28 => ?_) (fun c_28 => ?_)
                · skip
                  refine lv_aload_n hx hb dX12_statement_86 rfl (lv_at hl 2 rfl) ?_
                  refine lv_iload_n hx hb dX12_statement_87 rfl (lv_at hl 0 rfl) ?_
                  refine lv_iload_n hx hb dX12_statement_88 rfl (lv_at hl 1 rfl) ?_
                  refine y_Vr (wN := fun u_29 => (wX G ad ho rn ln dr ro lt rf th sb ++ [(rd, .inr (10, [.int (nI z), .int (nI ((k + 1) + 1)), .ref (ad 0 0)]))] ++ [(u_29, .inr (16, [.int (nI k), .int (nI (dV (hC lt z (k + 1))))]))])) (wNx := fun u9 => (wX G ad ho rn ln dr ro lt rf th sb ++ [(rd, .inr (10, [.int (nI z), .int u9, .ref (ad 0 0)]))])) ⟨C0, hK, hP, hD, hS, hA⟩ hZ 7 rfl (ci := 10) rfl rfl ((m_told_h l hl0 G ad ho rn ln dr ro lt rf th sb rd z (k + 1) hz (by omega) k)) (cwV 2 hts (lw_V q476 q478 qs10 q101 q479) rfl rfl rfl (by decide +kernel) ⟨Nat.le_of_ble_eq_true rfl, Nat.le_of_ble_eq_true rfl⟩) [0, 1, 2, 3, 4, 5, 6, 7] [1, 3, 5, 7, 9, 11, 13, 15, 17] [1, 3, 5, 7, 9, 11, 13, 15, 17] rfl (fun _ => rfl) (fun _ _ _ => rfl) rfl rfl rfl hl.1 rfl (Nat.le_of_ble_eq_true rfl) dX12_statement_89 ⟨(Nat.le_of_ble_eq_true rfl), (Nat.le_of_ble_eq_true rfl)⟩ (fun q9 u9 ee H locs hw_29 hP hD hS => ?_) (fun u_29 H locs hw_29 hP hD hS => ?_)
                  · skip
                    refine hthr _ _ _ _ _ _ _ q9 u9 ee ?_ hP hD hS (Nat.le_of_ble_eq_true rfl) (Nat.le_of_ble_eq_true rfl)
                    obtain ⟨h8, h9⟩ := hw_29
                    obtain ⟨h6, h7⟩ := ck_x1 (x := ck (cB (hC lt z (k + 2))) (k + 2) (true, k + 3)) h8
                    exact ⟨by rw [sR_h c_25]; exact h6, by rw [sR_h c_25]; exact h9.trans (congrArg (fun v => -1000 - nI v) h7.symm)⟩
                  · skip
                    obtain ⟨hz_29, hw_29⟩ := hw_29
                    have hP : va_P G.1 vwCl (wX G ad ho rn ln dr ro lt rf th sb ++ [(rd, .inr (10, [.int (nI z), .int (nI ((k + 1) + 1)), .ref (ad 0 0)]))] ++ [(u_29, .inr (16, [.int (nI k), .int (nI (dV (hC lt z (k + 1))))]))]) H := hP
                    have hD : va_D A (wX G ad ho rn ln dr ro lt rf th sb ++ [(rd, .inr (10, [.int (nI z), .int (nI ((k + 1) + 1)), .ref (ad 0 0)]))] ++ [(u_29, .inr (16, [.int (nI k), .int (nI (dV (hC lt z (k + 1))))]))]) := hD
                    refine W.widen (k := 3) (n := 16) (Nat.le_of_ble_eq_true rfl) (Nat.le_of_ble_eq_true rfl) ?_
                    refine lv_astore_n (lv' := [(3, .ref u_29), (2, .int 104), (1, .int (nI k)), (0, .ref rd)]) hx hb dX12_statement_92 rfl hl (by decide) rfl (fun ls hl => ?_)
                    refine lv_aload_n hx hb dX12_statement_93 rfl (lv_at hl 3 rfl) ?_
                    refine lv_bipush (v := 59) hx hb dX12_statement_94 (by decide) ?_
                    refine y_Vv (wN := fun _ => (wX G ad ho rn ln dr ro lt rf th sb ++ [(rd, .inr (10, [.int (nI z), .int (nI (((k + 1) + 1) + 1)), .ref (ad 0 0)]))] ++ [(u_29, .inr (16, [.int (nI k), .int (nI (dV (hC lt z (k + 1))))]))])) (wNx := fun u9 => (wX G ad ho rn ln dr ro lt rf th sb ++ [(rd, .inr (10, [.int (nI z), .int (nI ((k + 1) + 1)), .ref (ad 0 0)]))] ++ [(u_29, .inr (16, [.int (nI k), .int (nI (dV (hC lt z (k + 1))))]))])) ⟨C0, hK, hP, hD, hS, hA⟩ hZ 7 rfl (ci := 10) rfl rfl ((m_X12_take l hl0 G ad ho rn ln dr ro lt rf th sb rd z ((k + 1) + 1) hz (by omega) 59)) (cwV 1 hts (lw_V q519 q521 qs11 q101 q522) rfl rfl rfl (by decide +kernel) ⟨Nat.le_of_ble_eq_true rfl, Nat.le_of_ble_eq_true rfl⟩) [0, 1, 2, 3, 4, 5, 6, 7] [1, 3, 5, 7, 9, 11, 13, 15, 16] [1, 3, 5, 7, 9, 11, 13, 15, 16, 17] rfl (fun _ => rfl) (fun _ _ _ => rfl) rfl rfl rfl hl.1 rfl (Nat.le_of_ble_eq_true rfl) dX12_statement_96 ⟨(Nat.le_of_ble_eq_true rfl), (Nat.le_of_ble_eq_true rfl)⟩ (fun q9 u9 ee H locs hw_30 hP hD hS => ?_) (fun u_30 H locs hw_30 hP hD hS => ?_)
                    · skip
                      have hP := x_subP (w' := (wX G ad ho rn ln dr ro lt rf th sb ++ [(rd, .inr (10, [.int (nI z), .int (nI ((k + 1) + 1)), .ref (ad 0 0)]))]) ++ [yEc q9 ee]) (List.Sublist.append (List.sublist_append_left _ _) (List.Sublist.refl _)) hP
                      have hD := x_subD (w' := (wX G ad ho rn ln dr ro lt rf th sb ++ [(rd, .inr (10, [.int (nI z), .int (nI ((k + 1) + 1)), .ref (ad 0 0)]))]) ++ [yEc q9 ee]) (List.Sublist.append (List.sublist_append_left _ _) (List.Sublist.refl _)) hD
                      refine hthr _ _ _ _ _ _ _ q9 (nI ((k + 1) + 1)) ee ?_ hP hD hS (Nat.le_of_ble_eq_true rfl) (Nat.le_of_ble_eq_true rfl)
                      obtain ⟨h8, h9⟩ := hw_30
                      have h8 : cB (hC lt z (k + 2)) = false := h8
                      refine ⟨?_, ?_⟩
                      · rw [sR_h c_25, ck_y1 hz_29, ck_f h8]
                      · rw [sR_h c_25, ck_y1 hz_29, ck_f h8]; exact h9
                    · skip
                      have hP : va_P G.1 vwCl (wX G ad ho rn ln dr ro lt rf th sb ++ [(rd, .inr (10, [.int (nI z), .int (nI (((k + 1) + 1) + 1)), .ref (ad 0 0)]))] ++ [(u_29, .inr (16, [.int (nI k), .int (nI (dV (hC lt z (k + 1))))]))]) H := hP
                      have hD : va_D A (wX G ad ho rn ln dr ro lt rf th sb ++ [(rd, .inr (10, [.int (nI z), .int (nI (((k + 1) + 1) + 1)), .ref (ad 0 0)]))] ++ [(u_29, .inr (16, [.int (nI k), .int (nI (dV (hC lt z (k + 1))))]))]) := hD
                      refine W.widen (k := 4) (n := 23) (Nat.le_of_ble_eq_true rfl) (Nat.le_of_ble_eq_true rfl) ?_
                      have h59 : cB (hC lt z (k + 2)) = true := hw_30
                      refine lv_aload_n hx hb dX12_statement_99 rfl (lv_at hl 0 rfl) ?_
                      have e7 : (sR lt z k).2 = k + 3 := by rw [sR_h c_25, ck_y1 hz_29, ck_t h59]
                      have hP : va_P G.1 vwCl (wX G ad ho rn ln dr ro lt rf th sb ++ [(rd, .inr (10, [.int (nI z), .int (nI (sR lt z k).2), .ref (ad 0 0)]))] ++ [(u_29, tdE (ad 4) k (sT lt z k))]) H := by rw [e7, sT_h c_25]; exact hP
                      have hD : va_D A (wX G ad ho rn ln dr ro lt rf th sb ++ [(rd, .inr (10, [.int (nI z), .int (nI (sR lt z k).2), .ref (ad 0 0)]))] ++ [(u_29, tdE (ad 4) k (sT lt z k))]) := by rw [e7, sT_h c_25]; exact hD
                      refine hret _ _ _ _ _ _ u_29 dX12_statement_100 ?_ hP hD hS (Nat.le_of_ble_eq_true rfl) (Nat.le_of_ble_eq_true rfl)
                      rw [sR_h c_25, ck_y1 hz_29, ck_t h59]
                · skip
                  exact absurd c_28 (by decide)
          · skip
            refine lv_iload_n hx hb dX12_statement_41 rfl (lv_at hl 0 rfl) ?_
            refine lv_bipush (v := 109) hx hb dX12_statement_42 (by decide) ?_
            refine lv_icmp_ne (tgt := 51) hx hb dX12_statement_44 (by decide) (fun c_31 => ?_) (fun c_31 => ?_)
            · skip
              refine lv_iconst (v := 0) hx hb dX12_statement_51 (by decide) ?_
              have eb_52 : (0 : Int32) = bI (sLt (hC lt z k)) := bI_F (decide_eq_false (fun z9 => z9.elim c_2 (fun z9 => z9.elim c_7 (fun z9 => z9.elim c_13 (fun z9 => z9.elim c_19 (fun z9 => z9.elim c_25 (c_31)))))))
              rw [eb_52]
              have ef_52 : (sLt (hC lt z k)) = false := bI_0.mp eb_52.symm
              refine y_Vv (wN := fun _ => (wX G ad ho rn ln dr ro lt rf th sb ++ [(rd, .inr (10, [.int (nI z), .int (nI k), .ref (ad 0 0)]))])) (wNx := fun u9 => (wX G ad ho rn ln dr ro lt rf th sb ++ [(rd, .inr (10, [.int (nI z), .int (nI k), .ref (ad 0 0)]))])) ⟨C0, hK, hP, hD, hS, hA⟩ hZ 7 rfl (ci := 10) rfl rfl ((m_X12_mustStand l hl0 G ad rd z k (sLt (hC lt z k)))) (cwV 1 hts (lw_V q390 q392 qs6 q101 q393) rfl rfl rfl (by decide +kernel) ⟨Nat.le_of_ble_eq_true rfl, Nat.le_of_ble_eq_true rfl⟩) [7] [0, 2, 4, 6, 8, 10, 12, 1] [0, 2, 4, 6, 8, 10, 12, 1, 3] rfl (fun _ => rfl) (fun _ _ _ => rfl) rfl rfl rfl hl.1 rfl (Nat.le_of_ble_eq_true rfl) dX12_statement_52 ⟨(Nat.le_of_ble_eq_true rfl), (Nat.le_of_ble_eq_true rfl)⟩ (fun q9 u9 ee H locs hw_32 hP hD hS => ?_) (fun u_32 H locs hw_32 hP hD hS => ?_)
              · skip
                refine hthr _ _ _ _ _ _ _ q9 (nI k) ee ?_ hP hD hS (Nat.le_of_ble_eq_true rfl) (Nat.le_of_ble_eq_true rfl)
                obtain ⟨h8, h9⟩ := hw_32
                refine ⟨?_, ?_⟩
                · rw [sR_no h8]
                · rw [sR_no h8]; exact h9
              · skip
                refine W.widen (k := 1) (n := 7) (Nat.le_of_ble_eq_true rfl) (Nat.le_of_ble_eq_true rfl) ?_
                exact absurd hw_32 (by rw [ef_52]; decide)
            · skip
              refine lv_iconst (v := 1) hx hb dX12_statement_47 (by decide) ?_
              refine lv_goto (tgt := 52) hx hb dX12_statement_48 (by decide) ?_
              have eb_52 : (1 : Int32) = bI (sLt (hC lt z k)) := bI_T (decide_eq_true (by rw [c_31]; simp))
              rw [eb_52]
              refine y_Vv (wN := fun _ => (wX G ad ho rn ln dr ro lt rf th sb ++ [(rd, .inr (10, [.int (nI z), .int (nI k), .ref (ad 0 0)]))])) (wNx := fun u9 => (wX G ad ho rn ln dr ro lt rf th sb ++ [(rd, .inr (10, [.int (nI z), .int (nI k), .ref (ad 0 0)]))])) ⟨C0, hK, hP, hD, hS, hA⟩ hZ 7 rfl (ci := 10) rfl rfl ((m_X12_mustStand l hl0 G ad rd z k (sLt (hC lt z k)))) (cwV 1 hts (lw_V q390 q392 qs6 q101 q393) rfl rfl rfl (by decide +kernel) ⟨Nat.le_of_ble_eq_true rfl, Nat.le_of_ble_eq_true rfl⟩) [7] [0, 2, 4, 6, 8, 10, 12, 1] [0, 2, 4, 6, 8, 10, 12, 1, 3] rfl (fun _ => rfl) (fun _ _ _ => rfl) rfl rfl rfl hl.1 rfl (Nat.le_of_ble_eq_true rfl) dX12_statement_52 ⟨(Nat.le_of_ble_eq_true rfl), (Nat.le_of_ble_eq_true rfl)⟩ (fun q9 u9 ee H locs hw_33 hP hD hS => ?_) (fun u_33 H locs hw_33 hP hD hS => ?_)
              · skip
                refine hthr _ _ _ _ _ _ _ q9 (nI k) ee ?_ hP hD hS (Nat.le_of_ble_eq_true rfl) (Nat.le_of_ble_eq_true rfl)
                exact absurd hw_33.1 (by rw [show sLt (hC lt z k) = true from decide_eq_true (by rw [c_31]; simp)]; decide)
              · skip
                refine W.widen (k := 1) (n := 7) (Nat.le_of_ble_eq_true rfl) (Nat.le_of_ble_eq_true rfl) ?_
                rw [c_31] at hl
                refine lv_aload_n hx hb dX12_statement_55 rfl (lv_at hl 2 rfl) ?_
                refine lv_dup hx hb dX12_statement_56 rfl ?_
                refine va_get (D := G.1) (ci := 10) (v := .int (nI k)) (C := RX12) (T := TX12) (N := 3) hx hb hts in_X12 hown hK.1 hP 7 rfl rfl 1 (by decide) (hts _ q370) (fun _ h9 => h9) rfl dX12_statement_57 ?_
                refine lv_iconst (v := 1) hx hb dX12_statement_60 (by decide) ?_
                refine x_iadd hx hb dX12_statement_61 (v := nI (k + 1)) (nI_1 _) ?_
                refine va_put (D := G.1) (ci := 10) (v := .int (nI (k + 1))) (ty := .int) (C := RX12) (T := TX12) (N := 3) hx hb hts in_X12 tyX12 tyX12_ok nmX12 hown hK.1 hP hD hS 7 rfl rfl 1 (by decide) (hts _ q370) (fun _ h9 => h9) rfl (by decide +kernel) rfl rfl (Nat.le_of_ble_eq_true rfl) dX12_statement_62 (fun H locs hP hD hS => ?_)
                have hP : va_P G.1 vwCl (wX G ad ho rn ln dr ro lt rf th sb ++ [(rd, .inr (10, [.int (nI z), .int (nI (k + 1)), .ref (ad 0 0)]))]) H := hP
                have hD : va_D A (wX G ad ho rn ln dr ro lt rf th sb ++ [(rd, .inr (10, [.int (nI z), .int (nI (k + 1)), .ref (ad 0 0)]))]) := hD
                refine lv_iload_n hx hb dX12_statement_65 rfl (lv_at hl 0 rfl) ?_
                refine lv_bipush (v := 116) hx hb dX12_statement_66 (by decide) ?_
                refine lv_icmp_eq (tgt := 77) hx hb dX12_statement_68 (by decide) (fun c_34 => ?_) (fun c_34 => ?_)
                · skip
                  exact absurd c_34 (by decide)
                · skip
                  refine lv_iload_n hx hb dX12_statement_71 rfl (lv_at hl 0 rfl) ?_
                  refine lv_bipush (v := 111) hx hb dX12_statement_72 (by decide) ?_
                  refine lv_icmp_ne (tgt := 86) hx hb dX12_statement_74 (by decide) (fun c_35 => ?_) (fun c_35 => ?_)
                  · skip
                    refine lv_aload_n hx hb dX12_statement_86 rfl (lv_at hl 2 rfl) ?_
                    refine lv_iload_n hx hb dX12_statement_87 rfl (lv_at hl 0 rfl) ?_
                    refine lv_iload_n hx hb dX12_statement_88 rfl (lv_at hl 1 rfl) ?_
                    refine y_Vr (wN := fun u_36 => (wX G ad ho rn ln dr ro lt rf th sb ++ [(rd, .inr (10, [.int (nI z), .int (nI ((k + 1) + 2)), .ref (ad 0 0)]))] ++ [(u_36, .inr (17, [.int (nI k), .int (nI (10 * dV (hC lt z (k + 1)) + dV (hC lt z ((k + 1) + 1))))]))])) (wNx := fun u9 => (wX G ad ho rn ln dr ro lt rf th sb ++ [(rd, .inr (10, [.int (nI z), .int u9, .ref (ad 0 0)]))])) ⟨C0, hK, hP, hD, hS, hA⟩ hZ 7 rfl (ci := 10) rfl rfl ((m_told_m l hl0 G ad ho rn ln dr ro lt rf th sb rd z (k + 1) hz (by omega) k)) (cwV 2 hts (lw_V q476 q478 qs10 q101 q479) rfl rfl rfl (by decide +kernel) ⟨Nat.le_of_ble_eq_true rfl, Nat.le_of_ble_eq_true rfl⟩) [0, 1, 2, 3, 4, 5, 6, 7] [1, 3, 5, 7, 9, 11, 13, 15, 17] [1, 3, 5, 7, 9, 11, 13, 15, 17] rfl (fun _ => rfl) (fun _ _ _ => rfl) rfl rfl rfl hl.1 rfl (Nat.le_of_ble_eq_true rfl) dX12_statement_89 ⟨(Nat.le_of_ble_eq_true rfl), (Nat.le_of_ble_eq_true rfl)⟩ (fun q9 u9 ee H locs hw_36 hP hD hS => ?_) (fun u_36 H locs hw_36 hP hD hS => ?_)
                    · skip
                      refine hthr _ _ _ _ _ _ _ q9 u9 ee ?_ hP hD hS (Nat.le_of_ble_eq_true rfl) (Nat.le_of_ble_eq_true rfl)
                      obtain ⟨h8, h9⟩ := hw_36
                      obtain ⟨h6, h7⟩ := ck_x2 (x := ck (cB (hC lt z (k + 3))) (k + 3) (true, k + 4)) h8
                      exact ⟨by rw [sR_m c_31]; exact h6, by rw [sR_m c_31]; exact h9.trans (congrArg (fun v => -1000 - nI v) h7.symm)⟩
                    · skip
                      obtain ⟨hz_36, hw_36⟩ := hw_36
                      have hP : va_P G.1 vwCl (wX G ad ho rn ln dr ro lt rf th sb ++ [(rd, .inr (10, [.int (nI z), .int (nI ((k + 1) + 2)), .ref (ad 0 0)]))] ++ [(u_36, .inr (17, [.int (nI k), .int (nI (10 * dV (hC lt z (k + 1)) + dV (hC lt z ((k + 1) + 1))))]))]) H := hP
                      have hD : va_D A (wX G ad ho rn ln dr ro lt rf th sb ++ [(rd, .inr (10, [.int (nI z), .int (nI ((k + 1) + 2)), .ref (ad 0 0)]))] ++ [(u_36, .inr (17, [.int (nI k), .int (nI (10 * dV (hC lt z (k + 1)) + dV (hC lt z ((k + 1) + 1))))]))]) := hD
                      refine W.widen (k := 4) (n := 23) (Nat.le_of_ble_eq_true rfl) (Nat.le_of_ble_eq_true rfl) ?_
                      refine lv_astore_n (lv' := [(3, .ref u_36), (2, .int 109), (1, .int (nI k)), (0, .ref rd)]) hx hb dX12_statement_92 rfl hl (by decide) rfl (fun ls hl => ?_)
                      refine lv_aload_n hx hb dX12_statement_93 rfl (lv_at hl 3 rfl) ?_
                      refine lv_bipush (v := 59) hx hb dX12_statement_94 (by decide) ?_
                      refine y_Vv (wN := fun _ => (wX G ad ho rn ln dr ro lt rf th sb ++ [(rd, .inr (10, [.int (nI z), .int (nI (((k + 1) + 2) + 1)), .ref (ad 0 0)]))] ++ [(u_36, .inr (17, [.int (nI k), .int (nI (10 * dV (hC lt z (k + 1)) + dV (hC lt z ((k + 1) + 1))))]))])) (wNx := fun u9 => (wX G ad ho rn ln dr ro lt rf th sb ++ [(rd, .inr (10, [.int (nI z), .int (nI ((k + 1) + 2)), .ref (ad 0 0)]))] ++ [(u_36, .inr (17, [.int (nI k), .int (nI (10 * dV (hC lt z (k + 1)) + dV (hC lt z ((k + 1) + 1))))]))])) ⟨C0, hK, hP, hD, hS, hA⟩ hZ 7 rfl (ci := 10) rfl rfl ((m_X12_take l hl0 G ad ho rn ln dr ro lt rf th sb rd z ((k + 1) + 2) hz (by omega) 59)) (cwV 1 hts (lw_V q519 q521 qs11 q101 q522) rfl rfl rfl (by decide +kernel) ⟨Nat.le_of_ble_eq_true rfl, Nat.le_of_ble_eq_true rfl⟩) [0, 1, 2, 3, 4, 5, 6, 7] [1, 3, 5, 7, 9, 11, 13, 15, 16] [1, 3, 5, 7, 9, 11, 13, 15, 16, 17] rfl (fun _ => rfl) (fun _ _ _ => rfl) rfl rfl rfl hl.1 rfl (Nat.le_of_ble_eq_true rfl) dX12_statement_96 ⟨(Nat.le_of_ble_eq_true rfl), (Nat.le_of_ble_eq_true rfl)⟩ (fun q9 u9 ee H locs hw_37 hP hD hS => ?_) (fun u_37 H locs hw_37 hP hD hS => ?_)
                      · skip
                        have hP := x_subP (w' := (wX G ad ho rn ln dr ro lt rf th sb ++ [(rd, .inr (10, [.int (nI z), .int (nI ((k + 1) + 2)), .ref (ad 0 0)]))]) ++ [yEc q9 ee]) (List.Sublist.append (List.sublist_append_left _ _) (List.Sublist.refl _)) hP
                        have hD := x_subD (w' := (wX G ad ho rn ln dr ro lt rf th sb ++ [(rd, .inr (10, [.int (nI z), .int (nI ((k + 1) + 2)), .ref (ad 0 0)]))]) ++ [yEc q9 ee]) (List.Sublist.append (List.sublist_append_left _ _) (List.Sublist.refl _)) hD
                        refine hthr _ _ _ _ _ _ _ q9 (nI ((k + 1) + 2)) ee ?_ hP hD hS (Nat.le_of_ble_eq_true rfl) (Nat.le_of_ble_eq_true rfl)
                        obtain ⟨h8, h9⟩ := hw_37
                        have h8 : cB (hC lt z (k + 3)) = false := h8
                        refine ⟨?_, ?_⟩
                        · rw [sR_m c_31, ck_y2 hz_36, ck_f h8]
                        · rw [sR_m c_31, ck_y2 hz_36, ck_f h8]; exact h9
                      · skip
                        have hP : va_P G.1 vwCl (wX G ad ho rn ln dr ro lt rf th sb ++ [(rd, .inr (10, [.int (nI z), .int (nI (((k + 1) + 2) + 1)), .ref (ad 0 0)]))] ++ [(u_36, .inr (17, [.int (nI k), .int (nI (10 * dV (hC lt z (k + 1)) + dV (hC lt z ((k + 1) + 1))))]))]) H := hP
                        have hD : va_D A (wX G ad ho rn ln dr ro lt rf th sb ++ [(rd, .inr (10, [.int (nI z), .int (nI (((k + 1) + 2) + 1)), .ref (ad 0 0)]))] ++ [(u_36, .inr (17, [.int (nI k), .int (nI (10 * dV (hC lt z (k + 1)) + dV (hC lt z ((k + 1) + 1))))]))]) := hD
                        refine W.widen (k := 5) (n := 30) (Nat.le_of_ble_eq_true rfl) (Nat.le_of_ble_eq_true rfl) ?_
                        have h59 : cB (hC lt z (k + 3)) = true := hw_37
                        refine lv_aload_n hx hb dX12_statement_99 rfl (lv_at hl 0 rfl) ?_
                        have e7 : (sR lt z k).2 = k + 4 := by rw [sR_m c_31, ck_y2 hz_36, ck_t h59]
                        have hP : va_P G.1 vwCl (wX G ad ho rn ln dr ro lt rf th sb ++ [(rd, .inr (10, [.int (nI z), .int (nI (sR lt z k).2), .ref (ad 0 0)]))] ++ [(u_36, tdE (ad 4) k (sT lt z k))]) H := by rw [e7, sT_m c_31]; exact hP
                        have hD : va_D A (wX G ad ho rn ln dr ro lt rf th sb ++ [(rd, .inr (10, [.int (nI z), .int (nI (sR lt z k).2), .ref (ad 0 0)]))] ++ [(u_36, tdE (ad 4) k (sT lt z k))]) := by rw [e7, sT_m c_31]; exact hD
                        refine hret _ _ _ _ _ _ u_36 dX12_statement_100 ?_ hP hD hS (Nat.le_of_ble_eq_true rfl) (Nat.le_of_ble_eq_true rfl)
                        rw [sR_m c_31, ck_y2 hz_36, ck_t h59]
                  · skip
                    exact absurd c_35 (by decide)
set_option maxHeartbeats 4000000 in
set_option maxRecDepth 100000 in
theorem m_X12_init (l : Launch) (G : xG) (ad : Nat → Nat → Nat) (ho rn ln dr : Int32) (ro lt rf th sb : Nat → Int32) (rd : Nat) : xCv l G yX12_init cX12_init 2 none ({ frames := 1, cells := 0, slots := 0, locals := 12 } : Room) [.ref rd, .ref (ad 0 0)] (wX G ad ho rn ln dr ro lt rf th sb ++ [(rd, .inr (10, [.int 0, .int 0, .null]))]) (S := Unit) (fun _ => True) (fun _ => (wX G ad ho rn ln dr ro lt rf th sb ++ [(rd, .inr (10, [.int ln, .int 0, .ref (ad 0 0)]))])) := by
  refine x_openc (by decide) (Nat.le_of_ble_eq_true rfl) ?_
  intro p e s m args below meth c A Q ls C0 hK hP hD hA hl hin hret
  obtain ⟨hx, hb, hml, hown, hts⟩ := id C0
  have hS : va_S A s.heap s.heap [] := va_S.rf
  have hP : va_P G.1 vwCl (wX G ad ho rn ln dr ro lt rf th sb ++ [(rd, .inr (10, [.int 0, .int 0, .null]))]) s.heap := hP
  have hD : va_D A (wX G ad ho rn ln dr ro lt rf th sb ++ [(rd, .inr (10, [.int 0, .int 0, .null]))]) := hD
  have hl : lv_has ls 2 [(0, .ref rd), (1, .ref (ad 0 0))] := hl
  refine lv_aload_n hx hb dX12_init_0 rfl (lv_at hl 0 rfl) ?_
  refine lv_aload_n hx hb dX12_init_1 rfl (lv_at hl 1 rfl) ?_
  refine va_putF (D := G.1) (ci := 10) (v := .ref (ad 0 0)) (ty := (.object "PulledFromUnder")) (C := RX12) (T := TX12) (N := 3) hx hb hts in_X12 tyX12 tyX12_ok nmX12 hown hK.1 hP hD hS 7 rfl rfl 2 (by decide) (hts _ q372) (fun _ h9 => h9) rfl hin rfl (by decide +kernel) rfl rfl (Nat.le_of_ble_eq_true rfl) dX12_init_2 (fun H locs hP hD hS => ?_)
  have hP : va_P G.1 vwCl (wX G ad ho rn ln dr ro lt rf th sb ++ [(rd, .inr (10, [.int 0, .int 0, .ref (ad 0 0)]))]) H := hP
  have hD : va_D A (wX G ad ho rn ln dr ro lt rf th sb ++ [(rd, .inr (10, [.int 0, .int 0, .ref (ad 0 0)]))]) := hD
  refine lv_aload_n hx hb dX12_init_5 rfl (lv_at hl 0 rfl) ?_
  refine W.objInit hx hb hown (hts _ q367) (hts _ q118) (hts _ q119) rfl (by rw [hml]; exact hl.1) rfl dX12_init_6 (Nat.le_of_ble_eq_true rfl) (Nat.le_of_ble_eq_true rfl) ?_
  refine W.eq (g2 := F0 m 9 ls []) rfl ?_
  refine lv_aload_n hx hb dX12_init_9 rfl (lv_at hl 0 rfl) ?_
  refine lv_aload_n hx hb dX12_init_10 rfl (lv_at hl 0 rfl) ?_
  refine va_get (D := G.1) (ci := 10) (v := .ref (ad 0 0)) (C := RX12) (T := TX12) (N := 3) hx hb hts in_X12 hown hK.1 hP 7 rfl rfl 2 (by decide) (hts _ q372) (fun _ h9 => h9) rfl dX12_init_11 ?_
  refine va_getN (D := G.1) (ci := 0) (v := .int ln) (C := RX0) (T := TX0) (N := 13) hx hb hts in_X0 hown hK.1 hP 0 rfl rfl 8 (by decide) (va_Nw.use rfl (hK.2.F 19 rfl)) (fun _ h9 => h9) rfl dX12_init_14 ?_
  refine va_putF (D := G.1) (ci := 10) (v := .int ln) (ty := .int) (C := RX12) (T := TX12) (N := 3) hx hb hts in_X12 tyX12 tyX12_ok nmX12 hown hK.1 hP hD hS 7 rfl rfl 0 (by decide) (hts _ q368) (fun _ h9 => h9) rfl hin rfl (by decide +kernel) rfl rfl (Nat.le_of_ble_eq_true rfl) dX12_init_17 (fun H locs hP hD hS => ?_)
  have hP : va_P G.1 vwCl (wX G ad ho rn ln dr ro lt rf th sb ++ [(rd, .inr (10, [.int ln, .int 0, .ref (ad 0 0)]))]) H := hP
  have hD : va_D A (wX G ad ho rn ln dr ro lt rf th sb ++ [(rd, .inr (10, [.int ln, .int 0, .ref (ad 0 0)]))]) := hD
  refine hret _ _ _ _ _ _ () dX12_init_20 ?_ hP hD hS (Nat.le_of_ble_eq_true rfl) (Nat.le_of_ble_eq_true rfl)
  trivial

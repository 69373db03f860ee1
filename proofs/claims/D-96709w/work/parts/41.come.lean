/-! statements that come to a room (printed by tools/come.py) -/
set_option maxRecDepth 100000
theorem bI_n0 {b : Bool} (h : ¬ bI b = 0) : b = true := by
  cases b with
  | true => rfl
  | false => exact absurd rfl h
theorem bB_t {r : Rw} (hr : Ok r) (h : ¬ r 5 2 = 0) : bB r = true := decide_eq_true (hr.2.1.resolve_left h)
theorem bB_f {r : Rw} (h : r 5 2 = 0) : bB r = false := decide_eq_false (by rw [h]; decide)
theorem in_nI {f : Nat} (h : f ≤ 99) : inL (nI f).toInt64 1 60 = decide (1 ≤ f ∧ f ≤ 60) := by
  rw [inL_inR (a := 1) (b := 60) rfl rfl]
  unfold inR
  rw [nI_toInt (by omega)]
  simp only [decide_eq_decide]
  omega
set_option maxHeartbeats 4000000 in
set_option maxRecDepth 100000 in
theorem m_X15_isGood (l : Launch) (G : xG) (o : Nat) (x0 : Int32) (a ka : Nat → Nat) (kd : Nat → Option Nat) (r : Rw) (hr : Ok r) (hk : kOk ka kd r) (hp : r 5 3 = 0) (f1 c1 : Nat) (hf1 : f1 ≤ 9) (hc1 : c1 < 6) : xCi l G yX15_isGood cX15_isGood 2 (some .boolean) ({ frames := 0, cells := 0, slots := 0, locals := 0 } : Room) [.ref o, .ref (a 0)] ([(o, .inr (12, [.int x0, .int (nI f1), .ref (ka c1)]))] ++ wR G a kd r ++ wK ka) (S := Unit) (fun v _ => v = bI (bB r && decide (mny r < 10))) (fun _ => ([(o, .inr (12, [.int x0, .int (nI f1), .ref (ka c1)]))] ++ wR G a kd r ++ wK ka)) := by
  refine x_openi (by decide) (Nat.le_of_ble_eq_true rfl) (fun _ _ h => by rw [h]; exact bI_z _) ?_
  intro p e s m args below meth c A Q ls C0 hK hP hD hA hl hret
  obtain ⟨hx, hb, hml, hown, hts⟩ := id C0
  have hS : va_S A s.heap s.heap [] := va_S.rf
  have hP : va_P G.1 vwCl ([(o, .inr (12, [.int x0, .int (nI f1), .ref (ka c1)]))] ++ wR G a kd r ++ wK ka) s.heap := hP
  have hD : va_D A ([(o, .inr (12, [.int x0, .int (nI f1), .ref (ka c1)]))] ++ wR G a kd r ++ wK ka) := hD
  have hl : lv_has ls 2 [(0, .ref o), (1, .ref (a 0))] := hl
  have hr0 := hr.n
  have hN := hr.le
  refine lv_aload_n hx hb dX15_isGood_0 rfl (lv_at hl 1 rfl) ?_
  refine va_getN (D := G.1) (ci := 7) (v := .int (r 5 2)) (C := RX8) (T := TX8) (N := 9) hx hb hts in_X8 hown hK.1 hP 1 rfl rfl 6 (by decide) (va_Nw.use rfl (hK.2.F 11 rfl)) (fun _ h9 => h9) rfl dX15_isGood_1 ?_
  refine lv_if_eq (tgt := 20) hx hb dX15_isGood_4 (by decide) (fun c_1 => ?_) (fun c_1 => ?_)
  · skip
    refine lv_iconst (v := 0) hx hb dX15_isGood_20 (by decide) ?_
    refine hret _ _ _ _ _ _ 0 () dX15_isGood_21 ?_ hP hD hS (Nat.le_of_ble_eq_true rfl) (Nat.le_of_ble_eq_true rfl)
    exact bI_F (by rw [show (bB r) = false from bB_f c_1]; rfl)
  · skip
    refine lv_aload_n hx hb dX15_isGood_7 rfl (lv_at hl 1 rfl) ?_
    refine va_getN (D := G.1) (ci := 7) (v := .int (nI (mny r))) (C := RX8) (T := TX8) (N := 9) hx hb hts in_X8 hown hK.1 hP 1 rfl rfl 0 (by decide) (va_Nw.use rfl (hK.2.F 3 rfl)) (fun _ h9 => h9) (x_some hr0) dX15_isGood_8 ?_
    refine lv_bipush (v := 10) hx hb dX15_isGood_11 (by decide) ?_
    refine lv_icmp_ge (tgt := 20) hx hb dX15_isGood_13 (by decide) (fun c_2 => ?_) (fun c_2 => ?_)
    · skip
      have g_2 := (nI_leI (by omega) (by omega)).mp (show nI (mny r) ≥ nI 10 from c_2)
      refine lv_iconst (v := 0) hx hb dX15_isGood_20 (by decide) ?_
      refine hret _ _ _ _ _ _ 0 () dX15_isGood_21 ?_ hP hD hS (Nat.le_of_ble_eq_true rfl) (Nat.le_of_ble_eq_true rfl)
      exact bI_F (by rw [show (bB r) = true from bB_t hr c_1, show (decide (mny r < 10)) = false from decide_eq_false (by omega)]; rfl)
    · skip
      have g_2 := mt (nI_leI (by omega) (by omega)).mpr (show ¬ (nI (mny r) ≥ nI 10) from c_2)
      refine lv_iconst (v := 1) hx hb dX15_isGood_16 (by decide) ?_
      refine lv_goto (tgt := 21) hx hb dX15_isGood_17 (by decide) ?_
      refine hret _ _ _ _ _ _ 1 () dX15_isGood_21 ?_ hP hD hS (Nat.le_of_ble_eq_true rfl) (Nat.le_of_ble_eq_true rfl)
      exact bI_T (by rw [show (bB r) = true from bB_t hr c_1, show (decide (mny r < 10)) = true from decide_eq_true (by omega)]; rfl)
set_option maxHeartbeats 4000000 in
set_option maxRecDepth 100000 in
theorem m_X16_isGood (l : Launch) (G : xG) (o : Nat) (x0 : Int32) (a ka : Nat → Nat) (kd : Nat → Option Nat) (r : Rw) (hr : Ok r) (hk : kOk ka kd r) (hp : r 5 3 = 0) (f1 c1 u1 : Nat) (hf1 : f1 ≤ 9) (hc1 : c1 < 6) (hu1 : u1 ≤ 9) : xCi l G yX16_isGood cX16_isGood 2 (some .boolean) ({ frames := 1, cells := 0, slots := 0, locals := 21 } : Room) [.ref o, .ref (a 0)] ([(o, .inr (13, [.int x0, .int (nI f1), .ref (ka c1), .int (nI u1)]))] ++ wR G a kd r ++ wK ka) (S := Unit) (fun v _ => v = bI (decide (u1 < mny r) && pSt r u1 && decide (mny r < 10))) (fun _ => ([(o, .inr (13, [.int x0, .int (nI f1), .ref (ka c1), .int (nI u1)]))] ++ wR G a kd r ++ wK ka)) := by
  refine x_openi (by decide) (Nat.le_of_ble_eq_true rfl) (fun _ _ h => by rw [h]; exact bI_z _) ?_
  intro p e s m args below meth c A Q ls C0 hK hP hD hA hl hret
  obtain ⟨hx, hb, hml, hown, hts⟩ := id C0
  have hS : va_S A s.heap s.heap [] := va_S.rf
  have hP : va_P G.1 vwCl ([(o, .inr (13, [.int x0, .int (nI f1), .ref (ka c1), .int (nI u1)]))] ++ wR G a kd r ++ wK ka) s.heap := hP
  have hD : va_D A ([(o, .inr (13, [.int x0, .int (nI f1), .ref (ka c1), .int (nI u1)]))] ++ wR G a kd r ++ wK ka) := hD
  have hl : lv_has ls 2 [(0, .ref o), (1, .ref (a 0))] := hl
  have hr0 := hr.n
  have hN := hr.le
  refine lv_aload_n hx hb dX16_isGood_0 rfl (lv_at hl 0 rfl) ?_
  refine va_get (D := G.1) (ci := 13) (v := .int (nI u1)) (C := RX16) (T := TX16) (N := 4) hx hb hts in_X16 hown hK.1 hP 0 rfl rfl 3 (by decide) (hts _ q469) (fun _ h9 => h9) rfl dX16_isGood_1 ?_
  refine lv_aload_n hx hb dX16_isGood_4 rfl (lv_at hl 1 rfl) ?_
  refine va_getN (D := G.1) (ci := 7) (v := .int (nI (mny r))) (C := RX8) (T := TX8) (N := 9) hx hb hts in_X8 hown hK.1 hP 1 rfl rfl 0 (by decide) (va_Nw.use rfl (hK.2.F 0 rfl)) (fun _ h9 => h9) (x_some hr0) dX16_isGood_5 ?_
  refine lv_icmp_ge (tgt := 35) hx hb dX16_isGood_8 (by decide) (fun c_1 => ?_) (fun c_1 => ?_)
  · skip
    have g_1 := (nI_leI (by omega) (by omega)).mp c_1
    refine lv_iconst (v := 0) hx hb dX16_isGood_35 (by decide) ?_
    refine hret _ _ _ _ _ _ 0 () dX16_isGood_36 ?_ hP hD hS (Nat.le_of_ble_eq_true rfl) (Nat.le_of_ble_eq_true rfl)
    exact bI_F (by rw [show (decide (u1 < mny r)) = false from decide_eq_false (by omega)]; rfl)
  · skip
    have g_1 := mt (nI_leI (by omega) (by omega)).mpr c_1
    refine lv_aload_n hx hb dX16_isGood_11 rfl (lv_at hl 1 rfl) ?_
    refine lv_aload_n hx hb dX16_isGood_12 rfl (lv_at hl 0 rfl) ?_
    refine va_get (D := G.1) (ci := 13) (v := .int (nI u1)) (C := RX16) (T := TX16) (N := 4) hx hb hts in_X16 hown hK.1 hP 0 rfl rfl 3 (by decide) (hts _ q469) (fun _ h9 => h9) rfl dX16_isGood_13 ?_
    refine x_Vi (wN := fun _ => ([(o, .inr (13, [.int x0, .int (nI f1), .ref (ka c1), .int (nI u1)]))] ++ wR G a kd r ++ wK ka)) ⟨C0, hK, hP, hD, hS, hA⟩ 1 rfl (ci := 7) rfl rfl ((m_isStanding l G a ka kd r hr hk u1 (by omega))) (cwV 1 hts (lw_V q557 q558 q559 q94 q560) rfl rfl rfl (by decide +kernel) ⟨Nat.le_of_ble_eq_true rfl, Nat.le_of_ble_eq_true rfl⟩) [1, 2, 3, 4, 5, 6, 7, 8, 9, 10, 11, 12] [0, 1, 3, 5, 7, 9, 11, 13, 15, 17, 19, 21, 23] rfl (fun _ => rfl) rfl rfl hl.1 rfl (Nat.le_of_ble_eq_true rfl) dX16_isGood_16 ⟨(Nat.le_of_ble_eq_true rfl), (Nat.le_of_ble_eq_true rfl)⟩ (fun r_2 u_2 H locs hw_2 hP hD hS => ?_)
    have hw_2 : (bI (pSt r u1) : Int32) = r_2 := hw_2.symm
    subst hw_2
    refine lv_if_eq (tgt := 35) hx hb dX16_isGood_19 (by decide) (fun c_3 => ?_) (fun c_3 => ?_)
    · skip
      refine lv_iconst (v := 0) hx hb dX16_isGood_35 (by decide) ?_
      refine hret _ _ _ _ _ _ 0 () dX16_isGood_36 ?_ hP hD hS (Nat.le_of_ble_eq_true rfl) (Nat.le_of_ble_eq_true rfl)
      exact bI_F (by rw [show (decide (u1 < mny r)) = true from decide_eq_true (by omega), show (pSt r u1) = false from by have h9 := c_3; simpa [bI_0] using h9]; rfl)
    · skip
      refine lv_aload_n hx hb dX16_isGood_22 rfl (lv_at hl 1 rfl) ?_
      refine va_getN (D := G.1) (ci := 7) (v := .int (nI (mny r))) (C := RX8) (T := TX8) (N := 9) hx hb hts in_X8 hown hK.1 hP 1 rfl rfl 0 (by decide) (va_Nw.use rfl (hK.2.F 0 rfl)) (fun _ h9 => h9) (x_some hr0) dX16_isGood_23 ?_
      refine lv_bipush (v := 10) hx hb dX16_isGood_26 (by decide) ?_
      refine lv_icmp_ge (tgt := 35) hx hb dX16_isGood_28 (by decide) (fun c_4 => ?_) (fun c_4 => ?_)
      · skip
        have g_4 := (nI_leI (by omega) (by omega)).mp (show nI (mny r) ≥ nI 10 from c_4)
        refine lv_iconst (v := 0) hx hb dX16_isGood_35 (by decide) ?_
        refine hret _ _ _ _ _ _ 0 () dX16_isGood_36 ?_ hP hD hS (Nat.le_of_ble_eq_true rfl) (Nat.le_of_ble_eq_true rfl)
        exact bI_F (by rw [show (decide (u1 < mny r)) = true from decide_eq_true (by omega), show (pSt r u1) = true from by have h9 := c_3; simpa [bI_0] using h9, show (decide (mny r < 10)) = false from decide_eq_false (by omega)]; rfl)
      · skip
        have g_4 := mt (nI_leI (by omega) (by omega)).mpr (show ¬ (nI (mny r) ≥ nI 10) from c_4)
        refine lv_iconst (v := 1) hx hb dX16_isGood_31 (by decide) ?_
        refine lv_goto (tgt := 36) hx hb dX16_isGood_32 (by decide) ?_
        refine hret _ _ _ _ _ _ 1 () dX16_isGood_36 ?_ hP hD hS (Nat.le_of_ble_eq_true rfl) (Nat.le_of_ble_eq_true rfl)
        exact bI_T (by rw [show (decide (u1 < mny r)) = true from decide_eq_true (by omega), show (pSt r u1) = true from by have h9 := c_3; simpa [bI_0] using h9, show (decide (mny r < 10)) = true from decide_eq_true (by omega)]; rfl)
set_option maxHeartbeats 4000000 in
set_option maxRecDepth 100000 in
theorem m_X17_isGood (l : Launch) (G : xG) (o : Nat) (x0 : Int32) (a ka : Nat → Nat) (kd : Nat → Option Nat) (r : Rw) (hr : Ok r) (hk : kOk ka kd r) (hp : r 5 3 = 0) (f1 u1 : Nat) (hf1 : f1 ≤ 9) : xCi l G yX17_isGood cX17_isGood 2 (some .boolean) ({ frames := 1, cells := 0, slots := 0, locals := 21 } : Room) [.ref o, .ref (a 0)] ([(o, .inr (14, [.int x0, .int (nI f1), .int (nI u1)]))] ++ wR G a kd r ++ wK ka) (S := Unit) (fun v _ => v = bI (decide (f1 < mny r) && pSt r f1)) (fun _ => ([(o, .inr (14, [.int x0, .int (nI f1), .int (nI u1)]))] ++ wR G a kd r ++ wK ka)) := by
  refine x_openi (by decide) (Nat.le_of_ble_eq_true rfl) (fun _ _ h => by rw [h]; exact bI_z _) ?_
  intro p e s m args below meth c A Q ls C0 hK hP hD hA hl hret
  obtain ⟨hx, hb, hml, hown, hts⟩ := id C0
  have hS : va_S A s.heap s.heap [] := va_S.rf
  have hP : va_P G.1 vwCl ([(o, .inr (14, [.int x0, .int (nI f1), .int (nI u1)]))] ++ wR G a kd r ++ wK ka) s.heap := hP
  have hD : va_D A ([(o, .inr (14, [.int x0, .int (nI f1), .int (nI u1)]))] ++ wR G a kd r ++ wK ka) := hD
  have hl : lv_has ls 2 [(0, .ref o), (1, .ref (a 0))] := hl
  have hr0 := hr.n
  have hN := hr.le
  refine lv_aload_n hx hb dX17_isGood_0 rfl (lv_at hl 0 rfl) ?_
  refine va_get (D := G.1) (ci := 14) (v := .int (nI f1)) (C := RX17) (T := TX17) (N := 3) hx hb hts in_X17 hown hK.1 hP 0 rfl rfl 1 (by decide) (hts _ q446) (u_same (hts _ q447)) rfl dX17_isGood_1 ?_
  refine lv_aload_n hx hb dX17_isGood_4 rfl (lv_at hl 1 rfl) ?_
  refine va_getN (D := G.1) (ci := 7) (v := .int (nI (mny r))) (C := RX8) (T := TX8) (N := 9) hx hb hts in_X8 hown hK.1 hP 1 rfl rfl 0 (by decide) (va_Nw.use rfl (hK.2.F 1 rfl)) (fun _ h9 => h9) (x_some hr0) dX17_isGood_5 ?_
  refine lv_icmp_ge (tgt := 26) hx hb dX17_isGood_8 (by decide) (fun c_1 => ?_) (fun c_1 => ?_)
  · skip
    have g_1 := (nI_leI (by omega) (by omega)).mp c_1
    refine lv_iconst (v := 0) hx hb dX17_isGood_26 (by decide) ?_
    refine hret _ _ _ _ _ _ 0 () dX17_isGood_27 ?_ hP hD hS (Nat.le_of_ble_eq_true rfl) (Nat.le_of_ble_eq_true rfl)
    exact bI_F (by rw [show (decide (f1 < mny r)) = false from decide_eq_false (by omega)]; rfl)
  · skip
    have g_1 := mt (nI_leI (by omega) (by omega)).mpr c_1
    refine lv_aload_n hx hb dX17_isGood_11 rfl (lv_at hl 1 rfl) ?_
    refine lv_aload_n hx hb dX17_isGood_12 rfl (lv_at hl 0 rfl) ?_
    refine va_get (D := G.1) (ci := 14) (v := .int (nI f1)) (C := RX17) (T := TX17) (N := 3) hx hb hts in_X17 hown hK.1 hP 0 rfl rfl 1 (by decide) (hts _ q446) (u_same (hts _ q447)) rfl dX17_isGood_13 ?_
    refine x_Vi (wN := fun _ => ([(o, .inr (14, [.int x0, .int (nI f1), .int (nI u1)]))] ++ wR G a kd r ++ wK ka)) ⟨C0, hK, hP, hD, hS, hA⟩ 1 rfl (ci := 7) rfl rfl ((m_isStanding l G a ka kd r hr hk f1 (by omega))) (cwV 1 hts (lw_V q564 q558 q559 q94 q560) rfl rfl rfl (by decide +kernel) ⟨Nat.le_of_ble_eq_true rfl, Nat.le_of_ble_eq_true rfl⟩) [1, 2, 3, 4, 5, 6, 7, 8, 9, 10, 11, 12] [0, 1, 3, 5, 7, 9, 11, 13, 15, 17, 19, 21, 23] rfl (fun _ => rfl) rfl rfl hl.1 rfl (Nat.le_of_ble_eq_true rfl) dX17_isGood_16 ⟨(Nat.le_of_ble_eq_true rfl), (Nat.le_of_ble_eq_true rfl)⟩ (fun r_2 u_2 H locs hw_2 hP hD hS => ?_)
    have hw_2 : (bI (pSt r f1) : Int32) = r_2 := hw_2.symm
    subst hw_2
    refine lv_if_eq (tgt := 26) hx hb dX17_isGood_19 (by decide) (fun c_3 => ?_) (fun c_3 => ?_)
    · skip
      refine lv_iconst (v := 0) hx hb dX17_isGood_26 (by decide) ?_
      refine hret _ _ _ _ _ _ 0 () dX17_isGood_27 ?_ hP hD hS (Nat.le_of_ble_eq_true rfl) (Nat.le_of_ble_eq_true rfl)
      exact bI_F (by rw [show (decide (f1 < mny r)) = true from decide_eq_true (by omega), show (pSt r f1) = false from by have h9 := c_3; simpa [bI_0] using h9]; rfl)
    · skip
      refine lv_iconst (v := 1) hx hb dX17_isGood_22 (by decide) ?_
      refine lv_goto (tgt := 27) hx hb dX17_isGood_23 (by decide) ?_
      refine hret _ _ _ _ _ _ 1 () dX17_isGood_27 ?_ hP hD hS (Nat.le_of_ble_eq_true rfl) (Nat.le_of_ble_eq_true rfl)
      exact bI_T (by rw [show (decide (f1 < mny r)) = true from decide_eq_true (by omega), show (pSt r f1) = true from by have h9 := c_3; simpa [bI_0] using h9]; rfl)
set_option maxHeartbeats 4000000 in
set_option maxRecDepth 100000 in
theorem m_X18_isGood (l : Launch) (G : xG) (o : Nat) (x0 : Int32) (a ka : Nat → Nat) (kd : Nat → Option Nat) (r : Rw) (hr : Ok r) (hk : kOk ka kd r) (hp : r 5 3 = 0) (f1 : Nat) (hf1 : f1 ≤ 9) : xCi l G yX18_isGood cX18_isGood 2 (some .boolean) ({ frames := 0, cells := 0, slots := 0, locals := 0 } : Room) [.ref o, .ref (a 0)] ([(o, .inr (15, [.int x0, .int (nI f1)]))] ++ wR G a kd r ++ wK ka) (S := Unit) (fun v _ => v = bI (bB r)) (fun _ => ([(o, .inr (15, [.int x0, .int (nI f1)]))] ++ wR G a kd r ++ wK ka)) := by
  refine x_openi (by decide) (Nat.le_of_ble_eq_true rfl) (fun _ _ h => by rw [h]; exact bI_z _) ?_
  intro p e s m args below meth c A Q ls C0 hK hP hD hA hl hret
  obtain ⟨hx, hb, hml, hown, hts⟩ := id C0
  have hS : va_S A s.heap s.heap [] := va_S.rf
  have hP : va_P G.1 vwCl ([(o, .inr (15, [.int x0, .int (nI f1)]))] ++ wR G a kd r ++ wK ka) s.heap := hP
  have hD : va_D A ([(o, .inr (15, [.int x0, .int (nI f1)]))] ++ wR G a kd r ++ wK ka) := hD
  have hl : lv_has ls 2 [(0, .ref o), (1, .ref (a 0))] := hl
  have hr0 := hr.n
  have hN := hr.le
  refine lv_aload_n hx hb dX18_isGood_0 rfl (lv_at hl 1 rfl) ?_
  refine va_getN (D := G.1) (ci := 7) (v := .int (r 5 2)) (C := RX8) (T := TX8) (N := 9) hx hb hts in_X8 hown hK.1 hP 1 rfl rfl 6 (by decide) (va_Nw.use rfl (hK.2.F 12 rfl)) (fun _ h9 => h9) rfl dX18_isGood_1 ?_
  refine hret _ _ _ _ _ _ (r 5 2) () dX18_isGood_4 ?_ hP hD hS (Nat.le_of_ble_eq_true rfl) (Nat.le_of_ble_eq_true rfl)
  exact hr.fl
set_option maxHeartbeats 4000000 in
set_option maxRecDepth 100000 in
theorem m_X19_isGood (l : Launch) (G : xG) (o : Nat) (x0 : Int32) (a ka : Nat → Nat) (kd : Nat → Option Nat) (r : Rw) (hr : Ok r) (hk : kOk ka kd r) (hp : r 5 3 = 0) (f1 : Nat) (hf1 : f1 ≤ 9) : xCi l G yX19_isGood cX19_isGood 2 (some .boolean) ({ frames := 0, cells := 0, slots := 0, locals := 0 } : Room) [.ref o, .ref (a 0)] ([(o, .inr (16, [.int x0, .int (nI f1)]))] ++ wR G a kd r ++ wK ka) (S := Unit) (fun v _ => v = bI (decide (f1 < mny r) && decide (r 3 f1 ≠ 2))) (fun _ => ([(o, .inr (16, [.int x0, .int (nI f1)]))] ++ wR G a kd r ++ wK ka)) := by
  refine x_openi (by decide) (Nat.le_of_ble_eq_true rfl) (fun _ _ h => by rw [h]; exact bI_z _) ?_
  intro p e s m args below meth c A Q ls C0 hK hP hD hA hl hret
  obtain ⟨hx, hb, hml, hown, hts⟩ := id C0
  have hS : va_S A s.heap s.heap [] := va_S.rf
  have hP : va_P G.1 vwCl ([(o, .inr (16, [.int x0, .int (nI f1)]))] ++ wR G a kd r ++ wK ka) s.heap := hP
  have hD : va_D A ([(o, .inr (16, [.int x0, .int (nI f1)]))] ++ wR G a kd r ++ wK ka) := hD
  have hl : lv_has ls 2 [(0, .ref o), (1, .ref (a 0))] := hl
  have hr0 := hr.n
  have hN := hr.le
  refine lv_aload_n hx hb dX19_isGood_0 rfl (lv_at hl 0 rfl) ?_
  refine va_get (D := G.1) (ci := 16) (v := .int (nI f1)) (C := RX19) (T := TX19) (N := 2) hx hb hts in_X19 hown hK.1 hP 0 rfl rfl 1 (by decide) (hts _ q448) (u_same (hts _ q449)) rfl dX19_isGood_1 ?_
  refine lv_aload_n hx hb dX19_isGood_4 rfl (lv_at hl 1 rfl) ?_
  refine va_getN (D := G.1) (ci := 7) (v := .int (nI (mny r))) (C := RX8) (T := TX8) (N := 9) hx hb hts in_X8 hown hK.1 hP 1 rfl rfl 0 (by decide) (va_Nw.use rfl (hK.2.F 2 rfl)) (fun _ h9 => h9) (x_some hr0) dX19_isGood_5 ?_
  refine lv_icmp_ge (tgt := 28) hx hb dX19_isGood_8 (by decide) (fun c_1 => ?_) (fun c_1 => ?_)
  · skip
    have g_1 := (nI_leI (by omega) (by omega)).mp c_1
    refine lv_iconst (v := 0) hx hb dX19_isGood_28 (by decide) ?_
    refine hret _ _ _ _ _ _ 0 () dX19_isGood_29 ?_ hP hD hS (Nat.le_of_ble_eq_true rfl) (Nat.le_of_ble_eq_true rfl)
    exact bI_F (by rw [show (decide (f1 < mny r)) = false from decide_eq_false (by omega)]; rfl)
  · skip
    have g_1 := mt (nI_leI (by omega) (by omega)).mpr c_1
    refine lv_aload_n hx hb dX19_isGood_11 rfl (lv_at hl 1 rfl) ?_
    refine va_getN (D := G.1) (ci := 7) (v := .ref (a 4)) (C := RX8) (T := TX8) (N := 9) hx hb hts in_X8 hown hK.1 hP 1 rfl rfl 4 (by decide) (va_Nw.use rfl (hK.2.F 8 rfl)) (fun _ h9 => h9) rfl dX19_isGood_12 ?_
    refine lv_aload_n hx hb dX19_isGood_15 rfl (lv_at hl 0 rfl) ?_
    refine va_get (D := G.1) (ci := 16) (v := .int (nI f1)) (C := RX19) (T := TX19) (N := 2) hx hb hts in_X19 hown hK.1 hP 0 rfl rfl 1 (by decide) (hts _ q448) (u_same (hts _ q449)) rfl dX19_isGood_16 ?_
    refine x_ialdn (k := f1) hx hb hK.1 hP 5 0 rfl rfl (by omega) (by decide) (v := (r 3) f1) rfl dX19_isGood_19 ?_
    refine lv_iconst (v := 2) hx hb dX19_isGood_20 (by decide) ?_
    refine lv_icmp_eq (tgt := 28) hx hb dX19_isGood_21 (by decide) (fun c_2 => ?_) (fun c_2 => ?_)
    · skip
      refine lv_iconst (v := 0) hx hb dX19_isGood_28 (by decide) ?_
      refine hret _ _ _ _ _ _ 0 () dX19_isGood_29 ?_ hP hD hS (Nat.le_of_ble_eq_true rfl) (Nat.le_of_ble_eq_true rfl)
      exact bI_F (by rw [show (decide (f1 < mny r)) = true from decide_eq_true (by omega), show (decide (r 3 f1 ≠ 2)) = false from decide_eq_false (fun z9 => z9 c_2)]; rfl)
    · skip
      refine lv_iconst (v := 1) hx hb dX19_isGood_24 (by decide) ?_
      refine lv_goto (tgt := 29) hx hb dX19_isGood_25 (by decide) ?_
      refine hret _ _ _ _ _ _ 1 () dX19_isGood_29 ?_ hP hD hS (Nat.le_of_ble_eq_true rfl) (Nat.le_of_ble_eq_true rfl)
      exact bI_T (by rw [show (decide (f1 < mny r)) = true from decide_eq_true (by omega), show (decide (r 3 f1 ≠ 2)) = true from decide_eq_true c_2]; rfl)
set_option maxHeartbeats 4000000 in
set_option maxRecDepth 100000 in
theorem m_X20_isGood (l : Launch) (G : xG) (o : Nat) (x0 : Int32) (a ka : Nat → Nat) (kd : Nat → Option Nat) (r : Rw) (hr : Ok r) (hk : kOk ka kd r) (hp : r 5 3 = 0) (f1 : Nat) (hf1 : f1 ≤ 99) : xCi l G yX20_isGood cX20_isGood 2 (some .boolean) ({ frames := 1, cells := 0, slots := 0, locals := 25 } : Room) [.ref o, .ref (a 0)] ([(o, .inr (17, [.int x0, .int (nI f1)]))] ++ wR G a kd r ++ wK ka) (S := Unit) (fun v _ => v = bI (decide (1 ≤ f1 ∧ f1 ≤ 60) && decide (r 5 1 + nI f1 ≤ 999))) (fun _ => ([(o, .inr (17, [.int x0, .int (nI f1)]))] ++ wR G a kd r ++ wK ka)) := by
  refine x_openi (by decide) (Nat.le_of_ble_eq_true rfl) (fun _ _ h => by rw [h]; exact bI_z _) ?_
  intro p e s m args below meth c A Q ls C0 hK hP hD hA hl hret
  obtain ⟨hx, hb, hml, hown, hts⟩ := id C0
  have hS : va_S A s.heap s.heap [] := va_S.rf
  have hP : va_P G.1 vwCl ([(o, .inr (17, [.int x0, .int (nI f1)]))] ++ wR G a kd r ++ wK ka) s.heap := hP
  have hD : va_D A ([(o, .inr (17, [.int x0, .int (nI f1)]))] ++ wR G a kd r ++ wK ka) := hD
  have hl : lv_has ls 2 [(0, .ref o), (1, .ref (a 0))] := hl
  have hr0 := hr.n
  have hN := hr.le
  refine lv_aload_n hx hb dX20_isGood_0 rfl (lv_at hl 0 rfl) ?_
  refine va_get (D := G.1) (ci := 17) (v := .int (nI f1)) (C := RX20) (T := TX20) (N := 2) hx hb hts in_X20 hown hK.1 hP 0 rfl rfl 1 (by decide) (hts _ q444) (u_same (hts _ q445)) rfl dX20_isGood_1 ?_
  refine lv_i2l (v := (nI f1).toInt64) hx hb dX20_isGood_4 rfl ?_
  refine lv_lconst (v := 1) hx hb dX20_isGood_5 (by decide) ?_
  refine lv_ldc2 (v := 60) hx hb hown (hts _ q552) dX20_isGood_6 ?_
  refine x_SNi (wN := fun _ => ([(o, .inr (17, [.int x0, .int (nI f1)]))] ++ wR G a kd r ++ wK ka)) ⟨C0, hK, hP, hD, hS, hA⟩ ((m_in l G ((nI f1).toInt64) 1 60)) ⟨va_cnB 3 hts (lw_meth q428) rfl rfl rfl (hK.2.M 18 rfl) (hts _ q86) (by decide +kernel) ⟨Nat.le_of_ble_eq_true rfl, Nat.le_of_ble_eq_true rfl⟩, hts _ q427, trivial⟩ [] [0, 2, 4, 6, 8, 10, 12, 14, 16, 18, 20, 22, 24] rfl (fun _ => rfl) rfl rfl hl.1 rfl (Nat.le_of_ble_eq_true rfl) dX20_isGood_9 ⟨(Nat.le_of_ble_eq_true rfl), (Nat.le_of_ble_eq_true rfl)⟩ (fun r_1 u_1 H locs hw_1 hP hD hS => ?_)
  have hw_1 : r_1 = bI (decide (1 ≤ f1 ∧ f1 ≤ 60)) := hw_1.trans (congrArg bI (in_nI (by omega)))
  have hw_1 : (bI (decide (1 ≤ f1 ∧ f1 ≤ 60)) : Int32) = r_1 := hw_1.symm
  subst hw_1
  refine lv_if_eq (tgt := 34) hx hb dX20_isGood_12 (by decide) (fun c_2 => ?_) (fun c_2 => ?_)
  · skip
    refine lv_iconst (v := 0) hx hb dX20_isGood_34 (by decide) ?_
    refine hret _ _ _ _ _ _ 0 () dX20_isGood_35 ?_ hP hD hS (Nat.le_of_ble_eq_true rfl) (Nat.le_of_ble_eq_true rfl)
    exact bI_F (by rw [show (decide (1 ≤ f1 ∧ f1 ≤ 60)) = false from by have h9 := c_2; simpa [bI_0] using h9]; rfl)
  · skip
    refine lv_aload_n hx hb dX20_isGood_15 rfl (lv_at hl 1 rfl) ?_
    refine va_getN (D := G.1) (ci := 7) (v := .int (r 5 1)) (C := RX8) (T := TX8) (N := 9) hx hb hts in_X8 hown hK.1 hP 1 rfl rfl 7 (by decide) (va_Nw.use rfl (hK.2.F 14 rfl)) (fun _ h9 => h9) rfl dX20_isGood_16 ?_
    refine lv_aload_n hx hb dX20_isGood_19 rfl (lv_at hl 0 rfl) ?_
    refine va_get (D := G.1) (ci := 17) (v := .int (nI f1)) (C := RX20) (T := TX20) (N := 2) hx hb hts in_X20 hown hK.1 hP 0 rfl rfl 1 (by decide) (hts _ q444) (u_same (hts _ q445)) rfl dX20_isGood_20 ?_
    refine x_iadd hx hb dX20_isGood_23 (v := (r 5 1) + (nI f1)) rfl ?_
    refine lv_sipush (v := 999) hx hb dX20_isGood_24 (by decide) ?_
    refine lv_icmp_gt (tgt := 34) hx hb dX20_isGood_27 (by decide) (fun c_3 => ?_) (fun c_3 => ?_)
    · skip
      refine lv_iconst (v := 0) hx hb dX20_isGood_34 (by decide) ?_
      refine hret _ _ _ _ _ _ 0 () dX20_isGood_35 ?_ hP hD hS (Nat.le_of_ble_eq_true rfl) (Nat.le_of_ble_eq_true rfl)
      exact bI_F (by rw [show (decide (1 ≤ f1 ∧ f1 ≤ 60)) = true from by have h9 := c_2; simpa [bI_0] using h9, show (decide (r 5 1 + nI f1 ≤ 999)) = false from decide_eq_false (fun z9 => absurd c_3 (Int32.not_lt.mpr z9))]; rfl)
    · skip
      refine lv_iconst (v := 1) hx hb dX20_isGood_30 (by decide) ?_
      refine lv_goto (tgt := 35) hx hb dX20_isGood_31 (by decide) ?_
      refine hret _ _ _ _ _ _ 1 () dX20_isGood_35 ?_ hP hD hS (Nat.le_of_ble_eq_true rfl) (Nat.le_of_ble_eq_true rfl)
      exact bI_T (by rw [show (decide (1 ≤ f1 ∧ f1 ≤ 60)) = true from by have h9 := c_2; simpa [bI_0] using h9, show (decide (r 5 1 + nI f1 ≤ 999)) = true from decide_eq_true (Int32.not_lt.mp c_3)]; rfl)
set_option maxHeartbeats 4000000 in
set_option maxRecDepth 100000 in
theorem m_X15_become (l : Launch) (G : xG) (o : Nat) (x0 : Int32) (a ka : Nat → Nat) (kd : Nat → Option Nat) (r : Rw) (hr : Ok r) (hk : kOk ka kd r) (hp : r 5 3 = 0) (f1 c1 : Nat) (hf1 : f1 ≤ 9) (hc1 : c1 < 6) (hm9 : mny r < 10) : xCv l G yX15_become cX15_become 2 none ({ frames := 1, cells := 0, slots := 0, locals := 23 } : Room) [.ref o, .ref (a 0)] ([(o, .inr (12, [.int x0, .int (nI f1), .ref (ka c1)]))] ++ wR G a kd r ++ wK ka) (S := Unit) (fun _ => True) (fun _ => ([(o, .inr (12, [.int x0, .int (nI f1), .ref (ka c1)]))] ++ wR G a (va_up kd (mny r) (some (ka c1))) (pCome r c1 (nI f1) (-9)) ++ wK ka)) := by
  refine x_openv (by decide) (Nat.le_of_ble_eq_true rfl) ?_
  intro p e s m args below meth c A Q ls C0 hK hP hD hA hl hret
  obtain ⟨hx, hb, hml, hown, hts⟩ := id C0
  have hS : va_S A s.heap s.heap [] := va_S.rf
  have hP : va_P G.1 vwCl ([(o, .inr (12, [.int x0, .int (nI f1), .ref (ka c1)]))] ++ wR G a kd r ++ wK ka) s.heap := hP
  have hD : va_D A ([(o, .inr (12, [.int x0, .int (nI f1), .ref (ka c1)]))] ++ wR G a kd r ++ wK ka) := hD
  have hl : lv_has ls 2 [(0, .ref o), (1, .ref (a 0))] := hl
  have hr0 := hr.n
  have hN := hr.le
  refine lv_aload_n hx hb dX15_become_0 rfl (lv_at hl 1 rfl) ?_
  refine lv_aload_n hx hb dX15_become_1 rfl (lv_at hl 0 rfl) ?_
  refine va_get (D := G.1) (ci := 12) (v := .ref (ka c1)) (C := RX15) (T := TX15) (N := 3) hx hb hts in_X15 hown hK.1 hP 0 rfl rfl 2 (by decide) (hts _ q438) (fun _ h9 => h9) rfl dX15_become_2 ?_
  refine lv_aload_n hx hb dX15_become_5 rfl (lv_at hl 0 rfl) ?_
  refine va_get (D := G.1) (ci := 12) (v := .int (nI f1)) (C := RX15) (T := TX15) (N := 3) hx hb hts in_X15 hown hK.1 hP 0 rfl rfl 1 (by decide) (hts _ q452) (u_same (hts _ q453)) rfl dX15_become_6 ?_
  refine lv_bipush (v := (-9)) hx hb dX15_become_9 (by decide) ?_
  refine x_Vv (wN := fun _ => ([(o, .inr (12, [.int x0, .int (nI f1), .ref (ka c1)]))] ++ wR G a (va_up kd (mny r) (some (ka c1))) (pCome r c1 (nI f1) (-9)) ++ wK ka)) ⟨C0, hK, hP, hD, hS, hA⟩ 1 rfl (ci := 7) rfl rfl ((m_comes l G a ka kd r hr hk c1 f1 (-9) hc1 hm9)) (cwV 3 hts (lw_V q574 q575 q576 q94 q577) rfl rfl rfl (by decide +kernel) ⟨Nat.le_of_ble_eq_true rfl, Nat.le_of_ble_eq_true rfl⟩) [1, 2, 3, 4, 5, 6, 7, 8, 9, 10, 11, 12] [0, 1, 3, 5, 7, 9, 11, 13, 15, 17, 19, 21, 23] rfl (fun _ => rfl) rfl rfl hl.1 rfl (Nat.le_of_ble_eq_true rfl) dX15_become_11 ⟨(Nat.le_of_ble_eq_true rfl), (Nat.le_of_ble_eq_true rfl)⟩ (fun u_1 H locs hw_1 hP hD hS => ?_)
  have hP : va_P G.1 vwCl ([(o, .inr (12, [.int x0, .int (nI f1), .ref (ka c1)]))] ++ wR G a (va_up kd (mny r) (some (ka c1))) (pCome r c1 (nI f1) (-9)) ++ wK ka) H := hP
  have hD : va_D A ([(o, .inr (12, [.int x0, .int (nI f1), .ref (ka c1)]))] ++ wR G a (va_up kd (mny r) (some (ka c1))) (pCome r c1 (nI f1) (-9)) ++ wK ka) := hD
  refine hret _ _ _ _ _ _ () dX15_become_14 ?_ hP hD hS (Nat.le_of_ble_eq_true rfl) (Nat.le_of_ble_eq_true rfl)
  trivial
set_option maxHeartbeats 4000000 in
set_option maxRecDepth 100000 in
theorem m_X16_become (l : Launch) (G : xG) (o : Nat) (x0 : Int32) (a ka : Nat → Nat) (kd : Nat → Option Nat) (r : Rw) (hr : Ok r) (hk : kOk ka kd r) (hp : r 5 3 = 0) (f1 c1 u1 : Nat) (hf1 : f1 ≤ 9) (hc1 : c1 < 6) (hu1 : u1 ≤ 9) (hm9 : mny r < 10) : xCv l G yX16_become cX16_become 2 none ({ frames := 1, cells := 0, slots := 0, locals := 23 } : Room) [.ref o, .ref (a 0)] ([(o, .inr (13, [.int x0, .int (nI f1), .ref (ka c1), .int (nI u1)]))] ++ wR G a kd r ++ wK ka) (S := Unit) (fun _ => True) (fun _ => ([(o, .inr (13, [.int x0, .int (nI f1), .ref (ka c1), .int (nI u1)]))] ++ wR G a (va_up kd (mny r) (some (ka c1))) (pCome r c1 (nI f1) (nI u1)) ++ wK ka)) := by
  refine x_openv (by decide) (Nat.le_of_ble_eq_true rfl) ?_
  intro p e s m args below meth c A Q ls C0 hK hP hD hA hl hret
  obtain ⟨hx, hb, hml, hown, hts⟩ := id C0
  have hS : va_S A s.heap s.heap [] := va_S.rf
  have hP : va_P G.1 vwCl ([(o, .inr (13, [.int x0, .int (nI f1), .ref (ka c1), .int (nI u1)]))] ++ wR G a kd r ++ wK ka) s.heap := hP
  have hD : va_D A ([(o, .inr (13, [.int x0, .int (nI f1), .ref (ka c1), .int (nI u1)]))] ++ wR G a kd r ++ wK ka) := hD
  have hl : lv_has ls 2 [(0, .ref o), (1, .ref (a 0))] := hl
  have hr0 := hr.n
  have hN := hr.le
  refine lv_aload_n hx hb dX16_become_0 rfl (lv_at hl 1 rfl) ?_
  refine lv_aload_n hx hb dX16_become_1 rfl (lv_at hl 0 rfl) ?_
  refine va_get (D := G.1) (ci := 13) (v := .ref (ka c1)) (C := RX16) (T := TX16) (N := 4) hx hb hts in_X16 hown hK.1 hP 0 rfl rfl 2 (by decide) (hts _ q439) (u_same (hts _ q440)) rfl dX16_become_2 ?_
  refine lv_aload_n hx hb dX16_become_5 rfl (lv_at hl 0 rfl) ?_
  refine va_get (D := G.1) (ci := 13) (v := .int (nI f1)) (C := RX16) (T := TX16) (N := 4) hx hb hts in_X16 hown hK.1 hP 0 rfl rfl 1 (by decide) (hts _ q454) (u_same (hts _ q455)) rfl dX16_become_6 ?_
  refine lv_aload_n hx hb dX16_become_9 rfl (lv_at hl 0 rfl) ?_
  refine va_get (D := G.1) (ci := 13) (v := .int (nI u1)) (C := RX16) (T := TX16) (N := 4) hx hb hts in_X16 hown hK.1 hP 0 rfl rfl 3 (by decide) (hts _ q469) (fun _ h9 => h9) rfl dX16_become_10 ?_
  refine x_Vv (wN := fun _ => ([(o, .inr (13, [.int x0, .int (nI f1), .ref (ka c1), .int (nI u1)]))] ++ wR G a (va_up kd (mny r) (some (ka c1))) (pCome r c1 (nI f1) (nI u1)) ++ wK ka)) ⟨C0, hK, hP, hD, hS, hA⟩ 1 rfl (ci := 7) rfl rfl ((m_comes l G a ka kd r hr hk c1 f1 (nI u1) hc1 hm9)) (cwV 3 hts (lw_V q678 q575 q576 q94 q577) rfl rfl rfl (by decide +kernel) ⟨Nat.le_of_ble_eq_true rfl, Nat.le_of_ble_eq_true rfl⟩) [1, 2, 3, 4, 5, 6, 7, 8, 9, 10, 11, 12] [0, 1, 3, 5, 7, 9, 11, 13, 15, 17, 19, 21, 23] rfl (fun _ => rfl) rfl rfl hl.1 rfl (Nat.le_of_ble_eq_true rfl) dX16_become_13 ⟨(Nat.le_of_ble_eq_true rfl), (Nat.le_of_ble_eq_true rfl)⟩ (fun u_1 H locs hw_1 hP hD hS => ?_)
  have hP : va_P G.1 vwCl ([(o, .inr (13, [.int x0, .int (nI f1), .ref (ka c1), .int (nI u1)]))] ++ wR G a (va_up kd (mny r) (some (ka c1))) (pCome r c1 (nI f1) (nI u1)) ++ wK ka) H := hP
  have hD : va_D A ([(o, .inr (13, [.int x0, .int (nI f1), .ref (ka c1), .int (nI u1)]))] ++ wR G a (va_up kd (mny r) (some (ka c1))) (pCome r c1 (nI f1) (nI u1)) ++ wK ka) := hD
  refine hret _ _ _ _ _ _ () dX16_become_16 ?_ hP hD hS (Nat.le_of_ble_eq_true rfl) (Nat.le_of_ble_eq_true rfl)
  trivial
set_option maxHeartbeats 4000000 in
set_option maxRecDepth 100000 in
theorem m_X17_become (l : Launch) (G : xG) (o : Nat) (x0 : Int32) (a ka : Nat → Nat) (kd : Nat → Option Nat) (r : Rw) (hr : Ok r) (hk : kOk ka kd r) (hp : r 5 3 = 0) (f1 u1 : Nat) (hf1 : f1 ≤ 9) (hlt : f1 < mny r) : xCv l G yX17_become cX17_become 2 none ({ frames := 6, cells := 0, slots := 0, locals := 130 } : Room) [.ref o, .ref (a 0)] ([(o, .inr (14, [.int x0, .int (nI f1), .int (nI u1)]))] ++ wR G a kd r ++ wK ka) (S := Unit) (fun _ => True) (fun _ => ([(o, .inr (14, [.int x0, .int (nI f1), .int (nI u1)]))] ++ wR G a kd (pPull r f1 (nI u1)) ++ wK ka)) := by
  refine x_openv (by decide) (Nat.le_of_ble_eq_true rfl) ?_
  intro p e s m args below meth c A Q ls C0 hK hP hD hA hl hret
  obtain ⟨hx, hb, hml, hown, hts⟩ := id C0
  have hS : va_S A s.heap s.heap [] := va_S.rf
  have hP : va_P G.1 vwCl ([(o, .inr (14, [.int x0, .int (nI f1), .int (nI u1)]))] ++ wR G a kd r ++ wK ka) s.heap := hP
  have hD : va_D A ([(o, .inr (14, [.int x0, .int (nI f1), .int (nI u1)]))] ++ wR G a kd r ++ wK ka) := hD
  have hl : lv_has ls 2 [(0, .ref o), (1, .ref (a 0))] := hl
  have hr0 := hr.n
  have hN := hr.le
  refine lv_aload_n hx hb dX17_become_0 rfl (lv_at hl 1 rfl) ?_
  refine lv_aload_n hx hb dX17_become_1 rfl (lv_at hl 0 rfl) ?_
  refine va_get (D := G.1) (ci := 14) (v := .int (nI f1)) (C := RX17) (T := TX17) (N := 3) hx hb hts in_X17 hown hK.1 hP 0 rfl rfl 1 (by decide) (hts _ q446) (u_same (hts _ q447)) rfl dX17_become_2 ?_
  refine lv_aload_n hx hb dX17_become_5 rfl (lv_at hl 0 rfl) ?_
  refine va_get (D := G.1) (ci := 14) (v := .int (nI u1)) (C := RX17) (T := TX17) (N := 3) hx hb hts in_X17 hown hK.1 hP 0 rfl rfl 2 (by decide) (hts _ q486) (fun _ h9 => h9) rfl dX17_become_6 ?_
  refine x_Vi (wN := fun _ => ([(o, .inr (14, [.int x0, .int (nI f1), .int (nI u1)]))] ++ wR G a kd (pPull r f1 (nI u1)) ++ wK ka)) ⟨C0, hK, hP, hD, hS, hA⟩ 1 rfl (ci := 7) rfl rfl ((m_pull l G a ka kd r hr hk f1 (nI u1) (by omega) hp)) (cwV 2 hts (lw_V q682 q683 q684 q94 q685) rfl rfl rfl (by decide +kernel) ⟨Nat.le_of_ble_eq_true rfl, Nat.le_of_ble_eq_true rfl⟩) [1, 2, 3, 4, 5, 6, 7, 8, 9, 10, 11, 12] [0, 1, 3, 5, 7, 9, 11, 13, 15, 17, 19, 21, 23] rfl (fun _ => rfl) rfl rfl hl.1 rfl (Nat.le_of_ble_eq_true rfl) dX17_become_9 ⟨(Nat.le_of_ble_eq_true rfl), (Nat.le_of_ble_eq_true rfl)⟩ (fun r_1 u_1 H locs hw_1 hP hD hS => ?_)
  have hw_1 : (pPullN r f1 (nI u1) : Int32) = r_1 := hw_1.symm
  subst hw_1
  have hP : va_P G.1 vwCl ([(o, .inr (14, [.int x0, .int (nI f1), .int (nI u1)]))] ++ wR G a kd (pPull r f1 (nI u1)) ++ wK ka) H := hP
  have hD : va_D A ([(o, .inr (14, [.int x0, .int (nI f1), .int (nI u1)]))] ++ wR G a kd (pPull r f1 (nI u1)) ++ wK ka) := hD
  refine lv_pop hx hb dX17_become_12 rfl ?_
  refine hret _ _ _ _ _ _ () dX17_become_13 ?_ hP hD hS (Nat.le_of_ble_eq_true rfl) (Nat.le_of_ble_eq_true rfl)
  trivial
set_option maxHeartbeats 4000000 in
set_option maxRecDepth 100000 in
theorem m_X18_become (l : Launch) (G : xG) (o : Nat) (x0 : Int32) (a ka : Nat → Nat) (kd : Nat → Option Nat) (r : Rw) (hr : Ok r) (hk : kOk ka kd r) (hp : r 5 3 = 0) (f1 : Nat) (hf1 : f1 ≤ 9)  : xCv l G yX18_become cX18_become 2 none ({ frames := 6, cells := 0, slots := 0, locals := 129 } : Room) [.ref o, .ref (a 0)] ([(o, .inr (15, [.int x0, .int (nI f1)]))] ++ wR G a kd r ++ wK ka) (S := Unit) (fun _ => True) (fun _ => ([(o, .inr (15, [.int x0, .int (nI f1)]))] ++ wR G a kd (pPullF r (nI f1)) ++ wK ka)) := by
  refine x_openv (by decide) (Nat.le_of_ble_eq_true rfl) ?_
  intro p e s m args below meth c A Q ls C0 hK hP hD hA hl hret
  obtain ⟨hx, hb, hml, hown, hts⟩ := id C0
  have hS : va_S A s.heap s.heap [] := va_S.rf
  have hP : va_P G.1 vwCl ([(o, .inr (15, [.int x0, .int (nI f1)]))] ++ wR G a kd r ++ wK ka) s.heap := hP
  have hD : va_D A ([(o, .inr (15, [.int x0, .int (nI f1)]))] ++ wR G a kd r ++ wK ka) := hD
  have hl : lv_has ls 2 [(0, .ref o), (1, .ref (a 0))] := hl
  have hr0 := hr.n
  have hN := hr.le
  refine lv_aload_n hx hb dX18_become_0 rfl (lv_at hl 1 rfl) ?_
  refine lv_aload_n hx hb dX18_become_1 rfl (lv_at hl 0 rfl) ?_
  refine va_get (D := G.1) (ci := 15) (v := .int (nI f1)) (C := RX18) (T := TX18) (N := 2) hx hb hts in_X18 hown hK.1 hP 0 rfl rfl 1 (by decide) (hts _ q450) (u_same (hts _ q451)) rfl dX18_become_2 ?_
  refine x_Vi (wN := fun _ => ([(o, .inr (15, [.int x0, .int (nI f1)]))] ++ wR G a kd (pPullF r (nI f1)) ++ wK ka)) ⟨C0, hK, hP, hD, hS, hA⟩ 1 rfl (ci := 7) rfl rfl ((m_pullFloor l G a ka kd r hr hk (nI f1) hp)) (cwV 1 hts (lw_V q581 q582 q583 q94 q584) rfl rfl rfl (by decide +kernel) ⟨Nat.le_of_ble_eq_true rfl, Nat.le_of_ble_eq_true rfl⟩) [1, 2, 3, 4, 5, 6, 7, 8, 9, 10, 11, 12] [0, 1, 3, 5, 7, 9, 11, 13, 15, 17, 19, 21, 23] rfl (fun _ => rfl) rfl rfl hl.1 rfl (Nat.le_of_ble_eq_true rfl) dX18_become_5 ⟨(Nat.le_of_ble_eq_true rfl), (Nat.le_of_ble_eq_true rfl)⟩ (fun r_1 u_1 H locs hw_1 hP hD hS => ?_)
  have hw_1 : (pPullFN r (nI f1) : Int32) = r_1 := hw_1.symm
  subst hw_1
  have hP : va_P G.1 vwCl ([(o, .inr (15, [.int x0, .int (nI f1)]))] ++ wR G a kd (pPullF r (nI f1)) ++ wK ka) H := hP
  have hD : va_D A ([(o, .inr (15, [.int x0, .int (nI f1)]))] ++ wR G a kd (pPullF r (nI f1)) ++ wK ka) := hD
  refine lv_pop hx hb dX18_become_8 rfl ?_
  refine hret _ _ _ _ _ _ () dX18_become_9 ?_ hP hD hS (Nat.le_of_ble_eq_true rfl) (Nat.le_of_ble_eq_true rfl)
  trivial
set_option maxHeartbeats 4000000 in
set_option maxRecDepth 100000 in
theorem m_X19_become (l : Launch) (G : xG) (o : Nat) (x0 : Int32) (a ka : Nat → Nat) (kd : Nat → Option Nat) (r : Rw) (hr : Ok r) (hk : kOk ka kd r) (hp : r 5 3 = 0) (f1 : Nat) (hf1 : f1 ≤ 9) (hlt : f1 < mny r) : xCv l G yX19_become cX19_become 2 none ({ frames := 1, cells := 0, slots := 0, locals := 21 } : Room) [.ref o, .ref (a 0)] ([(o, .inr (16, [.int x0, .int (nI f1)]))] ++ wR G a kd r ++ wK ka) (S := Unit) (fun _ => True) (fun _ => ([(o, .inr (16, [.int x0, .int (nI f1)]))] ++ wR G a kd (pSetUp r f1) ++ wK ka)) := by
  refine x_openv (by decide) (Nat.le_of_ble_eq_true rfl) ?_
  intro p e s m args below meth c A Q ls C0 hK hP hD hA hl hret
  obtain ⟨hx, hb, hml, hown, hts⟩ := id C0
  have hS : va_S A s.heap s.heap [] := va_S.rf
  have hP : va_P G.1 vwCl ([(o, .inr (16, [.int x0, .int (nI f1)]))] ++ wR G a kd r ++ wK ka) s.heap := hP
  have hD : va_D A ([(o, .inr (16, [.int x0, .int (nI f1)]))] ++ wR G a kd r ++ wK ka) := hD
  have hl : lv_has ls 2 [(0, .ref o), (1, .ref (a 0))] := hl
  have hr0 := hr.n
  have hN := hr.le
  refine lv_aload_n hx hb dX19_become_0 rfl (lv_at hl 1 rfl) ?_
  refine lv_aload_n hx hb dX19_become_1 rfl (lv_at hl 0 rfl) ?_
  refine va_get (D := G.1) (ci := 16) (v := .int (nI f1)) (C := RX19) (T := TX19) (N := 2) hx hb hts in_X19 hown hK.1 hP 0 rfl rfl 1 (by decide) (hts _ q448) (u_same (hts _ q449)) rfl dX19_become_2 ?_
  refine x_Vv (wN := fun _ => ([(o, .inr (16, [.int x0, .int (nI f1)]))] ++ wR G a kd (pSetUp r f1) ++ wK ka)) ⟨C0, hK, hP, hD, hS, hA⟩ 1 rfl (ci := 7) rfl rfl ((m_setUp l G a ka kd r hr hk f1 (by omega))) (cwV 1 hts (lw_V q689 q690 q691 q94 q692) rfl rfl rfl (by decide +kernel) ⟨Nat.le_of_ble_eq_true rfl, Nat.le_of_ble_eq_true rfl⟩) [1, 2, 3, 4, 5, 6, 7, 8, 9, 10, 11, 12] [0, 1, 3, 5, 7, 9, 11, 13, 15, 17, 19, 21, 23] rfl (fun _ => rfl) rfl rfl hl.1 rfl (Nat.le_of_ble_eq_true rfl) dX19_become_5 ⟨(Nat.le_of_ble_eq_true rfl), (Nat.le_of_ble_eq_true rfl)⟩ (fun u_1 H locs hw_1 hP hD hS => ?_)
  have hP : va_P G.1 vwCl ([(o, .inr (16, [.int x0, .int (nI f1)]))] ++ wR G a kd (pSetUp r f1) ++ wK ka) H := hP
  have hD : va_D A ([(o, .inr (16, [.int x0, .int (nI f1)]))] ++ wR G a kd (pSetUp r f1) ++ wK ka) := hD
  refine hret _ _ _ _ _ _ () dX19_become_8 ?_ hP hD hS (Nat.le_of_ble_eq_true rfl) (Nat.le_of_ble_eq_true rfl)
  trivial
set_option maxHeartbeats 4000000 in
set_option maxRecDepth 100000 in
theorem m_X20_become (l : Launch) (G : xG) (o : Nat) (x0 : Int32) (a ka : Nat → Nat) (kd : Nat → Option Nat) (r : Rw) (hr : Ok r) (hk : kOk ka kd r) (hp : r 5 3 = 0) (f1 : Nat) (hf1 : f1 ≤ 99)  : xCv l G yX20_become cX20_become 2 none ({ frames := 6, cells := 0, slots := 0, locals := 133 } : Room) [.ref o, .ref (a 0)] ([(o, .inr (17, [.int x0, .int (nI f1)]))] ++ wR G a kd r ++ wK ka) (S := Unit) (fun _ => True) (fun _ => ([(o, .inr (17, [.int x0, .int (nI f1)]))] ++ wR G a kd (pMins r f1) ++ wK ka)) := by
  refine x_openv (by decide) (Nat.le_of_ble_eq_true rfl) ?_
  intro p e s m args below meth c A Q ls C0 hK hP hD hA hl hret
  obtain ⟨hx, hb, hml, hown, hts⟩ := id C0
  have hS : va_S A s.heap s.heap [] := va_S.rf
  have hP : va_P G.1 vwCl ([(o, .inr (17, [.int x0, .int (nI f1)]))] ++ wR G a kd r ++ wK ka) s.heap := hP
  have hD : va_D A ([(o, .inr (17, [.int x0, .int (nI f1)]))] ++ wR G a kd r ++ wK ka) := hD
  have hl : lv_has ls 2 [(0, .ref o), (1, .ref (a 0))] := hl
  have hr0 := hr.n
  have hN := hr.le
  refine lv_aload_n hx hb dX20_become_0 rfl (lv_at hl 1 rfl) ?_
  refine lv_aload_n hx hb dX20_become_1 rfl (lv_at hl 0 rfl) ?_
  refine va_get (D := G.1) (ci := 17) (v := .int (nI f1)) (C := RX20) (T := TX20) (N := 2) hx hb hts in_X20 hown hK.1 hP 0 rfl rfl 1 (by decide) (hts _ q444) (u_same (hts _ q445)) rfl dX20_become_2 ?_
  refine x_Vr (wN := fun _ => ([(o, .inr (17, [.int x0, .int (nI f1)]))] ++ wR G a kd (pMins r f1) ++ wK ka)) ⟨C0, hK, hP, hD, hS, hA⟩ 1 rfl (ci := 7) rfl rfl ((m_minutesOn l G a ka kd r hr hk f1 (by omega))) (cwV 1 hts (lw_V q622 q623 q624 q94 q625) rfl rfl rfl (by decide +kernel) ⟨Nat.le_of_ble_eq_true rfl, Nat.le_of_ble_eq_true rfl⟩) [1, 2, 3, 4, 5, 6, 7, 8, 9, 10, 11, 12] [0, 1, 3, 5, 7, 9, 11, 13, 15, 17, 19, 21, 23] rfl (fun _ => rfl) rfl rfl hl.1 rfl (Nat.le_of_ble_eq_true rfl) dX20_become_5 ⟨(Nat.le_of_ble_eq_true rfl), (Nat.le_of_ble_eq_true rfl)⟩ (fun u_1 H locs hw_1 hP hD hS => ?_)
  have hP : va_P G.1 vwCl ([(o, .inr (17, [.int x0, .int (nI f1)]))] ++ wR G a kd (pMins r f1) ++ wK ka) H := hP
  have hD : va_D A ([(o, .inr (17, [.int x0, .int (nI f1)]))] ++ wR G a kd (pMins r f1) ++ wK ka) := hD
  refine lv_pop hx hb dX20_become_8 rfl ?_
  refine hret _ _ _ _ _ _ () dX20_become_9 ?_ hP hD hS (Nat.le_of_ble_eq_true rfl) (Nat.le_of_ble_eq_true rfl)
  trivial
set_option maxHeartbeats 4000000 in
set_option maxRecDepth 100000 in
theorem m_comes_X15 (l : Launch) (G : xG) (o : Nat) (x0 : Int32) (a ka : Nat → Nat) (kd : Nat → Option Nat) (r : Rw) (hr : Ok r) (hk : kOk ka kd r) (hp : r 5 3 = 0) (f1 c1 : Nat) (hf1 : f1 ≤ 9) (hc1 : c1 < 6) : xCi l G yX14_comes cX14_comes 3 (some .boolean) ({ frames := 2, cells := 0, slots := 0, locals := 44 } : Room) [.ref o, .ref (a 0)] ([(o, .inr (12, [.int x0, .int (nI f1), .ref (ka c1)]))] ++ wR G a kd r ++ wK ka) (S := (Nat → Option Nat)) (fun v kd' => v = bI (tdOk (12, f1, c1, 0) r) ∧ kOk ka kd' (tdN (12, f1, c1, 0) r)) (fun kd' => ([(o, .inr (12, [.int x0, .int (nI f1), .ref (ka c1)]))] ++ wR G a kd' (tdN (12, f1, c1, 0) r) ++ wK ka)) := by
  refine x_openi (by decide) (Nat.le_of_ble_eq_true rfl) (fun _ _ h => by rw [h.1]; exact bI_z _) ?_
  intro p e s m args below meth c A Q ls C0 hK hP hD hA hl hret
  obtain ⟨hx, hb, hml, hown, hts⟩ := id C0
  have hS : va_S A s.heap s.heap [] := va_S.rf
  have hP : va_P G.1 vwCl ([(o, .inr (12, [.int x0, .int (nI f1), .ref (ka c1)]))] ++ wR G a kd r ++ wK ka) s.heap := hP
  have hD : va_D A ([(o, .inr (12, [.int x0, .int (nI f1), .ref (ka c1)]))] ++ wR G a kd r ++ wK ka) := hD
  have hl : lv_has ls 3 [(0, .ref o), (1, .ref (a 0))] := hl
  have hr0 := hr.n
  have hN := hr.le
  refine lv_aload_n hx hb dX14_comes_0 rfl (lv_at hl 0 rfl) ?_
  refine lv_aload_n hx hb dX14_comes_1 rfl (lv_at hl 1 rfl) ?_
  refine x_Ui (wN := fun _ => ([(o, .inr (12, [.int x0, .int (nI f1), .ref (ka c1)]))] ++ wR G a kd r ++ wK ka)) ⟨C0, hK, hP, hD, hS, hA⟩ 0 rfl (ci := 12) rfl rfl ((m_X15_isGood l G o x0 a ka kd r hr hk hp f1 c1 hf1 hc1)) (va_cwA (owner := "PulledFromUnder$Told") 1 hts (lw_U q540 q542 q543 q544 q104 q545) rfl rfl rfl (hK.2.D 7 rfl) (by decide +kernel) ⟨Nat.le_of_ble_eq_true rfl, Nat.le_of_ble_eq_true rfl⟩) [0, 1, 2, 3, 4, 5, 6, 7, 8, 9, 10, 11, 12] [1, 3, 5, 7, 9, 11, 13, 15, 17, 19, 21, 23, 25] rfl (fun _ => rfl) rfl rfl hl.1 rfl (Nat.le_of_ble_eq_true rfl) dX14_comes_2 ⟨(Nat.le_of_ble_eq_true rfl), (Nat.le_of_ble_eq_true rfl)⟩ (fun r_1 u_1 H locs hw_1 hP hD hS => ?_)
  have hw_1 : (bI (bB r && decide (mny r < 10)) : Int32) = r_1 := hw_1.symm
  subst hw_1
  refine lv_istore_n (lv' := [(2, .int (bI (bB r && decide (mny r < 10)))), (0, .ref o), (1, .ref (a 0))]) hx hb dX14_comes_5 rfl hl (by decide) rfl (fun ls hl => ?_)
  refine lv_iload_n hx hb dX14_comes_6 rfl (lv_at hl 0 rfl) ?_
  refine lv_if_eq (tgt := 15) hx hb dX14_comes_7 (by decide) (fun c_2 => ?_) (fun c_2 => ?_)
  · skip
    have hok : tdOk (12, f1, c1, 0) r = false := (bI_0.mp c_2 : (bB r && decide (mny r < 10)) = false)
    refine lv_iload_n hx hb dX14_comes_15 rfl (lv_at hl 0 rfl) ?_
    rw [show wR G a kd r = wR G a kd (tdN (12, f1, c1, 0) r) by rw [tdN_f hok]] at hP hD
    refine hret _ _ _ _ _ _ (bI (bB r && decide (mny r < 10))) kd dX14_comes_16 ?_ hP hD hS (Nat.le_of_ble_eq_true rfl) (Nat.le_of_ble_eq_true rfl)
    exact ⟨rfl, by rw [tdN_f hok]; exact hk⟩
  · skip
    have hok : tdOk (12, f1, c1, 0) r = true := (bI_n0 c_2 : (bB r && decide (mny r < 10)) = true)
    have hok0 := hok
    have hok : (bB r && decide (mny r < 10)) = true := hok
    rw [Bool.and_eq_true] at hok
    have hm9 := of_decide_eq_true hok.2
    refine lv_aload_n hx hb dX14_comes_10 rfl (lv_at hl 1 rfl) ?_
    refine lv_aload_n hx hb dX14_comes_11 rfl (lv_at hl 2 rfl) ?_
    refine x_Uv (wN := fun _ => ([(o, .inr (12, [.int x0, .int (nI f1), .ref (ka c1)]))] ++ wR G a (va_up kd (mny r) (some (ka c1))) (pCome r c1 (nI f1) (-9)) ++ wK ka)) ⟨C0, hK, hP, hD, hS, hA⟩ 0 rfl (ci := 12) rfl rfl ((m_X15_become l G o x0 a ka kd r hr hk hp f1 c1 hf1 hc1 hm9)) (va_cwA (owner := "PulledFromUnder$Told") 1 hts (lw_U q568 q570 q571 q572 q104 q573) rfl rfl rfl (hK.2.D 8 rfl) (by decide +kernel) ⟨Nat.le_of_ble_eq_true rfl, Nat.le_of_ble_eq_true rfl⟩) [0, 1, 2, 3, 4, 5, 6, 7, 8, 9, 10, 11, 12] [1, 3, 5, 7, 9, 11, 13, 15, 17, 19, 21, 23, 25] rfl (fun _ => rfl) rfl rfl hl.1 rfl (Nat.le_of_ble_eq_true rfl) dX14_comes_12 ⟨(Nat.le_of_ble_eq_true rfl), (Nat.le_of_ble_eq_true rfl)⟩ (fun u_3 H locs hw_3 hP hD hS => ?_)
    have hP : va_P G.1 vwCl ([(o, .inr (12, [.int x0, .int (nI f1), .ref (ka c1)]))] ++ wR G a (va_up kd (mny r) (some (ka c1))) (pCome r c1 (nI f1) (-9)) ++ wK ka) H := hP
    have hD : va_D A ([(o, .inr (12, [.int x0, .int (nI f1), .ref (ka c1)]))] ++ wR G a (va_up kd (mny r) (some (ka c1))) (pCome r c1 (nI f1) (-9)) ++ wK ka) := hD
    refine lv_iload_n hx hb dX14_comes_15 rfl (lv_at hl 0 rfl) ?_
    have e8 : pCome r c1 (nI f1) (-9) = tdN (12, f1, c1, 0) r := (tdN_t hok0).symm
    rw [e8] at hP hD
    refine hret _ _ _ _ _ _ (bI (bB r && decide (mny r < 10))) (va_up kd (mny r) (some (ka c1))) dX14_comes_16 ?_ hP hD hS (Nat.le_of_ble_eq_true rfl) (Nat.le_of_ble_eq_true rfl)
    exact ⟨rfl, by rw [tdN_t hok0]; exact kOk.come hk hm9 hc1⟩
set_option maxHeartbeats 4000000 in
set_option maxRecDepth 100000 in
theorem m_comes_X16 (l : Launch) (G : xG) (o : Nat) (x0 : Int32) (a ka : Nat → Nat) (kd : Nat → Option Nat) (r : Rw) (hr : Ok r) (hk : kOk ka kd r) (hp : r 5 3 = 0) (f1 c1 u1 : Nat) (hf1 : f1 ≤ 9) (hc1 : c1 < 6) (hu1 : u1 ≤ 9) : xCi l G yX14_comes cX14_comes 3 (some .boolean) ({ frames := 2, cells := 0, slots := 0, locals := 44 } : Room) [.ref o, .ref (a 0)] ([(o, .inr (13, [.int x0, .int (nI f1), .ref (ka c1), .int (nI u1)]))] ++ wR G a kd r ++ wK ka) (S := (Nat → Option Nat)) (fun v kd' => v = bI (tdOk (13, f1, c1, u1) r) ∧ kOk ka kd' (tdN (13, f1, c1, u1) r)) (fun kd' => ([(o, .inr (13, [.int x0, .int (nI f1), .ref (ka c1), .int (nI u1)]))] ++ wR G a kd' (tdN (13, f1, c1, u1) r) ++ wK ka)) := by
  refine x_openi (by decide) (Nat.le_of_ble_eq_true rfl) (fun _ _ h => by rw [h.1]; exact bI_z _) ?_
  intro p e s m args below meth c A Q ls C0 hK hP hD hA hl hret
  obtain ⟨hx, hb, hml, hown, hts⟩ := id C0
  have hS : va_S A s.heap s.heap [] := va_S.rf
  have hP : va_P G.1 vwCl ([(o, .inr (13, [.int x0, .int (nI f1), .ref (ka c1), .int (nI u1)]))] ++ wR G a kd r ++ wK ka) s.heap := hP
  have hD : va_D A ([(o, .inr (13, [.int x0, .int (nI f1), .ref (ka c1), .int (nI u1)]))] ++ wR G a kd r ++ wK ka) := hD
  have hl : lv_has ls 3 [(0, .ref o), (1, .ref (a 0))] := hl
  have hr0 := hr.n
  have hN := hr.le
  refine lv_aload_n hx hb dX14_comes_0 rfl (lv_at hl 0 rfl) ?_
  refine lv_aload_n hx hb dX14_comes_1 rfl (lv_at hl 1 rfl) ?_
  refine x_Ui (wN := fun _ => ([(o, .inr (13, [.int x0, .int (nI f1), .ref (ka c1), .int (nI u1)]))] ++ wR G a kd r ++ wK ka)) ⟨C0, hK, hP, hD, hS, hA⟩ 0 rfl (ci := 13) rfl rfl ((m_X16_isGood l G o x0 a ka kd r hr hk hp f1 c1 u1 hf1 hc1 hu1)) (va_cwA (owner := "PulledFromUnder$Told") 1 hts (lw_U q540 q542 q554 q555 q105 q556) rfl rfl rfl (hK.2.D 7 rfl) (by decide +kernel) ⟨Nat.le_of_ble_eq_true rfl, Nat.le_of_ble_eq_true rfl⟩) [0, 1, 2, 3, 4, 5, 6, 7, 8, 9, 10, 11, 12] [1, 3, 5, 7, 9, 11, 13, 15, 17, 19, 21, 23, 25] rfl (fun _ => rfl) rfl rfl hl.1 rfl (Nat.le_of_ble_eq_true rfl) dX14_comes_2 ⟨(Nat.le_of_ble_eq_true rfl), (Nat.le_of_ble_eq_true rfl)⟩ (fun r_1 u_1 H locs hw_1 hP hD hS => ?_)
  have hw_1 : (bI (decide (u1 < mny r) && pSt r u1 && decide (mny r < 10)) : Int32) = r_1 := hw_1.symm
  subst hw_1
  refine lv_istore_n (lv' := [(2, .int (bI (decide (u1 < mny r) && pSt r u1 && decide (mny r < 10)))), (0, .ref o), (1, .ref (a 0))]) hx hb dX14_comes_5 rfl hl (by decide) rfl (fun ls hl => ?_)
  refine lv_iload_n hx hb dX14_comes_6 rfl (lv_at hl 0 rfl) ?_
  refine lv_if_eq (tgt := 15) hx hb dX14_comes_7 (by decide) (fun c_2 => ?_) (fun c_2 => ?_)
  · skip
    have hok : tdOk (13, f1, c1, u1) r = false := (bI_0.mp c_2 : (decide (u1 < mny r) && pSt r u1 && decide (mny r < 10)) = false)
    refine lv_iload_n hx hb dX14_comes_15 rfl (lv_at hl 0 rfl) ?_
    rw [show wR G a kd r = wR G a kd (tdN (13, f1, c1, u1) r) by rw [tdN_f hok]] at hP hD
    refine hret _ _ _ _ _ _ (bI (decide (u1 < mny r) && pSt r u1 && decide (mny r < 10))) kd dX14_comes_16 ?_ hP hD hS (Nat.le_of_ble_eq_true rfl) (Nat.le_of_ble_eq_true rfl)
    exact ⟨rfl, by rw [tdN_f hok]; exact hk⟩
  · skip
    have hok : tdOk (13, f1, c1, u1) r = true := (bI_n0 c_2 : (decide (u1 < mny r) && pSt r u1 && decide (mny r < 10)) = true)
    have hok0 := hok
    have hok : (decide (u1 < mny r) && pSt r u1 && decide (mny r < 10)) = true := hok
    rw [Bool.and_eq_true, Bool.and_eq_true] at hok
    have hm9 := of_decide_eq_true hok.2
    refine lv_aload_n hx hb dX14_comes_10 rfl (lv_at hl 1 rfl) ?_
    refine lv_aload_n hx hb dX14_comes_11 rfl (lv_at hl 2 rfl) ?_
    refine x_Uv (wN := fun _ => ([(o, .inr (13, [.int x0, .int (nI f1), .ref (ka c1), .int (nI u1)]))] ++ wR G a (va_up kd (mny r) (some (ka c1))) (pCome r c1 (nI f1) (nI u1)) ++ wK ka)) ⟨C0, hK, hP, hD, hS, hA⟩ 0 rfl (ci := 13) rfl rfl ((m_X16_become l G o x0 a ka kd r hr hk hp f1 c1 u1 hf1 hc1 hu1 hm9)) (va_cwA (owner := "PulledFromUnder$Told") 1 hts (lw_U q568 q570 q675 q676 q105 q677) rfl rfl rfl (hK.2.D 8 rfl) (by decide +kernel) ⟨Nat.le_of_ble_eq_true rfl, Nat.le_of_ble_eq_true rfl⟩) [0, 1, 2, 3, 4, 5, 6, 7, 8, 9, 10, 11, 12] [1, 3, 5, 7, 9, 11, 13, 15, 17, 19, 21, 23, 25] rfl (fun _ => rfl) rfl rfl hl.1 rfl (Nat.le_of_ble_eq_true rfl) dX14_comes_12 ⟨(Nat.le_of_ble_eq_true rfl), (Nat.le_of_ble_eq_true rfl)⟩ (fun u_3 H locs hw_3 hP hD hS => ?_)
    have hP : va_P G.1 vwCl ([(o, .inr (13, [.int x0, .int (nI f1), .ref (ka c1), .int (nI u1)]))] ++ wR G a (va_up kd (mny r) (some (ka c1))) (pCome r c1 (nI f1) (nI u1)) ++ wK ka) H := hP
    have hD : va_D A ([(o, .inr (13, [.int x0, .int (nI f1), .ref (ka c1), .int (nI u1)]))] ++ wR G a (va_up kd (mny r) (some (ka c1))) (pCome r c1 (nI f1) (nI u1)) ++ wK ka) := hD
    refine lv_iload_n hx hb dX14_comes_15 rfl (lv_at hl 0 rfl) ?_
    have e8 : pCome r c1 (nI f1) (nI u1) = tdN (13, f1, c1, u1) r := (tdN_t hok0).symm
    rw [e8] at hP hD
    refine hret _ _ _ _ _ _ (bI (decide (u1 < mny r) && pSt r u1 && decide (mny r < 10))) (va_up kd (mny r) (some (ka c1))) dX14_comes_16 ?_ hP hD hS (Nat.le_of_ble_eq_true rfl) (Nat.le_of_ble_eq_true rfl)
    exact ⟨rfl, by rw [tdN_t hok0]; exact kOk.come hk hm9 hc1⟩
set_option maxHeartbeats 4000000 in
set_option maxRecDepth 100000 in
theorem m_comes_X17 (l : Launch) (G : xG) (o : Nat) (x0 : Int32) (a ka : Nat → Nat) (kd : Nat → Option Nat) (r : Rw) (hr : Ok r) (hk : kOk ka kd r) (hp : r 5 3 = 0) (f1 u1 : Nat) (hf1 : f1 ≤ 9) : xCi l G yX14_comes cX14_comes 3 (some .boolean) ({ frames := 7, cells := 0, slots := 0, locals := 151 } : Room) [.ref o, .ref (a 0)] ([(o, .inr (14, [.int x0, .int (nI f1), .int (nI u1)]))] ++ wR G a kd r ++ wK ka) (S := (Nat → Option Nat)) (fun v kd' => v = bI (tdOk (14, f1, 0, u1) r) ∧ kOk ka kd' (tdN (14, f1, 0, u1) r)) (fun kd' => ([(o, .inr (14, [.int x0, .int (nI f1), .int (nI u1)]))] ++ wR G a kd' (tdN (14, f1, 0, u1) r) ++ wK ka)) := by
  refine x_openi (by decide) (Nat.le_of_ble_eq_true rfl) (fun _ _ h => by rw [h.1]; exact bI_z _) ?_
  intro p e s m args below meth c A Q ls C0 hK hP hD hA hl hret
  obtain ⟨hx, hb, hml, hown, hts⟩ := id C0
  have hS : va_S A s.heap s.heap [] := va_S.rf
  have hP : va_P G.1 vwCl ([(o, .inr (14, [.int x0, .int (nI f1), .int (nI u1)]))] ++ wR G a kd r ++ wK ka) s.heap := hP
  have hD : va_D A ([(o, .inr (14, [.int x0, .int (nI f1), .int (nI u1)]))] ++ wR G a kd r ++ wK ka) := hD
  have hl : lv_has ls 3 [(0, .ref o), (1, .ref (a 0))] := hl
  have hr0 := hr.n
  have hN := hr.le
  refine lv_aload_n hx hb dX14_comes_0 rfl (lv_at hl 0 rfl) ?_
  refine lv_aload_n hx hb dX14_comes_1 rfl (lv_at hl 1 rfl) ?_
  refine x_Ui (wN := fun _ => ([(o, .inr (14, [.int x0, .int (nI f1), .int (nI u1)]))] ++ wR G a kd r ++ wK ka)) ⟨C0, hK, hP, hD, hS, hA⟩ 0 rfl (ci := 14) rfl rfl ((m_X17_isGood l G o x0 a ka kd r hr hk hp f1 u1 hf1)) (va_cwA (owner := "PulledFromUnder$Told") 1 hts (lw_U q540 q542 q561 q562 q106 q563) rfl rfl rfl (hK.2.D 7 rfl) (by decide +kernel) ⟨Nat.le_of_ble_eq_true rfl, Nat.le_of_ble_eq_true rfl⟩) [0, 1, 2, 3, 4, 5, 6, 7, 8, 9, 10, 11, 12] [1, 3, 5, 7, 9, 11, 13, 15, 17, 19, 21, 23, 25] rfl (fun _ => rfl) rfl rfl hl.1 rfl (Nat.le_of_ble_eq_true rfl) dX14_comes_2 ⟨(Nat.le_of_ble_eq_true rfl), (Nat.le_of_ble_eq_true rfl)⟩ (fun r_1 u_1 H locs hw_1 hP hD hS => ?_)
  have hw_1 : (bI (decide (f1 < mny r) && pSt r f1) : Int32) = r_1 := hw_1.symm
  subst hw_1
  refine lv_istore_n (lv' := [(2, .int (bI (decide (f1 < mny r) && pSt r f1))), (0, .ref o), (1, .ref (a 0))]) hx hb dX14_comes_5 rfl hl (by decide) rfl (fun ls hl => ?_)
  refine lv_iload_n hx hb dX14_comes_6 rfl (lv_at hl 0 rfl) ?_
  refine lv_if_eq (tgt := 15) hx hb dX14_comes_7 (by decide) (fun c_2 => ?_) (fun c_2 => ?_)
  · skip
    have hok : tdOk (14, f1, 0, u1) r = false := (bI_0.mp c_2 : (decide (f1 < mny r) && pSt r f1) = false)
    refine lv_iload_n hx hb dX14_comes_15 rfl (lv_at hl 0 rfl) ?_
    rw [show wR G a kd r = wR G a kd (tdN (14, f1, 0, u1) r) by rw [tdN_f hok]] at hP hD
    refine hret _ _ _ _ _ _ (bI (decide (f1 < mny r) && pSt r f1)) kd dX14_comes_16 ?_ hP hD hS (Nat.le_of_ble_eq_true rfl) (Nat.le_of_ble_eq_true rfl)
    exact ⟨rfl, by rw [tdN_f hok]; exact hk⟩
  · skip
    have hok : tdOk (14, f1, 0, u1) r = true := (bI_n0 c_2 : (decide (f1 < mny r) && pSt r f1) = true)
    have hok0 := hok
    have hok : (decide (f1 < mny r) && pSt r f1) = true := hok
    rw [Bool.and_eq_true] at hok
    have hlt := of_decide_eq_true hok.1
    refine lv_aload_n hx hb dX14_comes_10 rfl (lv_at hl 1 rfl) ?_
    refine lv_aload_n hx hb dX14_comes_11 rfl (lv_at hl 2 rfl) ?_
    refine x_Uv (wN := fun _ => ([(o, .inr (14, [.int x0, .int (nI f1), .int (nI u1)]))] ++ wR G a kd (pPull r f1 (nI u1)) ++ wK ka)) ⟨C0, hK, hP, hD, hS, hA⟩ 0 rfl (ci := 14) rfl rfl ((m_X17_become l G o x0 a ka kd r hr hk hp f1 u1 hf1 hlt)) (va_cwA (owner := "PulledFromUnder$Told") 1 hts (lw_U q568 q570 q679 q680 q106 q681) rfl rfl rfl (hK.2.D 8 rfl) (by decide +kernel) ⟨Nat.le_of_ble_eq_true rfl, Nat.le_of_ble_eq_true rfl⟩) [0, 1, 2, 3, 4, 5, 6, 7, 8, 9, 10, 11, 12] [1, 3, 5, 7, 9, 11, 13, 15, 17, 19, 21, 23, 25] rfl (fun _ => rfl) rfl rfl hl.1 rfl (Nat.le_of_ble_eq_true rfl) dX14_comes_12 ⟨(Nat.le_of_ble_eq_true rfl), (Nat.le_of_ble_eq_true rfl)⟩ (fun u_3 H locs hw_3 hP hD hS => ?_)
    have hP : va_P G.1 vwCl ([(o, .inr (14, [.int x0, .int (nI f1), .int (nI u1)]))] ++ wR G a kd (pPull r f1 (nI u1)) ++ wK ka) H := hP
    have hD : va_D A ([(o, .inr (14, [.int x0, .int (nI f1), .int (nI u1)]))] ++ wR G a kd (pPull r f1 (nI u1)) ++ wK ka) := hD
    refine lv_iload_n hx hb dX14_comes_15 rfl (lv_at hl 0 rfl) ?_
    have e8 : pPull r f1 (nI u1) = tdN (14, f1, 0, u1) r := (tdN_t hok0).symm
    rw [e8] at hP hD
    refine hret _ _ _ _ _ _ (bI (decide (f1 < mny r) && pSt r f1)) kd dX14_comes_16 ?_ hP hD hS (Nat.le_of_ble_eq_true rfl) (Nat.le_of_ble_eq_true rfl)
    exact ⟨rfl, by rw [tdN_t hok0]; exact kOk.pull hk⟩
set_option maxHeartbeats 4000000 in
set_option maxRecDepth 100000 in
theorem m_comes_X18 (l : Launch) (G : xG) (o : Nat) (x0 : Int32) (a ka : Nat → Nat) (kd : Nat → Option Nat) (r : Rw) (hr : Ok r) (hk : kOk ka kd r) (hp : r 5 3 = 0) (f1 : Nat) (hf1 : f1 ≤ 9) : xCi l G yX14_comes cX14_comes 3 (some .boolean) ({ frames := 7, cells := 0, slots := 0, locals := 150 } : Room) [.ref o, .ref (a 0)] ([(o, .inr (15, [.int x0, .int (nI f1)]))] ++ wR G a kd r ++ wK ka) (S := (Nat → Option Nat)) (fun v kd' => v = bI (tdOk (15, f1, 0, 0) r) ∧ kOk ka kd' (tdN (15, f1, 0, 0) r)) (fun kd' => ([(o, .inr (15, [.int x0, .int (nI f1)]))] ++ wR G a kd' (tdN (15, f1, 0, 0) r) ++ wK ka)) := by
  refine x_openi (by decide) (Nat.le_of_ble_eq_true rfl) (fun _ _ h => by rw [h.1]; exact bI_z _) ?_
  intro p e s m args below meth c A Q ls C0 hK hP hD hA hl hret
  obtain ⟨hx, hb, hml, hown, hts⟩ := id C0
  have hS : va_S A s.heap s.heap [] := va_S.rf
  have hP : va_P G.1 vwCl ([(o, .inr (15, [.int x0, .int (nI f1)]))] ++ wR G a kd r ++ wK ka) s.heap := hP
  have hD : va_D A ([(o, .inr (15, [.int x0, .int (nI f1)]))] ++ wR G a kd r ++ wK ka) := hD
  have hl : lv_has ls 3 [(0, .ref o), (1, .ref (a 0))] := hl
  have hr0 := hr.n
  have hN := hr.le
  refine lv_aload_n hx hb dX14_comes_0 rfl (lv_at hl 0 rfl) ?_
  refine lv_aload_n hx hb dX14_comes_1 rfl (lv_at hl 1 rfl) ?_
  refine x_Ui (wN := fun _ => ([(o, .inr (15, [.int x0, .int (nI f1)]))] ++ wR G a kd r ++ wK ka)) ⟨C0, hK, hP, hD, hS, hA⟩ 0 rfl (ci := 15) rfl rfl ((m_X18_isGood l G o x0 a ka kd r hr hk hp f1 hf1)) (va_cwA (owner := "PulledFromUnder$Told") 1 hts (lw_U q540 q542 q546 q547 q107 q548) rfl rfl rfl (hK.2.D 7 rfl) (by decide +kernel) ⟨Nat.le_of_ble_eq_true rfl, Nat.le_of_ble_eq_true rfl⟩) [0, 1, 2, 3, 4, 5, 6, 7, 8, 9, 10, 11, 12] [1, 3, 5, 7, 9, 11, 13, 15, 17, 19, 21, 23, 25] rfl (fun _ => rfl) rfl rfl hl.1 rfl (Nat.le_of_ble_eq_true rfl) dX14_comes_2 ⟨(Nat.le_of_ble_eq_true rfl), (Nat.le_of_ble_eq_true rfl)⟩ (fun r_1 u_1 H locs hw_1 hP hD hS => ?_)
  have hw_1 : (bI (bB r) : Int32) = r_1 := hw_1.symm
  subst hw_1
  refine lv_istore_n (lv' := [(2, .int (bI (bB r))), (0, .ref o), (1, .ref (a 0))]) hx hb dX14_comes_5 rfl hl (by decide) rfl (fun ls hl => ?_)
  refine lv_iload_n hx hb dX14_comes_6 rfl (lv_at hl 0 rfl) ?_
  refine lv_if_eq (tgt := 15) hx hb dX14_comes_7 (by decide) (fun c_2 => ?_) (fun c_2 => ?_)
  · skip
    have hok : tdOk (15, f1, 0, 0) r = false := (bI_0.mp c_2 : (bB r) = false)
    refine lv_iload_n hx hb dX14_comes_15 rfl (lv_at hl 0 rfl) ?_
    rw [show wR G a kd r = wR G a kd (tdN (15, f1, 0, 0) r) by rw [tdN_f hok]] at hP hD
    refine hret _ _ _ _ _ _ (bI (bB r)) kd dX14_comes_16 ?_ hP hD hS (Nat.le_of_ble_eq_true rfl) (Nat.le_of_ble_eq_true rfl)
    exact ⟨rfl, by rw [tdN_f hok]; exact hk⟩
  · skip
    have hok : tdOk (15, f1, 0, 0) r = true := (bI_n0 c_2 : (bB r) = true)
    have hok0 := hok
    have hok : (bB r) = true := hok
    refine lv_aload_n hx hb dX14_comes_10 rfl (lv_at hl 1 rfl) ?_
    refine lv_aload_n hx hb dX14_comes_11 rfl (lv_at hl 2 rfl) ?_
    refine x_Uv (wN := fun _ => ([(o, .inr (15, [.int x0, .int (nI f1)]))] ++ wR G a kd (pPullF r (nI f1)) ++ wK ka)) ⟨C0, hK, hP, hD, hS, hA⟩ 0 rfl (ci := 15) rfl rfl ((m_X18_become l G o x0 a ka kd r hr hk hp f1 hf1)) (va_cwA (owner := "PulledFromUnder$Told") 1 hts (lw_U q568 q570 q578 q579 q107 q580) rfl rfl rfl (hK.2.D 8 rfl) (by decide +kernel) ⟨Nat.le_of_ble_eq_true rfl, Nat.le_of_ble_eq_true rfl⟩) [0, 1, 2, 3, 4, 5, 6, 7, 8, 9, 10, 11, 12] [1, 3, 5, 7, 9, 11, 13, 15, 17, 19, 21, 23, 25] rfl (fun _ => rfl) rfl rfl hl.1 rfl (Nat.le_of_ble_eq_true rfl) dX14_comes_12 ⟨(Nat.le_of_ble_eq_true rfl), (Nat.le_of_ble_eq_true rfl)⟩ (fun u_3 H locs hw_3 hP hD hS => ?_)
    have hP : va_P G.1 vwCl ([(o, .inr (15, [.int x0, .int (nI f1)]))] ++ wR G a kd (pPullF r (nI f1)) ++ wK ka) H := hP
    have hD : va_D A ([(o, .inr (15, [.int x0, .int (nI f1)]))] ++ wR G a kd (pPullF r (nI f1)) ++ wK ka) := hD
    refine lv_iload_n hx hb dX14_comes_15 rfl (lv_at hl 0 rfl) ?_
    have e8 : pPullF r (nI f1) = tdN (15, f1, 0, 0) r := (tdN_t hok0).symm
    rw [e8] at hP hD
    refine hret _ _ _ _ _ _ (bI (bB r)) kd dX14_comes_16 ?_ hP hD hS (Nat.le_of_ble_eq_true rfl) (Nat.le_of_ble_eq_true rfl)
    exact ⟨rfl, by rw [tdN_t hok0]; exact kOk.pullF hk⟩
set_option maxHeartbeats 4000000 in
set_option maxRecDepth 100000 in
theorem m_comes_X19 (l : Launch) (G : xG) (o : Nat) (x0 : Int32) (a ka : Nat → Nat) (kd : Nat → Option Nat) (r : Rw) (hr : Ok r) (hk : kOk ka kd r) (hp : r 5 3 = 0) (f1 : Nat) (hf1 : f1 ≤ 9) : xCi l G yX14_comes cX14_comes 3 (some .boolean) ({ frames := 2, cells := 0, slots := 0, locals := 42 } : Room) [.ref o, .ref (a 0)] ([(o, .inr (16, [.int x0, .int (nI f1)]))] ++ wR G a kd r ++ wK ka) (S := (Nat → Option Nat)) (fun v kd' => v = bI (tdOk (16, f1, 0, 0) r) ∧ kOk ka kd' (tdN (16, f1, 0, 0) r)) (fun kd' => ([(o, .inr (16, [.int x0, .int (nI f1)]))] ++ wR G a kd' (tdN (16, f1, 0, 0) r) ++ wK ka)) := by
  refine x_openi (by decide) (Nat.le_of_ble_eq_true rfl) (fun _ _ h => by rw [h.1]; exact bI_z _) ?_
  intro p e s m args below meth c A Q ls C0 hK hP hD hA hl hret
  obtain ⟨hx, hb, hml, hown, hts⟩ := id C0
  have hS : va_S A s.heap s.heap [] := va_S.rf
  have hP : va_P G.1 vwCl ([(o, .inr (16, [.int x0, .int (nI f1)]))] ++ wR G a kd r ++ wK ka) s.heap := hP
  have hD : va_D A ([(o, .inr (16, [.int x0, .int (nI f1)]))] ++ wR G a kd r ++ wK ka) := hD
  have hl : lv_has ls 3 [(0, .ref o), (1, .ref (a 0))] := hl
  have hr0 := hr.n
  have hN := hr.le
  refine lv_aload_n hx hb dX14_comes_0 rfl (lv_at hl 0 rfl) ?_
  refine lv_aload_n hx hb dX14_comes_1 rfl (lv_at hl 1 rfl) ?_
  refine x_Ui (wN := fun _ => ([(o, .inr (16, [.int x0, .int (nI f1)]))] ++ wR G a kd r ++ wK ka)) ⟨C0, hK, hP, hD, hS, hA⟩ 0 rfl (ci := 16) rfl rfl ((m_X19_isGood l G o x0 a ka kd r hr hk hp f1 hf1)) (va_cwA (owner := "PulledFromUnder$Told") 1 hts (lw_U q540 q542 q565 q566 q108 q567) rfl rfl rfl (hK.2.D 7 rfl) (by decide +kernel) ⟨Nat.le_of_ble_eq_true rfl, Nat.le_of_ble_eq_true rfl⟩) [0, 1, 2, 3, 4, 5, 6, 7, 8, 9, 10, 11, 12] [1, 3, 5, 7, 9, 11, 13, 15, 17, 19, 21, 23, 25] rfl (fun _ => rfl) rfl rfl hl.1 rfl (Nat.le_of_ble_eq_true rfl) dX14_comes_2 ⟨(Nat.le_of_ble_eq_true rfl), (Nat.le_of_ble_eq_true rfl)⟩ (fun r_1 u_1 H locs hw_1 hP hD hS => ?_)
  have hw_1 : (bI (decide (f1 < mny r) && decide (r 3 f1 ≠ 2)) : Int32) = r_1 := hw_1.symm
  subst hw_1
  refine lv_istore_n (lv' := [(2, .int (bI (decide (f1 < mny r) && decide (r 3 f1 ≠ 2)))), (0, .ref o), (1, .ref (a 0))]) hx hb dX14_comes_5 rfl hl (by decide) rfl (fun ls hl => ?_)
  refine lv_iload_n hx hb dX14_comes_6 rfl (lv_at hl 0 rfl) ?_
  refine lv_if_eq (tgt := 15) hx hb dX14_comes_7 (by decide) (fun c_2 => ?_) (fun c_2 => ?_)
  · skip
    have hok : tdOk (16, f1, 0, 0) r = false := (bI_0.mp c_2 : (decide (f1 < mny r) && decide (r 3 f1 ≠ 2)) = false)
    refine lv_iload_n hx hb dX14_comes_15 rfl (lv_at hl 0 rfl) ?_
    rw [show wR G a kd r = wR G a kd (tdN (16, f1, 0, 0) r) by rw [tdN_f hok]] at hP hD
    refine hret _ _ _ _ _ _ (bI (decide (f1 < mny r) && decide (r 3 f1 ≠ 2))) kd dX14_comes_16 ?_ hP hD hS (Nat.le_of_ble_eq_true rfl) (Nat.le_of_ble_eq_true rfl)
    exact ⟨rfl, by rw [tdN_f hok]; exact hk⟩
  · skip
    have hok : tdOk (16, f1, 0, 0) r = true := (bI_n0 c_2 : (decide (f1 < mny r) && decide (r 3 f1 ≠ 2)) = true)
    have hok0 := hok
    have hok : (decide (f1 < mny r) && decide (r 3 f1 ≠ 2)) = true := hok
    rw [Bool.and_eq_true] at hok
    have hlt := of_decide_eq_true hok.1
    refine lv_aload_n hx hb dX14_comes_10 rfl (lv_at hl 1 rfl) ?_
    refine lv_aload_n hx hb dX14_comes_11 rfl (lv_at hl 2 rfl) ?_
    refine x_Uv (wN := fun _ => ([(o, .inr (16, [.int x0, .int (nI f1)]))] ++ wR G a kd (pSetUp r f1) ++ wK ka)) ⟨C0, hK, hP, hD, hS, hA⟩ 0 rfl (ci := 16) rfl rfl ((m_X19_become l G o x0 a ka kd r hr hk hp f1 hf1 hlt)) (va_cwA (owner := "PulledFromUnder$Told") 1 hts (lw_U q568 q570 q686 q687 q108 q688) rfl rfl rfl (hK.2.D 8 rfl) (by decide +kernel) ⟨Nat.le_of_ble_eq_true rfl, Nat.le_of_ble_eq_true rfl⟩) [0, 1, 2, 3, 4, 5, 6, 7, 8, 9, 10, 11, 12] [1, 3, 5, 7, 9, 11, 13, 15, 17, 19, 21, 23, 25] rfl (fun _ => rfl) rfl rfl hl.1 rfl (Nat.le_of_ble_eq_true rfl) dX14_comes_12 ⟨(Nat.le_of_ble_eq_true rfl), (Nat.le_of_ble_eq_true rfl)⟩ (fun u_3 H locs hw_3 hP hD hS => ?_)
    have hP : va_P G.1 vwCl ([(o, .inr (16, [.int x0, .int (nI f1)]))] ++ wR G a kd (pSetUp r f1) ++ wK ka) H := hP
    have hD : va_D A ([(o, .inr (16, [.int x0, .int (nI f1)]))] ++ wR G a kd (pSetUp r f1) ++ wK ka) := hD
    refine lv_iload_n hx hb dX14_comes_15 rfl (lv_at hl 0 rfl) ?_
    have e8 : pSetUp r f1 = tdN (16, f1, 0, 0) r := (tdN_t hok0).symm
    rw [e8] at hP hD
    refine hret _ _ _ _ _ _ (bI (decide (f1 < mny r) && decide (r 3 f1 ≠ 2))) kd dX14_comes_16 ?_ hP hD hS (Nat.le_of_ble_eq_true rfl) (Nat.le_of_ble_eq_true rfl)
    exact ⟨rfl, by rw [tdN_t hok0]; exact kOk.setUp hk⟩
set_option maxHeartbeats 4000000 in
set_option maxRecDepth 100000 in
theorem m_comes_X20 (l : Launch) (G : xG) (o : Nat) (x0 : Int32) (a ka : Nat → Nat) (kd : Nat → Option Nat) (r : Rw) (hr : Ok r) (hk : kOk ka kd r) (hp : r 5 3 = 0) (f1 : Nat) (hf1 : f1 ≤ 99) : xCi l G yX14_comes cX14_comes 3 (some .boolean) ({ frames := 7, cells := 0, slots := 0, locals := 154 } : Room) [.ref o, .ref (a 0)] ([(o, .inr (17, [.int x0, .int (nI f1)]))] ++ wR G a kd r ++ wK ka) (S := (Nat → Option Nat)) (fun v kd' => v = bI (tdOk (17, f1, 0, 0) r) ∧ kOk ka kd' (tdN (17, f1, 0, 0) r)) (fun kd' => ([(o, .inr (17, [.int x0, .int (nI f1)]))] ++ wR G a kd' (tdN (17, f1, 0, 0) r) ++ wK ka)) := by
  refine x_openi (by decide) (Nat.le_of_ble_eq_true rfl) (fun _ _ h => by rw [h.1]; exact bI_z _) ?_
  intro p e s m args below meth c A Q ls C0 hK hP hD hA hl hret
  obtain ⟨hx, hb, hml, hown, hts⟩ := id C0
  have hS : va_S A s.heap s.heap [] := va_S.rf
  have hP : va_P G.1 vwCl ([(o, .inr (17, [.int x0, .int (nI f1)]))] ++ wR G a kd r ++ wK ka) s.heap := hP
  have hD : va_D A ([(o, .inr (17, [.int x0, .int (nI f1)]))] ++ wR G a kd r ++ wK ka) := hD
  have hl : lv_has ls 3 [(0, .ref o), (1, .ref (a 0))] := hl
  have hr0 := hr.n
  have hN := hr.le
  refine lv_aload_n hx hb dX14_comes_0 rfl (lv_at hl 0 rfl) ?_
  refine lv_aload_n hx hb dX14_comes_1 rfl (lv_at hl 1 rfl) ?_
  refine x_Ui (wN := fun _ => ([(o, .inr (17, [.int x0, .int (nI f1)]))] ++ wR G a kd r ++ wK ka)) ⟨C0, hK, hP, hD, hS, hA⟩ 0 rfl (ci := 17) rfl rfl ((m_X20_isGood l G o x0 a ka kd r hr hk hp f1 hf1)) (va_cwA (owner := "PulledFromUnder$Told") 1 hts (lw_U q540 q542 q549 q550 q109 q551) rfl rfl rfl (hK.2.D 7 rfl) (by decide +kernel) ⟨Nat.le_of_ble_eq_true rfl, Nat.le_of_ble_eq_true rfl⟩) [0, 1, 2, 3, 4, 5, 6, 7, 8, 9, 10, 11, 12] [1, 3, 5, 7, 9, 11, 13, 15, 17, 19, 21, 23, 25] rfl (fun _ => rfl) rfl rfl hl.1 rfl (Nat.le_of_ble_eq_true rfl) dX14_comes_2 ⟨(Nat.le_of_ble_eq_true rfl), (Nat.le_of_ble_eq_true rfl)⟩ (fun r_1 u_1 H locs hw_1 hP hD hS => ?_)
  have hw_1 : (bI (decide (1 ≤ f1 ∧ f1 ≤ 60) && decide (r 5 1 + nI f1 ≤ 999)) : Int32) = r_1 := hw_1.symm
  subst hw_1
  refine lv_istore_n (lv' := [(2, .int (bI (decide (1 ≤ f1 ∧ f1 ≤ 60) && decide (r 5 1 + nI f1 ≤ 999)))), (0, .ref o), (1, .ref (a 0))]) hx hb dX14_comes_5 rfl hl (by decide) rfl (fun ls hl => ?_)
  refine lv_iload_n hx hb dX14_comes_6 rfl (lv_at hl 0 rfl) ?_
  refine lv_if_eq (tgt := 15) hx hb dX14_comes_7 (by decide) (fun c_2 => ?_) (fun c_2 => ?_)
  · skip
    have hok : tdOk (17, f1, 0, 0) r = false := (bI_0.mp c_2 : (decide (1 ≤ f1 ∧ f1 ≤ 60) && decide (r 5 1 + nI f1 ≤ 999)) = false)
    refine lv_iload_n hx hb dX14_comes_15 rfl (lv_at hl 0 rfl) ?_
    rw [show wR G a kd r = wR G a kd (tdN (17, f1, 0, 0) r) by rw [tdN_f hok]] at hP hD
    refine hret _ _ _ _ _ _ (bI (decide (1 ≤ f1 ∧ f1 ≤ 60) && decide (r 5 1 + nI f1 ≤ 999))) kd dX14_comes_16 ?_ hP hD hS (Nat.le_of_ble_eq_true rfl) (Nat.le_of_ble_eq_true rfl)
    exact ⟨rfl, by rw [tdN_f hok]; exact hk⟩
  · skip
    have hok : tdOk (17, f1, 0, 0) r = true := (bI_n0 c_2 : (decide (1 ≤ f1 ∧ f1 ≤ 60) && decide (r 5 1 + nI f1 ≤ 999)) = true)
    have hok0 := hok
    have hok : (decide (1 ≤ f1 ∧ f1 ≤ 60) && decide (r 5 1 + nI f1 ≤ 999)) = true := hok
    refine lv_aload_n hx hb dX14_comes_10 rfl (lv_at hl 1 rfl) ?_
    refine lv_aload_n hx hb dX14_comes_11 rfl (lv_at hl 2 rfl) ?_
    refine x_Uv (wN := fun _ => ([(o, .inr (17, [.int x0, .int (nI f1)]))] ++ wR G a kd (pMins r f1) ++ wK ka)) ⟨C0, hK, hP, hD, hS, hA⟩ 0 rfl (ci := 17) rfl rfl ((m_X20_become l G o x0 a ka kd r hr hk hp f1 hf1)) (va_cwA (owner := "PulledFromUnder$Told") 1 hts (lw_U q568 q570 q619 q620 q109 q621) rfl rfl rfl (hK.2.D 8 rfl) (by decide +kernel) ⟨Nat.le_of_ble_eq_true rfl, Nat.le_of_ble_eq_true rfl⟩) [0, 1, 2, 3, 4, 5, 6, 7, 8, 9, 10, 11, 12] [1, 3, 5, 7, 9, 11, 13, 15, 17, 19, 21, 23, 25] rfl (fun _ => rfl) rfl rfl hl.1 rfl (Nat.le_of_ble_eq_true rfl) dX14_comes_12 ⟨(Nat.le_of_ble_eq_true rfl), (Nat.le_of_ble_eq_true rfl)⟩ (fun u_3 H locs hw_3 hP hD hS => ?_)
    have hP : va_P G.1 vwCl ([(o, .inr (17, [.int x0, .int (nI f1)]))] ++ wR G a kd (pMins r f1) ++ wK ka) H := hP
    have hD : va_D A ([(o, .inr (17, [.int x0, .int (nI f1)]))] ++ wR G a kd (pMins r f1) ++ wK ka) := hD
    refine lv_iload_n hx hb dX14_comes_15 rfl (lv_at hl 0 rfl) ?_
    have e8 : pMins r f1 = tdN (17, f1, 0, 0) r := (tdN_t hok0).symm
    rw [e8] at hP hD
    refine hret _ _ _ _ _ _ (bI (decide (1 ≤ f1 ∧ f1 ≤ 60) && decide (r 5 1 + nI f1 ≤ 999))) kd dX14_comes_16 ?_ hP hD hS (Nat.le_of_ble_eq_true rfl) (Nat.le_of_ble_eq_true rfl)
    exact ⟨rfl, by rw [tdN_t hok0]; exact hk.mins⟩

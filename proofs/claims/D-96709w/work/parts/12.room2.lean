/-! Room, the rest (printed by tools/room2.py) -/
set_option maxHeartbeats 4000000 in
set_option maxRecDepth 100000 in
/-- how many bits -/
theorem m_ones (l : Launch) (G : xG) (b : Nat) (hb1 : b < 1024) : xCi l G yX0_ones cX0_ones 3 (some .int) ({ frames := 0, cells := 0, slots := 0, locals := 0 } : Room) [.int (nI b)] ([] : va_W) (S := Unit) (fun v _ => v = nI (pc b)) (fun _ => []) := by
  refine x_openi (by decide) (Nat.le_of_ble_eq_true rfl) (fun _ _ _ => rfl) ?_
  intro p e s m args below meth c A Q ls C0 hK hP hD hA hl hret
  obtain ⟨hx, hb, hml, hown, hts⟩ := id C0
  have hS : va_S A s.heap s.heap [] := va_S.rf
  have hP : va_P G.1 vwCl ([] : va_W) s.heap := hP
  have hD : va_D A ([] : va_W) := hD
  have hl : lv_has ls 3 [(0, .int (nI b))] := hl
  refine lv_iconst (v := 0) hx hb dX0_ones_0 (by decide) ?_
  refine lv_istore_n (lv' := [(1, .int 0), (0, .int (nI b))]) hx hb dX0_ones_1 rfl hl (by decide) rfl (fun ls hl => ?_)
  refine lv_iload_n hx hb dX0_ones_2 rfl (lv_at hl 1 rfl) ?_
  refine lv_istore_n (lv' := [(2, .int (nI b)), (1, .int 0), (0, .int (nI b))]) hx hb dX0_ones_3 rfl hl (by decide) rfl (fun ls hl => ?_)
  have loop_4 : ∀ (n : Nat) (k b1 : Nat), (b1 < n) → (b1 < 1024) → (k + pc b1 = pc b) → ∀ (H : Heap) (locs : List Loc) (ls : Array Slot), va_P G.1 vwCl ([] : va_W) H → va_D A ([] : va_W) → va_S A s.heap H locs → lv_has ls 3 [(2, .int (nI b1)), (1, .int (nI k)), (0, .int (nI b))] → W p l e ({ frames := 0, cells := 0, slots := 0, locals := 0 } : Room) s m args below meth c H locs 0 0 Q (F0 m 4 ls []) := by
    intro n
    induction n with
    | zero => intro k b1 hi4_0 hi4_1 hi4_2; exact absurd hi4_0 (by omega)
    | succ n ih_4 =>
      intro k b1 hi4_0 hi4_1 hi4_2 H locs ls hP hD hS hl
      refine lv_iload_n hx hb dX0_ones_4 rfl (lv_at hl 0 rfl) ?_
      refine lv_if_eq (tgt := 20) hx hb dX0_ones_5 (by decide) (fun c_1 => ?_) (fun c_1 => ?_)
      · skip
        have e0 : b1 = 0 := (nI_eq (b := 0) (by omega) (by omega)).mp c_1
        refine lv_iload_n hx hb dX0_ones_20 rfl (lv_at hl 1 rfl) ?_
        refine hret _ _ _ _ _ _ (nI k) () dX0_ones_21 ?_ hP hD hS (Nat.le_of_ble_eq_true rfl) (Nat.le_of_ble_eq_true rfl)
        show nI k = nI (pc b)
        rw [← hi4_2, e0, pc_0, Nat.add_zero]
      · skip
        have e1 : b1 ≠ 0 := fun q => c_1 (by rw [q]; rfl)
        refine lv_iinc (v := nI (k + 1)) (lv' := [(1, .int (nI (k + 1))), (2, .int (nI b1)), (0, .int (nI b))]) hx hb dX0_ones_8 hl (k := 1) rfl (x_inc1 _) (by decide) rfl (fun ls hl => ?_)
        refine lv_iload_n hx hb dX0_ones_11 rfl (lv_at hl 1 rfl) ?_
        refine lv_iload_n hx hb dX0_ones_12 rfl (lv_at hl 1 rfl) ?_
        refine lv_iconst (v := 1) hx hb dX0_ones_13 (by decide) ?_
        refine x_isub hx hb dX0_ones_14 (v := nI (b1 - 1)) (pk_sub (b := 1) (by omega)) ?_
        refine x_iand hx hb dX0_ones_15 (v := nI (b1 &&& (b1 - 1))) (nI_and _ _) ?_
        refine lv_istore_n (lv' := [(2, .int (nI (b1 &&& (b1 - 1)))), (1, .int (nI (k + 1))), (0, .int (nI b))]) hx hb dX0_ones_16 rfl hl (by decide) rfl (fun ls hl => ?_)
        refine lv_goto (tgt := 4) hx hb dX0_ones_17 (by decide) ?_
        have hstep := pc_step b1 hi4_1 (by omega)
        exact ih_4 (k + 1) (b1 &&& (b1 - 1)) (by omega) (by omega) (by omega) _ _ _ hP hD hS (lv_sub hl [0, 1, 2] rfl)
  exact loop_4 (b + 1) 0 b (by omega) hb1 (by omega) _ _ _ hP hD hS (lv_sub hl [0, 1, 2] rfl)
set_option maxHeartbeats 4000000 in
set_option maxRecDepth 100000 in
theorem m_standing (l : Launch) (G : xG) (a ka : Nat → Nat) (kd : Nat → Option Nat) (r : Rw) (hr : Ok r) (hk : kOk ka kd r) : xCi l G yX8_standing cX8_standing 1 (some .int) ({ frames := 1, cells := 0, slots := 0, locals := 23 } : Room) [.ref (a 0)] (wR G a kd r ++ wK ka) (S := Unit) (fun v _ => v = pStN r) (fun _ => wR G a kd r ++ wK ka) := by
  refine x_openi (by decide) (Nat.le_of_ble_eq_true rfl) (fun _ _ _ => rfl) ?_
  intro p e s m args below meth c A Q ls C0 hK hP hD hA hl hret
  obtain ⟨hx, hb, hml, hown, hts⟩ := id C0
  have hS : va_S A s.heap s.heap [] := va_S.rf
  have hP : va_P G.1 vwCl (wR G a kd r ++ wK ka) s.heap := hP
  have hD : va_D A (wR G a kd r ++ wK ka) := hD
  have hl : lv_has ls 1 [(0, .ref (a 0))] := hl
  have hr0 := hr.n
  have hN := hr.le
  refine lv_aload_n hx hb dX8_standing_0 rfl (lv_at hl 0 rfl) ?_
  refine lv_iconst (v := 0) hx hb dX8_standing_1 (by decide) ?_
  refine x_Vi (wN := fun _ => (wR G a kd r ++ wK ka)) ⟨C0, hK, hP, hD, hS, hA⟩ 0 rfl (ci := 7) rfl rfl ((m_bits l G a ka kd r hr hk 0)) (cwV 1 hts (lw_V q642 q643 q644 q94 q645) rfl rfl rfl (by decide +kernel) ⟨Nat.le_of_ble_eq_true rfl, Nat.le_of_ble_eq_true rfl⟩) [0, 1, 2, 3, 4, 5, 6, 7, 8, 9, 10, 11] [1, 3, 5, 7, 9, 11, 13, 15, 17, 19, 21, 23] rfl (fun _ => rfl) rfl rfl hl.1 rfl (Nat.le_of_ble_eq_true rfl) dX8_standing_2 ⟨Nat.le_of_ble_eq_true rfl, Nat.le_of_ble_eq_true rfl⟩ (fun r_1 u_1 H locs hw_1 hP hD hS => ?_)
  have hw_1 : (pSet r 0 : Int32) = r_1 := hw_1.symm
  subst hw_1
  rw [pSet_bn hN]
  refine x_SNi (wN := fun _ => (wR G a kd r ++ wK ka)) ⟨C0, hK, hP, hD, hS, hA⟩ ((m_ones l G (bn (pHow r 0) (mny r)) (bn_1024 hN))) ⟨va_cnB 1 hts (lw_meth q777) rfl rfl rfl (hK.2.M 20 rfl) (hts _ q86) (by decide +kernel) ⟨Nat.le_of_ble_eq_true rfl, Nat.le_of_ble_eq_true rfl⟩, hts _ q776, trivial⟩ [] [0, 2, 4, 6, 8, 10, 12, 14, 16, 18, 20, 22] rfl (fun _ => rfl) rfl rfl hl.1 rfl (Nat.le_of_ble_eq_true rfl) dX8_standing_5 ⟨Nat.le_of_ble_eq_true rfl, Nat.le_of_ble_eq_true rfl⟩ (fun r_2 u_2 H locs hw_2 hP hD hS => ?_)
  have hw_2 : (nI (pc (bn (pHow r 0) (mny r))) : Int32) = r_2 := hw_2.symm
  subst hw_2
  refine hret _ _ _ _ _ _ (nI (pc (bn (pHow r 0) (mny r)))) () dX8_standing_8 ?_ hP hD hS (Nat.le_of_ble_eq_true rfl) (Nat.le_of_ble_eq_true rfl)
  exact pStN_pc hN
set_option maxHeartbeats 4000000 in
set_option maxRecDepth 100000 in
theorem m_minutesOn (l : Launch) (G : xG) (a ka : Nat → Nat) (kd : Nat → Option Nat) (r : Rw) (hr : Ok r) (hk : kOk ka kd r) (k : Nat) (hk1 : k < 2 ^ 30) : xCr l G yX8_minutesOn cX8_minutesOn 3 (some (.object "PulledFromUnder$Room")) ({ frames := 5, cells := 0, slots := 0, locals := 111 } : Room) [.ref (a 0), .int (nI k)] (wR G a kd r ++ wK ka) (S := Unit) (fun _ => True) (fun _ => a 0) (fun _ => wR G a kd (pMins r k) ++ wK ka) := by
  refine x_openr (by decide) (Nat.le_of_ble_eq_true rfl) (Or.inl ⟨_, rfl⟩) ?_
  intro p e s m args below meth c A Q ls C0 hK hP hD hA hl hret
  obtain ⟨hx, hb, hml, hown, hts⟩ := id C0
  have hS : va_S A s.heap s.heap [] := va_S.rf
  have hP : va_P G.1 vwCl (wR G a kd r ++ wK ka) s.heap := hP
  have hD : va_D A (wR G a kd r ++ wK ka) := hD
  have hl : lv_has ls 3 [(0, .ref (a 0)), (1, .int (nI k))] := hl
  have hr0 := hr.n
  have hN := hr.le
  refine lv_iconst (v := 0) hx hb dX8_minutesOn_0 (by decide) ?_
  refine lv_istore_n (lv' := [(2, .int 0), (0, .ref (a 0)), (1, .int (nI k))]) hx hb dX8_minutesOn_1 rfl hl (by decide) rfl (fun ls hl => ?_)
  have loop_2 : ∀ (n : Nat) (i : Nat), (i ≤ k) → (k < i + n) → ∀ (H : Heap) (locs : List Loc) (ls : Array Slot), va_P G.1 vwCl (wR G a kd (pMins r i) ++ wK ka) H → va_D A (wR G a kd (pMins r i) ++ wK ka) → va_S A s.heap H locs → lv_has ls 3 [(2, .int (nI i)), (0, .ref (a 0)), (1, .int (nI k))] → W p l e ({ frames := 5, cells := 0, slots := 0, locals := 111 } : Room) s m args below meth c H locs 0 0 Q (F0 m 2 ls []) := by
    intro n
    induction n with
    | zero => intro i hi2_0 hi2_1; exact absurd hi2_1 (by omega)
    | succ n ih_2 =>
      intro i hi2_0 hi2_1 H locs ls hP hD hS hl
      refine lv_iload_n hx hb dX8_minutesOn_2 rfl (lv_at hl 0 rfl) ?_
      refine lv_iload_n hx hb dX8_minutesOn_3 rfl (lv_at hl 2 rfl) ?_
      refine lv_icmp_ge (tgt := 18) hx hb dX8_minutesOn_4 (by decide) (fun c_1 => ?_) (fun c_1 => ?_)
      · skip
        have g_1 := (nI_leI (by omega) (by omega)).mp c_1
        refine lv_aload_n hx hb dX8_minutesOn_18 rfl (lv_at hl 1 rfl) ?_
        have ei : i = k := by omega
        rw [ei] at hP hD
        refine hret _ _ _ _ _ _ () dX8_minutesOn_19 ?_ hP hD hS (Nat.le_of_ble_eq_true rfl) (Nat.le_of_ble_eq_true rfl)
        trivial
      · skip
        have g_1 := mt (nI_leI (by omega) (by omega)).mpr c_1
        refine lv_aload_n hx hb dX8_minutesOn_7 rfl (lv_at hl 1 rfl) ?_
        refine lv_iconst (v := 0) hx hb dX8_minutesOn_8 (by decide) ?_
        refine x_Vv (wN := fun _ => (wR G a kd (pMin (pMins r i) 0) ++ wK ka)) ⟨C0, hK, hP, hD, hS, hA⟩ 0 rfl (ci := 7) rfl rfl ((m_minuteOn l G a ka kd (pMins r i) (hr.mins) (hk.mins) 0)) (cwV 1 hts (lw_V q626 q627 q628 q94 q629) rfl rfl rfl (by decide +kernel) ⟨Nat.le_of_ble_eq_true rfl, Nat.le_of_ble_eq_true rfl⟩) [0, 1, 2, 3, 4, 5, 6, 7, 8, 9, 10, 11] [1, 3, 5, 7, 9, 11, 13, 15, 17, 19, 21, 23] rfl (fun _ => rfl) rfl rfl hl.1 rfl (Nat.le_of_ble_eq_true rfl) dX8_minutesOn_9 ⟨Nat.le_of_ble_eq_true rfl, Nat.le_of_ble_eq_true rfl⟩ (fun u_2 H locs hw_2 hP hD hS => ?_)
        have hP : va_P G.1 vwCl (wR G a kd (pMin (pMins r i) 0) ++ wK ka) H := hP
        have hD : va_D A (wR G a kd (pMin (pMins r i) 0) ++ wK ka) := hD
        refine lv_iinc (v := nI (i + 1)) (lv' := [(2, .int (nI (i + 1))), (0, .ref (a 0)), (1, .int (nI k))]) hx hb dX8_minutesOn_12 hl (k := 0) rfl (x_inc1 _) (by decide) rfl (fun ls hl => ?_)
        refine lv_goto (tgt := 2) hx hb dX8_minutesOn_15 (by decide) ?_
        exact ih_2 (i + 1) (by omega) (by omega) _ _ _ hP hD hS (lv_sub hl [0, 1, 2] rfl)
  exact loop_2 (k + 1) 0 (Nat.zero_le _) (by omega) _ _ _ hP hD hS (lv_sub hl [0, 1, 2] rfl)
set_option maxHeartbeats 4000000 in
set_option maxRecDepth 100000 in
/-- the room o, taken over -/
theorem m_set (l : Launch) (G : xG) (a b ka : Nat → Nat) (kdm kd : Nat → Option Nat) (rm r : Rw) (hr : Ok r) (hk : kOk ka kd r) (hp : r 5 3 = 0) : xCr l G yX8_set cX8_set 2 (some (.object "PulledFromUnder$Room")) ({ frames := 1, cells := 0, slots := 0, locals := 80 } : Room) [.ref (a 0), .ref (b 0)] (wR G a kdm rm ++ wR G b kd r ++ wK ka) (S := Unit) (fun _ => True) (fun _ => a 0) (fun _ => wR G a kd r ++ wR G b kd r ++ wK ka) := by
  refine x_openr (by decide) (Nat.le_of_ble_eq_true rfl) (Or.inl ⟨_, rfl⟩) ?_
  intro p e s m args below meth c A Q ls C0 hK hP hD hA hl hret
  obtain ⟨hx, hb, hml, hown, hts⟩ := id C0
  have hS : va_S A s.heap s.heap [] := va_S.rf
  have hP : va_P G.1 vwCl (wR G a kdm rm ++ wR G b kd r ++ wK ka) s.heap := hP
  have hD : va_D A (wR G a kdm rm ++ wR G b kd r ++ wK ka) := hD
  have hl : lv_has ls 2 [(0, .ref (a 0)), (1, .ref (b 0))] := hl
  refine lv_aload_n hx hb dX8_set_0 rfl (lv_at hl 0 rfl) ?_
  refine lv_aload_n hx hb dX8_set_1 rfl (lv_at hl 1 rfl) ?_
  refine va_get (D := G.1) (ci := 7) (v := .int (r 5 0)) (C := RX8) (T := TX8) (N := 9) hx hb hts in_X8 hown hK.1 hP 6 rfl rfl 0 (by decide) (hts _ q174) (fun _ h9 => h9) rfl dX8_set_2 ?_
  refine va_put (D := G.1) (ci := 7) (v := .int (r 5 0)) (ty := .int) (C := RX8) (T := TX8) (N := 9) hx hb hts in_X8 tyX8 tyX8_ok nmX8 hown hK.1 hP hD hS 0 rfl rfl 0 (by decide) (hts _ q174) (fun _ h9 => h9) rfl (by decide +kernel) rfl rfl (Nat.le_of_ble_eq_true rfl) dX8_set_5 (fun H locs hP hD hS => ?_)
  have hP : va_P G.1 vwCl (wR G a kdm (sf rm 5 (upd (rm 5) 0 (r 5 0))) ++ wR G b kd r ++ wK ka) H := hP
  have hD : va_D A (wR G a kdm (sf rm 5 (upd (rm 5) 0 (r 5 0))) ++ wR G b kd r ++ wK ka) := hD
  refine lv_aload_n hx hb dX8_set_8 rfl (lv_at hl 0 rfl) ?_
  refine lv_aload_n hx hb dX8_set_9 rfl (lv_at hl 1 rfl) ?_
  refine va_get (D := G.1) (ci := 7) (v := .int (r 5 2)) (C := RX8) (T := TX8) (N := 9) hx hb hts in_X8 hown hK.1 hP 6 rfl rfl 6 (by decide) (hts _ q191) (fun _ h9 => h9) rfl dX8_set_10 ?_
  refine va_put (D := G.1) (ci := 7) (v := .int (r 5 2)) (ty := .boolean) (C := RX8) (T := TX8) (N := 9) hx hb hts in_X8 tyX8 tyX8_ok nmX8 hown hK.1 hP hD hS 0 rfl rfl 6 (by decide) (hts _ q191) (fun _ h9 => h9) rfl (by decide +kernel) (by rw [hr.fl]; exact bI_z _) (by rw [hr.fl]; exact bI_ft _) (Nat.le_of_ble_eq_true rfl) dX8_set_13 (fun H locs hP hD hS => ?_)
  have hP : va_P G.1 vwCl (wR G a kdm (sf rm 5 (upd (upd (rm 5) 0 (r 5 0)) 2 (r 5 2))) ++ wR G b kd r ++ wK ka) H := hP
  have hD : va_D A (wR G a kdm (sf rm 5 (upd (upd (rm 5) 0 (r 5 0)) 2 (r 5 2))) ++ wR G b kd r ++ wK ka) := hD
  refine lv_aload_n hx hb dX8_set_16 rfl (lv_at hl 0 rfl) ?_
  refine lv_aload_n hx hb dX8_set_17 rfl (lv_at hl 1 rfl) ?_
  refine va_get (D := G.1) (ci := 7) (v := .int (r 5 1)) (C := RX8) (T := TX8) (N := 9) hx hb hts in_X8 hown hK.1 hP 6 rfl rfl 7 (by decide) (hts _ q196) (fun _ h9 => h9) rfl dX8_set_18 ?_
  refine va_put (D := G.1) (ci := 7) (v := .int (r 5 1)) (ty := .int) (C := RX8) (T := TX8) (N := 9) hx hb hts in_X8 tyX8 tyX8_ok nmX8 hown hK.1 hP hD hS 0 rfl rfl 7 (by decide) (hts _ q196) (fun _ h9 => h9) rfl (by decide +kernel) rfl rfl (Nat.le_of_ble_eq_true rfl) dX8_set_21 (fun H locs hP hD hS => ?_)
  have hP : va_P G.1 vwCl (wR G a kdm (sf rm 5 (upd (upd (upd (rm 5) 0 (r 5 0)) 2 (r 5 2)) 1 (r 5 1))) ++ wR G b kd r ++ wK ka) H := hP
  have hD : va_D A (wR G a kdm (sf rm 5 (upd (upd (upd (rm 5) 0 (r 5 0)) 2 (r 5 2)) 1 (r 5 1))) ++ wR G b kd r ++ wK ka) := hD
  refine lv_aload_n hx hb dX8_set_24 rfl (lv_at hl 0 rfl) ?_
  refine lv_iconst (v := (r 5 3)) hx hb dX8_set_25 (by rw [hp]; rfl) ?_
  refine va_put (D := G.1) (ci := 7) (v := .int (r 5 3)) (ty := .int) (C := RX8) (T := TX8) (N := 9) hx hb hts in_X8 tyX8 tyX8_ok nmX8 hown hK.1 hP hD hS 0 rfl rfl 8 (by decide) (hts _ q198) (fun _ h9 => h9) rfl (by decide +kernel) rfl rfl (Nat.le_of_ble_eq_true rfl) dX8_set_26 (fun H locs hP hD hS => ?_)
  have hP : va_P G.1 vwCl (wR G a kdm (sf rm 5 (upd (upd (upd (upd (rm 5) 0 (r 5 0)) 2 (r 5 2)) 1 (r 5 1)) 3 (r 5 3))) ++ wR G b kd r ++ wK ka) H := hP
  have hD : va_D A (wR G a kdm (sf rm 5 (upd (upd (upd (upd (rm 5) 0 (r 5 0)) 2 (r 5 2)) 1 (r 5 1)) 3 (r 5 3))) ++ wR G b kd r ++ wK ka) := hD
  refine lv_aload_n hx hb dX8_set_29 rfl (lv_at hl 1 rfl) ?_
  refine va_get (D := G.1) (ci := 7) (v := .ref (b 1)) (C := RX8) (T := TX8) (N := 9) hx hb hts in_X8 hown hK.1 hP 6 rfl rfl 1 (by decide) (hts _ q180) (fun _ h9 => h9) rfl dX8_set_30 ?_
  refine lv_iconst (v := 0) hx hb dX8_set_33 (by decide) ?_
  refine lv_aload_n hx hb dX8_set_34 rfl (lv_at hl 0 rfl) ?_
  refine va_get (D := G.1) (ci := 7) (v := .ref (a 1)) (C := RX8) (T := TX8) (N := 9) hx hb hts in_X8 hown hK.1 hP 0 rfl rfl 1 (by decide) (hts _ q180) (fun _ h9 => h9) rfl dX8_set_35 ?_
  refine lv_iconst (v := 0) hx hb dX8_set_38 (by decide) ?_
  refine lv_bipush (v := 10) hx hb dX8_set_39 (by decide) ?_
  refine va_copyM hx hb (by rw [hml]; exact hl.1.symm) hown (hts _ q527) (hts _ q529) (hts _ q528) (hts _ q110) hK.1 hP hD hS 7 1 3 3 rfl rfl rfl rfl (by decide) (by decide) (by decide) (Nat.le_of_ble_eq_true rfl) (Nat.le_of_ble_eq_true rfl) (set_any hK hP 12 (fun c hc => by rcases (show c = 0 ∨ c = 1 ∨ c = 2 ∨ c = 3 ∨ c = 4 ∨ c = 5 by omega) with rfl | rfl | rfl | rfl | rfl | rfl <;> rfl) hk.2) (Nat.le_of_ble_eq_true rfl) (Nat.le_of_ble_eq_true rfl) dX8_set_41 (fun H locs hP hD hS => ?_)
  have hP := x_extq hP 1 rfl kd (fun j hj => x_cpy hj)
  have hD := x_Dset hD 1 rfl (.inl (G.2 3, 10, .inr (.inr (.inr (.inr kd)))))
  have hP : va_P G.1 vwCl (wR G a kd (sf rm 5 (upd (upd (upd (upd (rm 5) 0 (r 5 0)) 2 (r 5 2)) 1 (r 5 1)) 3 (r 5 3))) ++ wR G b kd r ++ wK ka) H := hP
  have hD : va_D A (wR G a kd (sf rm 5 (upd (upd (upd (upd (rm 5) 0 (r 5 0)) 2 (r 5 2)) 1 (r 5 1)) 3 (r 5 3))) ++ wR G b kd r ++ wK ka) := hD
  refine lv_aload_n hx hb dX8_set_44 rfl (lv_at hl 1 rfl) ?_
  refine va_get (D := G.1) (ci := 7) (v := .ref (b 2)) (C := RX8) (T := TX8) (N := 9) hx hb hts in_X8 hown hK.1 hP 6 rfl rfl 2 (by decide) (hts _ q182) (fun _ h9 => h9) rfl dX8_set_45 ?_
  refine lv_iconst (v := 0) hx hb dX8_set_48 (by decide) ?_
  refine lv_aload_n hx hb dX8_set_49 rfl (lv_at hl 0 rfl) ?_
  refine va_get (D := G.1) (ci := 7) (v := .ref (a 2)) (C := RX8) (T := TX8) (N := 9) hx hb hts in_X8 hown hK.1 hP 0 rfl rfl 2 (by decide) (hts _ q182) (fun _ h9 => h9) rfl dX8_set_50 ?_
  refine lv_iconst (v := 0) hx hb dX8_set_53 (by decide) ?_
  refine lv_bipush (v := 10) hx hb dX8_set_54 (by decide) ?_
  refine va_copyi hx hb (by rw [hml]; exact hl.1.symm) hown (hts _ q527) (hts _ q529) (hts _ q528) (hts _ q110) hK.1 hP hD hS 8 2 0 0 rfl rfl rfl rfl rfl (by decide) (by decide) (by decide) (Nat.le_of_ble_eq_true rfl) (Nat.le_of_ble_eq_true rfl) (fun _ _ => rfl) (Nat.le_of_ble_eq_true rfl) (Nat.le_of_ble_eq_true rfl) dX8_set_56 (fun H locs hP hD hS => ?_)
  have hP := x_ext hP 2 rfl (r 1) (fun j hj => x_cpy hj)
  have hD := x_Dset hD 2 rfl (.inl (G.2 0, 10, .inl (r 1)))
  have hP : va_P G.1 vwCl (wR G a kd (sf (sf rm 5 (upd (upd (upd (upd (rm 5) 0 (r 5 0)) 2 (r 5 2)) 1 (r 5 1)) 3 (r 5 3))) 1 (r 1)) ++ wR G b kd r ++ wK ka) H := hP
  have hD : va_D A (wR G a kd (sf (sf rm 5 (upd (upd (upd (upd (rm 5) 0 (r 5 0)) 2 (r 5 2)) 1 (r 5 1)) 3 (r 5 3))) 1 (r 1)) ++ wR G b kd r ++ wK ka) := hD
  refine lv_aload_n hx hb dX8_set_59 rfl (lv_at hl 1 rfl) ?_
  refine va_get (D := G.1) (ci := 7) (v := .ref (b 3)) (C := RX8) (T := TX8) (N := 9) hx hb hts in_X8 hown hK.1 hP 6 rfl rfl 3 (by decide) (hts _ q184) (fun _ h9 => h9) rfl dX8_set_60 ?_
  refine lv_iconst (v := 0) hx hb dX8_set_63 (by decide) ?_
  refine lv_aload_n hx hb dX8_set_64 rfl (lv_at hl 0 rfl) ?_
  refine va_get (D := G.1) (ci := 7) (v := .ref (a 3)) (C := RX8) (T := TX8) (N := 9) hx hb hts in_X8 hown hK.1 hP 0 rfl rfl 3 (by decide) (hts _ q184) (fun _ h9 => h9) rfl dX8_set_65 ?_
  refine lv_iconst (v := 0) hx hb dX8_set_68 (by decide) ?_
  refine lv_bipush (v := 10) hx hb dX8_set_69 (by decide) ?_
  refine va_copyi hx hb (by rw [hml]; exact hl.1.symm) hown (hts _ q527) (hts _ q529) (hts _ q528) (hts _ q110) hK.1 hP hD hS 9 3 0 0 rfl rfl rfl rfl rfl (by decide) (by decide) (by decide) (Nat.le_of_ble_eq_true rfl) (Nat.le_of_ble_eq_true rfl) (fun _ _ => rfl) (Nat.le_of_ble_eq_true rfl) (Nat.le_of_ble_eq_true rfl) dX8_set_71 (fun H locs hP hD hS => ?_)
  have hP := x_ext hP 3 rfl (r 2) (fun j hj => x_cpy hj)
  have hD := x_Dset hD 3 rfl (.inl (G.2 0, 10, .inl (r 2)))
  have hP : va_P G.1 vwCl (wR G a kd (sf (sf (sf rm 5 (upd (upd (upd (upd (rm 5) 0 (r 5 0)) 2 (r 5 2)) 1 (r 5 1)) 3 (r 5 3))) 1 (r 1)) 2 (r 2)) ++ wR G b kd r ++ wK ka) H := hP
  have hD : va_D A (wR G a kd (sf (sf (sf rm 5 (upd (upd (upd (upd (rm 5) 0 (r 5 0)) 2 (r 5 2)) 1 (r 5 1)) 3 (r 5 3))) 1 (r 1)) 2 (r 2)) ++ wR G b kd r ++ wK ka) := hD
  refine lv_aload_n hx hb dX8_set_74 rfl (lv_at hl 1 rfl) ?_
  refine va_get (D := G.1) (ci := 7) (v := .ref (b 4)) (C := RX8) (T := TX8) (N := 9) hx hb hts in_X8 hown hK.1 hP 6 rfl rfl 4 (by decide) (hts _ q186) (fun _ h9 => h9) rfl dX8_set_75 ?_
  refine lv_iconst (v := 0) hx hb dX8_set_78 (by decide) ?_
  refine lv_aload_n hx hb dX8_set_79 rfl (lv_at hl 0 rfl) ?_
  refine va_get (D := G.1) (ci := 7) (v := .ref (a 4)) (C := RX8) (T := TX8) (N := 9) hx hb hts in_X8 hown hK.1 hP 0 rfl rfl 4 (by decide) (hts _ q186) (fun _ h9 => h9) rfl dX8_set_80 ?_
  refine lv_iconst (v := 0) hx hb dX8_set_83 (by decide) ?_
  refine lv_bipush (v := 10) hx hb dX8_set_84 (by decide) ?_
  refine va_copyi hx hb (by rw [hml]; exact hl.1.symm) hown (hts _ q527) (hts _ q529) (hts _ q528) (hts _ q110) hK.1 hP hD hS 10 4 0 0 rfl rfl rfl rfl rfl (by decide) (by decide) (by decide) (Nat.le_of_ble_eq_true rfl) (Nat.le_of_ble_eq_true rfl) (fun _ _ => rfl) (Nat.le_of_ble_eq_true rfl) (Nat.le_of_ble_eq_true rfl) dX8_set_86 (fun H locs hP hD hS => ?_)
  have hP := x_ext hP 4 rfl (r 3) (fun j hj => x_cpy hj)
  have hD := x_Dset hD 4 rfl (.inl (G.2 0, 10, .inl (r 3)))
  have hP : va_P G.1 vwCl (wR G a kd (sf (sf (sf (sf rm 5 (upd (upd (upd (upd (rm 5) 0 (r 5 0)) 2 (r 5 2)) 1 (r 5 1)) 3 (r 5 3))) 1 (r 1)) 2 (r 2)) 3 (r 3)) ++ wR G b kd r ++ wK ka) H := hP
  have hD : va_D A (wR G a kd (sf (sf (sf (sf rm 5 (upd (upd (upd (upd (rm 5) 0 (r 5 0)) 2 (r 5 2)) 1 (r 5 1)) 3 (r 5 3))) 1 (r 1)) 2 (r 2)) 3 (r 3)) ++ wR G b kd r ++ wK ka) := hD
  refine lv_aload_n hx hb dX8_set_89 rfl (lv_at hl 1 rfl) ?_
  refine va_get (D := G.1) (ci := 7) (v := .ref (b 5)) (C := RX8) (T := TX8) (N := 9) hx hb hts in_X8 hown hK.1 hP 6 rfl rfl 5 (by decide) (hts _ q189) (fun _ h9 => h9) rfl dX8_set_90 ?_
  refine lv_iconst (v := 0) hx hb dX8_set_93 (by decide) ?_
  refine lv_aload_n hx hb dX8_set_94 rfl (lv_at hl 0 rfl) ?_
  refine va_get (D := G.1) (ci := 7) (v := .ref (a 5)) (C := RX8) (T := TX8) (N := 9) hx hb hts in_X8 hown hK.1 hP 0 rfl rfl 5 (by decide) (hts _ q189) (fun _ h9 => h9) rfl dX8_set_95 ?_
  refine lv_iconst (v := 0) hx hb dX8_set_98 (by decide) ?_
  refine lv_bipush (v := 10) hx hb dX8_set_99 (by decide) ?_
  refine va_copyi hx hb (by rw [hml]; exact hl.1.symm) hown (hts _ q527) (hts _ q529) (hts _ q528) (hts _ q110) hK.1 hP hD hS 11 5 0 0 rfl rfl rfl rfl rfl (by decide) (by decide) (by decide) (Nat.le_of_ble_eq_true rfl) (Nat.le_of_ble_eq_true rfl) (fun _ _ => rfl) (Nat.le_of_ble_eq_true rfl) (Nat.le_of_ble_eq_true rfl) dX8_set_101 (fun H locs hP hD hS => ?_)
  have hP := x_ext hP 5 rfl (r 4) (fun j hj => x_cpy hj)
  have hD := x_Dset hD 5 rfl (.inl (G.2 0, 10, .inl (r 4)))
  have hP : va_P G.1 vwCl (wR G a kd (sf (sf (sf (sf (sf rm 5 (upd (upd (upd (upd (rm 5) 0 (r 5 0)) 2 (r 5 2)) 1 (r 5 1)) 3 (r 5 3))) 1 (r 1)) 2 (r 2)) 3 (r 3)) 4 (r 4)) ++ wR G b kd r ++ wK ka) H := hP
  have hD : va_D A (wR G a kd (sf (sf (sf (sf (sf rm 5 (upd (upd (upd (upd (rm 5) 0 (r 5 0)) 2 (r 5 2)) 1 (r 5 1)) 3 (r 5 3))) 1 (r 1)) 2 (r 2)) 3 (r 3)) 4 (r 4)) ++ wR G b kd r ++ wK ka) := hD
  refine lv_aload_n hx hb dX8_set_104 rfl (lv_at hl 0 rfl) ?_
  refine hret _ _ _ _ _ _ () dX8_set_105 ?_ hP hD hS (Nat.le_of_ble_eq_true rfl) (Nat.le_of_ble_eq_true rfl)
  trivial
set_option maxHeartbeats 4000000 in
set_option maxRecDepth 100000 in
theorem m_comes (l : Launch) (G : xG) (a ka : Nat → Nat) (kd : Nat → Option Nat) (r : Rw) (hr : Ok r) (hk : kOk ka kd r) (kc f : Nat) (u : Int32) (hc : kc < 6) (hm : mny r < 10) : xCv l G yX8_comes cX8_comes 4 none ({ frames := 0, cells := 0, slots := 0, locals := 0 } : Room) [.ref (a 0), .ref (ka kc), .int (nI f), .int u] (wR G a kd r ++ wK ka) (S := Unit) (fun _ => True) (fun _ => wR G a (va_up kd (mny r) (some (ka kc))) (pCome r kc (nI f) u) ++ wK ka) := by
  refine x_openv (by decide) (Nat.le_of_ble_eq_true rfl) ?_
  intro p e s m args below meth c A Q ls C0 hK hP hD hA hl hret
  obtain ⟨hx, hb, hml, hown, hts⟩ := id C0
  have hS : va_S A s.heap s.heap [] := va_S.rf
  have hP : va_P G.1 vwCl (wR G a kd r ++ wK ka) s.heap := hP
  have hD : va_D A (wR G a kd r ++ wK ka) := hD
  have hl : lv_has ls 4 [(0, .ref (a 0)), (1, .ref (ka kc)), (2, .int (nI f)), (3, .int u)] := hl
  have hr0 := hr.n
  have hN := hr.le
  refine lv_aload_n hx hb dX8_comes_0 rfl (lv_at hl 0 rfl) ?_
  refine va_get (D := G.1) (ci := 7) (v := .ref (a 1)) (C := RX8) (T := TX8) (N := 9) hx hb hts in_X8 hown hK.1 hP 0 rfl rfl 1 (by decide) (hts _ q180) (fun _ h9 => h9) rfl dX8_comes_1 ?_
  refine lv_aload_n hx hb dX8_comes_4 rfl (lv_at hl 0 rfl) ?_
  refine va_get (D := G.1) (ci := 7) (v := .int (nI (mny r))) (C := RX8) (T := TX8) (N := 9) hx hb hts in_X8 hown hK.1 hP 0 rfl rfl 0 (by decide) (hts _ q174) (fun _ h9 => h9) (x_some hr0) dX8_comes_5 ?_
  refine lv_aload_n hx hb dX8_comes_8 rfl (lv_at hl 1 rfl) ?_
  refine x_aastn (k := (mny r)) hx hb hK.1 hP hD hS 1 3 rfl rfl (kAny hK hP 6 (fun c hc => by rcases (show c = 0 ∨ c = 1 ∨ c = 2 ∨ c = 3 ∨ c = 4 ∨ c = 5 by omega) with rfl | rfl | rfl | rfl | rfl | rfl <;> rfl) hc) (by omega) (by decide) dX8_comes_9 (fun H locs hP hD hS => ?_)
  have hP : va_P G.1 vwCl (wR G a (va_up kd (mny r) (some (ka kc))) r ++ wK ka) H := hP
  have hD : va_D A (wR G a (va_up kd (mny r) (some (ka kc))) r ++ wK ka) := hD
  refine lv_aload_n hx hb dX8_comes_10 rfl (lv_at hl 0 rfl) ?_
  refine va_get (D := G.1) (ci := 7) (v := .ref (a 2)) (C := RX8) (T := TX8) (N := 9) hx hb hts in_X8 hown hK.1 hP 0 rfl rfl 2 (by decide) (hts _ q182) (fun _ h9 => h9) rfl dX8_comes_11 ?_
  refine lv_aload_n hx hb dX8_comes_14 rfl (lv_at hl 0 rfl) ?_
  refine va_get (D := G.1) (ci := 7) (v := .int (nI (mny r))) (C := RX8) (T := TX8) (N := 9) hx hb hts in_X8 hown hK.1 hP 0 rfl rfl 0 (by decide) (hts _ q174) (fun _ h9 => h9) (x_some hr0) dX8_comes_15 ?_
  refine lv_iload_n hx hb dX8_comes_18 rfl (lv_at hl 2 rfl) ?_
  refine x_iastn (k := (mny r)) hx hb hK.1 hP hD hS 2 0 rfl rfl (by omega) (by decide) (g := upd (r 1) (mny r) (nI f)) rfl dX8_comes_19 (fun H locs hP hD hS => ?_)
  have hP : va_P G.1 vwCl (wR G a (va_up kd (mny r) (some (ka kc))) (sf r 1 (upd (r 1) (mny r) (nI f))) ++ wK ka) H := hP
  have hD : va_D A (wR G a (va_up kd (mny r) (some (ka kc))) (sf r 1 (upd (r 1) (mny r) (nI f))) ++ wK ka) := hD
  refine lv_aload_n hx hb dX8_comes_20 rfl (lv_at hl 0 rfl) ?_
  refine va_get (D := G.1) (ci := 7) (v := .ref (a 3)) (C := RX8) (T := TX8) (N := 9) hx hb hts in_X8 hown hK.1 hP 0 rfl rfl 3 (by decide) (hts _ q184) (fun _ h9 => h9) rfl dX8_comes_21 ?_
  refine lv_aload_n hx hb dX8_comes_24 rfl (lv_at hl 0 rfl) ?_
  refine va_get (D := G.1) (ci := 7) (v := .int (nI (mny r))) (C := RX8) (T := TX8) (N := 9) hx hb hts in_X8 hown hK.1 hP 0 rfl rfl 0 (by decide) (hts _ q174) (fun _ h9 => h9) (x_some hr0) dX8_comes_25 ?_
  refine lv_iload_n hx hb dX8_comes_28 rfl (lv_at hl 3 rfl) ?_
  refine x_iastn (k := (mny r)) hx hb hK.1 hP hD hS 3 0 rfl rfl (by omega) (by decide) (g := upd (r 2) (mny r) u) rfl dX8_comes_29 (fun H locs hP hD hS => ?_)
  have hP : va_P G.1 vwCl (wR G a (va_up kd (mny r) (some (ka kc))) (sf (sf r 1 (upd (r 1) (mny r) (nI f))) 2 (upd (r 2) (mny r) u)) ++ wK ka) H := hP
  have hD : va_D A (wR G a (va_up kd (mny r) (some (ka kc))) (sf (sf r 1 (upd (r 1) (mny r) (nI f))) 2 (upd (r 2) (mny r) u)) ++ wK ka) := hD
  refine lv_aload_n hx hb dX8_comes_30 rfl (lv_at hl 0 rfl) ?_
  refine va_get (D := G.1) (ci := 7) (v := .ref (a 4)) (C := RX8) (T := TX8) (N := 9) hx hb hts in_X8 hown hK.1 hP 0 rfl rfl 4 (by decide) (hts _ q186) (fun _ h9 => h9) rfl dX8_comes_31 ?_
  refine lv_aload_n hx hb dX8_comes_34 rfl (lv_at hl 0 rfl) ?_
  refine va_get (D := G.1) (ci := 7) (v := .int (nI (mny r))) (C := RX8) (T := TX8) (N := 9) hx hb hts in_X8 hown hK.1 hP 0 rfl rfl 0 (by decide) (hts _ q174) (fun _ h9 => h9) (x_some hr0) dX8_comes_35 ?_
  refine lv_iconst (v := 0) hx hb dX8_comes_38 (by decide) ?_
  refine x_iastn (k := (mny r)) hx hb hK.1 hP hD hS 4 0 rfl rfl (by omega) (by decide) (g := upd (r 3) (mny r) 0) rfl dX8_comes_39 (fun H locs hP hD hS => ?_)
  have hP : va_P G.1 vwCl (wR G a (va_up kd (mny r) (some (ka kc))) (sf (sf (sf r 1 (upd (r 1) (mny r) (nI f))) 2 (upd (r 2) (mny r) u)) 3 (upd (r 3) (mny r) 0)) ++ wK ka) H := hP
  have hD : va_D A (wR G a (va_up kd (mny r) (some (ka kc))) (sf (sf (sf r 1 (upd (r 1) (mny r) (nI f))) 2 (upd (r 2) (mny r) u)) 3 (upd (r 3) (mny r) 0)) ++ wK ka) := hD
  refine lv_aload_n hx hb dX8_comes_40 rfl (lv_at hl 0 rfl) ?_
  refine va_get (D := G.1) (ci := 7) (v := .ref (a 5)) (C := RX8) (T := TX8) (N := 9) hx hb hts in_X8 hown hK.1 hP 0 rfl rfl 5 (by decide) (hts _ q189) (fun _ h9 => h9) rfl dX8_comes_41 ?_
  refine lv_aload_n hx hb dX8_comes_44 rfl (lv_at hl 0 rfl) ?_
  refine va_get (D := G.1) (ci := 7) (v := .int (nI (mny r))) (C := RX8) (T := TX8) (N := 9) hx hb hts in_X8 hown hK.1 hP 0 rfl rfl 0 (by decide) (hts _ q174) (fun _ h9 => h9) (x_some hr0) dX8_comes_45 ?_
  refine lv_iconst (v := 0) hx hb dX8_comes_48 (by decide) ?_
  refine x_iastn (k := (mny r)) hx hb hK.1 hP hD hS 5 0 rfl rfl (by omega) (by decide) (g := upd (r 4) (mny r) 0) rfl dX8_comes_49 (fun H locs hP hD hS => ?_)
  have hP : va_P G.1 vwCl (wR G a (va_up kd (mny r) (some (ka kc))) (sf (sf (sf (sf r 1 (upd (r 1) (mny r) (nI f))) 2 (upd (r 2) (mny r) u)) 3 (upd (r 3) (mny r) 0)) 4 (upd (r 4) (mny r) 0)) ++ wK ka) H := hP
  have hD : va_D A (wR G a (va_up kd (mny r) (some (ka kc))) (sf (sf (sf (sf r 1 (upd (r 1) (mny r) (nI f))) 2 (upd (r 2) (mny r) u)) 3 (upd (r 3) (mny r) 0)) 4 (upd (r 4) (mny r) 0)) ++ wK ka) := hD
  refine lv_aload_n hx hb dX8_comes_50 rfl (lv_at hl 0 rfl) ?_
  refine lv_dup hx hb dX8_comes_51 rfl ?_
  refine va_get (D := G.1) (ci := 7) (v := .int (nI (mny r))) (C := RX8) (T := TX8) (N := 9) hx hb hts in_X8 hown hK.1 hP 0 rfl rfl 0 (by decide) (hts _ q174) (fun _ h9 => h9) (x_some hr0) dX8_comes_52 ?_
  refine lv_iconst (v := 1) hx hb dX8_comes_55 (by decide) ?_
  refine x_iadd hx hb dX8_comes_56 (v := nI ((mny r) + 1)) (nI_1 _) ?_
  refine va_put (D := G.1) (ci := 7) (v := .int (nI ((mny r) + 1))) (ty := .int) (C := RX8) (T := TX8) (N := 9) hx hb hts in_X8 tyX8 tyX8_ok nmX8 hown hK.1 hP hD hS 0 rfl rfl 0 (by decide) (hts _ q174) (fun _ h9 => h9) rfl (by decide +kernel) rfl rfl (Nat.le_of_ble_eq_true rfl) dX8_comes_57 (fun H locs hP hD hS => ?_)
  have hP : va_P G.1 vwCl (wR G a (va_up kd (mny r) (some (ka kc))) (sf (sf (sf (sf (sf r 5 (upd (r 5) 0 (nI ((mny r) + 1)))) 1 (upd (r 1) (mny r) (nI f))) 2 (upd (r 2) (mny r) u)) 3 (upd (r 3) (mny r) 0)) 4 (upd (r 4) (mny r) 0)) ++ wK ka) H := hP
  have hD : va_D A (wR G a (va_up kd (mny r) (some (ka kc))) (sf (sf (sf (sf (sf r 5 (upd (r 5) 0 (nI ((mny r) + 1)))) 1 (upd (r 1) (mny r) (nI f))) 2 (upd (r 2) (mny r) u)) 3 (upd (r 3) (mny r) 0)) 4 (upd (r 4) (mny r) 0)) ++ wK ka) := hD
  refine hret _ _ _ _ _ _ () dX8_comes_60 ?_ hP hD hS (Nat.le_of_ble_eq_true rfl) (Nat.le_of_ble_eq_true rfl)
  trivial
set_option maxHeartbeats 4000000 in
set_option maxRecDepth 100000 in
/-- how many are below -/
theorem m_height (l : Launch) (G : xG) (a ka : Nat → Nat) (kd : Nat → Option Nat) (r : Rw) (hr : Ok r) (hk : kOk ka kd r) (t : Nat) (ht : t < mny r) : xCi l G yX8_height cX8_height 4 (some .int) ({ frames := 0, cells := 0, slots := 0, locals := 0 } : Room) [.ref (a 0), .int (nI t)] (wR G a kd r ++ wK ka) (S := Unit) (fun v _ => v = nI (pHt r t)) (fun _ => wR G a kd r ++ wK ka) := by
  refine x_openi (by decide) (Nat.le_of_ble_eq_true rfl) (fun _ _ _ => rfl) ?_
  intro p e s m args below meth c A Q ls C0 hK hP hD hA hl hret
  obtain ⟨hx, hb, hml, hown, hts⟩ := id C0
  have hS : va_S A s.heap s.heap [] := va_S.rf
  have hP : va_P G.1 vwCl (wR G a kd r ++ wK ka) s.heap := hP
  have hD : va_D A (wR G a kd r ++ wK ka) := hD
  have hl : lv_has ls 4 [(0, .ref (a 0)), (1, .int (nI t))] := hl
  have hr0 := hr.n
  have hN := hr.le
  refine lv_iconst (v := 0) hx hb dX8_height_0 (by decide) ?_
  refine lv_istore_n (lv' := [(2, .int 0), (0, .ref (a 0)), (1, .int (nI t))]) hx hb dX8_height_1 rfl hl (by decide) rfl (fun ls hl => ?_)
  refine lv_aload_n hx hb dX8_height_2 rfl (lv_at hl 1 rfl) ?_
  refine va_get (D := G.1) (ci := 7) (v := .ref (a 3)) (C := RX8) (T := TX8) (N := 9) hx hb hts in_X8 hown hK.1 hP 0 rfl rfl 3 (by decide) (hts _ q184) (fun _ h9 => h9) rfl dX8_height_3 ?_
  refine lv_iload_n hx hb dX8_height_6 rfl (lv_at hl 2 rfl) ?_
  refine x_ialdn (k := t) hx hb hK.1 hP 3 0 rfl rfl (by omega) (by decide) (v := (r 2) t) rfl dX8_height_7 ?_
  refine lv_istore_n (lv' := [(3, .int ((r 2) t)), (2, .int 0), (0, .ref (a 0)), (1, .int (nI t))]) hx hb dX8_height_8 rfl hl (by decide) rfl (fun ls hl => ?_)
  have loop_9 : ∀ (n : Nat) (k : Nat) (x : Int32), (0 < n) → (x = -9 ∨ ∃ j, j + 1 < n ∧ j < mny r ∧ x = nI j) → (k + pUpN r 11 x = pHt r t) → ∀ (H : Heap) (locs : List Loc) (ls : Array Slot), va_P G.1 vwCl (wR G a kd r ++ wK ka) H → va_D A (wR G a kd r ++ wK ka) → va_S A s.heap H locs → lv_has ls 4 [(3, .int x), (2, .int (nI k)), (0, .ref (a 0)), (1, .int (nI t))] → W p l e ({ frames := 0, cells := 0, slots := 0, locals := 0 } : Room) s m args below meth c H locs 0 0 Q (F0 m 9 ls []) := by
    intro n
    induction n with
    | zero => intro k x hi9_0 hi9_1 hi9_2; exact absurd hi9_0 (by omega)
    | succ n ih_9 =>
      intro k x hi9_0 hi9_1 hi9_2 H locs ls hP hD hS hl
      refine lv_iload_n hx hb dX8_height_9 rfl (lv_at hl 0 rfl) ?_
      refine lv_bipush (v := (-9)) hx hb dX8_height_10 (by decide) ?_
      refine lv_icmp_eq (tgt := 28) hx hb dX8_height_12 (by decide) (fun c_1 => ?_) (fun c_1 => ?_)
      · skip
        refine lv_iload_n hx hb dX8_height_28 rfl (lv_at hl 1 rfl) ?_
        refine hret _ _ _ _ _ _ (nI k) () dX8_height_29 ?_ hP hD hS (Nat.le_of_ble_eq_true rfl) (Nat.le_of_ble_eq_true rfl)
        rw [← hi9_2, c_1]
        rfl
      · skip
        obtain ⟨j, hj1, hj2, rfl⟩ := hi9_1.resolve_left c_1
        refine lv_iinc (v := nI (k + 1)) (lv' := [(2, .int (nI (k + 1))), (3, .int (nI j)), (0, .ref (a 0)), (1, .int (nI t))]) hx hb dX8_height_15 hl (k := 1) rfl (x_inc1 _) (by decide) rfl (fun ls hl => ?_)
        refine lv_aload_n hx hb dX8_height_18 rfl (lv_at hl 2 rfl) ?_
        refine va_get (D := G.1) (ci := 7) (v := .ref (a 3)) (C := RX8) (T := TX8) (N := 9) hx hb hts in_X8 hown hK.1 hP 0 rfl rfl 3 (by decide) (hts _ q184) (fun _ h9 => h9) rfl dX8_height_19 ?_
        refine lv_iload_n hx hb dX8_height_22 rfl (lv_at hl 1 rfl) ?_
        refine x_ialdn (k := j) hx hb hK.1 hP 3 0 rfl rfl (by omega) (by decide) (v := (r 2) j) rfl dX8_height_23 ?_
        refine lv_istore_n (lv' := [(3, .int ((r 2) j)), (2, .int (nI (k + 1))), (0, .ref (a 0)), (1, .int (nI t))]) hx hb dX8_height_24 rfl hl (by decide) rfl (fun ls hl => ?_)
        refine lv_goto (tgt := 9) hx hb dX8_height_25 (by decide) ?_
        have hup := pUpN_11 hr hj2
        exact ih_9 (k + 1) (r 2 j) (by omega) ((hr.on hj2).imp_right (fun ⟨k, hk1, e⟩ => ⟨k, by omega, by omega, e⟩)) (by omega) _ _ _ hP hD hS (lv_sub hl [0, 1, 2, 3] rfl)
  exact loop_9 12 0 (r 2 t) (by omega) ((hr.on ht).imp_right (fun ⟨k, hk1, e⟩ => ⟨k, by omega, by omega, e⟩)) (Nat.zero_add _) _ _ _ hP hD hS (lv_sub hl [0, 1, 2, 3] rfl)
set_option maxHeartbeats 4000000 in
set_option maxRecDepth 100000 in
theorem m_bottom (l : Launch) (G : xG) (a ka : Nat → Nat) (kd : Nat → Option Nat) (r : Rw) (hr : Ok r) (hk : kOk ka kd r) (t : Nat) (ht : t < mny r) : xCi l G yX8_bottom cX8_bottom 3 (some .int) ({ frames := 0, cells := 0, slots := 0, locals := 0 } : Room) [.ref (a 0), .int (nI t)] (wR G a kd r ++ wK ka) (S := Unit) (fun v _ => v = nI (pBot r 11 t)) (fun _ => wR G a kd r ++ wK ka) := by
  refine x_openi (by decide) (Nat.le_of_ble_eq_true rfl) (fun _ _ _ => rfl) ?_
  intro p e s m args below meth c A Q ls C0 hK hP hD hA hl hret
  obtain ⟨hx, hb, hml, hown, hts⟩ := id C0
  have hS : va_S A s.heap s.heap [] := va_S.rf
  have hP : va_P G.1 vwCl (wR G a kd r ++ wK ka) s.heap := hP
  have hD : va_D A (wR G a kd r ++ wK ka) := hD
  have hl : lv_has ls 3 [(0, .ref (a 0)), (1, .int (nI t))] := hl
  have hr0 := hr.n
  have hN := hr.le
  refine lv_iload_n hx hb dX8_bottom_0 rfl (lv_at hl 1 rfl) ?_
  refine lv_istore_n (lv' := [(2, .int (nI t)), (0, .ref (a 0)), (1, .int (nI t))]) hx hb dX8_bottom_1 rfl hl (by decide) rfl (fun ls hl => ?_)
  have loop_2 : ∀ (n : Nat) (j : Nat), (j < n) → (j < mny r) → (pBot r 11 j = pBot r 11 t) → ∀ (H : Heap) (locs : List Loc) (ls : Array Slot), va_P G.1 vwCl (wR G a kd r ++ wK ka) H → va_D A (wR G a kd r ++ wK ka) → va_S A s.heap H locs → lv_has ls 3 [(2, .int (nI j)), (0, .ref (a 0)), (1, .int (nI t))] → W p l e ({ frames := 0, cells := 0, slots := 0, locals := 0 } : Room) s m args below meth c H locs 0 0 Q (F0 m 2 ls []) := by
    intro n
    induction n with
    | zero => intro j hi2_0 hi2_1 hi2_2; exact absurd hi2_0 (by omega)
    | succ n ih_2 =>
      intro j hi2_0 hi2_1 hi2_2 H locs ls hP hD hS hl
      refine lv_aload_n hx hb dX8_bottom_2 rfl (lv_at hl 1 rfl) ?_
      refine va_get (D := G.1) (ci := 7) (v := .ref (a 3)) (C := RX8) (T := TX8) (N := 9) hx hb hts in_X8 hown hK.1 hP 0 rfl rfl 3 (by decide) (hts _ q184) (fun _ h9 => h9) rfl dX8_bottom_3 ?_
      refine lv_iload_n hx hb dX8_bottom_6 rfl (lv_at hl 0 rfl) ?_
      refine x_ialdn (k := j) hx hb hK.1 hP 3 0 rfl rfl (by omega) (by decide) (v := (r 2) j) rfl dX8_bottom_7 ?_
      refine lv_bipush (v := (-9)) hx hb dX8_bottom_8 (by decide) ?_
      refine lv_icmp_eq (tgt := 23) hx hb dX8_bottom_10 (by decide) (fun c_1 => ?_) (fun c_1 => ?_)
      · skip
        refine lv_iload_n hx hb dX8_bottom_23 rfl (lv_at hl 0 rfl) ?_
        refine hret _ _ _ _ _ _ (nI j) () dX8_bottom_24 ?_ hP hD hS (Nat.le_of_ble_eq_true rfl) (Nat.le_of_ble_eq_true rfl)
        rw [← hi2_2, pBot_9 c_1]
      · skip
        obtain ⟨k, hk1, ek⟩ := (hr.on hi2_1).resolve_left c_1
        refine lv_aload_n hx hb dX8_bottom_13 rfl (lv_at hl 1 rfl) ?_
        refine va_get (D := G.1) (ci := 7) (v := .ref (a 3)) (C := RX8) (T := TX8) (N := 9) hx hb hts in_X8 hown hK.1 hP 0 rfl rfl 3 (by decide) (hts _ q184) (fun _ h9 => h9) rfl dX8_bottom_14 ?_
        refine lv_iload_n hx hb dX8_bottom_17 rfl (lv_at hl 0 rfl) ?_
        refine x_ialdn (k := j) hx hb hK.1 hP 3 0 rfl rfl (by omega) (by decide) (v := (r 2) j) rfl dX8_bottom_18 ?_
        rw [ek]
        refine lv_istore_n (lv' := [(2, .int (nI k)), (0, .ref (a 0)), (1, .int (nI t))]) hx hb dX8_bottom_19 rfl hl (by decide) rfl (fun ls hl => ?_)
        refine lv_goto (tgt := 2) hx hb dX8_bottom_20 (by decide) ?_
        exact ih_2 k (by omega) (by omega) ((pBot_11 hr hi2_1 hk1 ek).symm.trans hi2_2) _ _ _ hP hD hS (lv_sub hl [0, 1, 2] rfl)
  exact loop_2 (t + 1) t (by omega) ht rfl _ _ _ hP hD hS (lv_sub hl [0, 1, 2] rfl)
set_option maxHeartbeats 4000000 in
set_option maxRecDepth 100000 in
theorem m_above (l : Launch) (G : xG) (a ka : Nat → Nat) (kd : Nat → Option Nat) (r : Rw) (hr : Ok r) (hk : kOk ka kd r) (o : Nat) (ho : o < mny r) : xCi l G yX8_above cX8_above 5 (some .int) ({ frames := 1, cells := 0, slots := 0, locals := 21 } : Room) [.ref (a 0), .int (nI o)] (wR G a kd r ++ wK ka) (S := Unit) (fun v _ => v = pAbv r o) (fun _ => wR G a kd r ++ wK ka) := by
  refine x_openi (by decide) (Nat.le_of_ble_eq_true rfl) (fun _ _ _ => rfl) ?_
  intro p e s m args below meth c A Q ls C0 hK hP hD hA hl hret
  obtain ⟨hx, hb, hml, hown, hts⟩ := id C0
  have hS : va_S A s.heap s.heap [] := va_S.rf
  have hP : va_P G.1 vwCl (wR G a kd r ++ wK ka) s.heap := hP
  have hD : va_D A (wR G a kd r ++ wK ka) := hD
  have hl : lv_has ls 5 [(0, .ref (a 0)), (1, .int (nI o))] := hl
  have hr0 := hr.n
  have hN := hr.le
  refine lv_iconst (v := 0) hx hb dX8_above_0 (by decide) ?_
  refine lv_istore_n (lv' := [(2, .int 0), (0, .ref (a 0)), (1, .int (nI o))]) hx hb dX8_above_1 rfl hl (by decide) rfl (fun ls hl => ?_)
  refine lv_iload_n hx hb dX8_above_2 rfl (lv_at hl 2 rfl) ?_
  refine lv_iconst (v := 1) hx hb dX8_above_3 (by decide) ?_
  refine x_iadd hx hb dX8_above_4 (v := nI (o + 1)) (nI_1 _) ?_
  refine lv_istore_n (lv' := [(3, .int (nI (o + 1))), (2, .int 0), (0, .ref (a 0)), (1, .int (nI o))]) hx hb dX8_above_5 rfl hl (by decide) rfl (fun ls hl => ?_)
  have loop_6 : ∀ (n : Nat) (i : Nat), (mny r < i + n) → (o < i) → (i ≤ mny r) → ∀ (H : Heap) (locs : List Loc) (ls : Array Slot), va_P G.1 vwCl (wR G a kd r ++ wK ka) H → va_D A (wR G a kd r ++ wK ka) → va_S A s.heap H locs → lv_has ls 5 [(3, .int (nI i)), (2, .int (bs (pAb r o 11) i)), (0, .ref (a 0)), (1, .int (nI o))] → W p l e ({ frames := 1, cells := 0, slots := 0, locals := 21 } : Room) s m args below meth c H locs 0 0 Q (F0 m 6 ls []) := by
    intro n
    induction n with
    | zero => intro i hi6_0 hi6_1 hi6_2; exact absurd hi6_0 (by omega)
    | succ n ih_6 =>
      intro i hi6_0 hi6_1 hi6_2 H locs ls hP hD hS hl
      refine lv_iload_n hx hb dX8_above_6 rfl (lv_at hl 0 rfl) ?_
      refine lv_aload_n hx hb dX8_above_7 rfl (lv_at hl 2 rfl) ?_
      refine va_get (D := G.1) (ci := 7) (v := .int (nI (mny r))) (C := RX8) (T := TX8) (N := 9) hx hb hts in_X8 hown hK.1 hP 0 rfl rfl 0 (by decide) (hts _ q174) (fun _ h9 => h9) (x_some hr0) dX8_above_8 ?_
      refine lv_icmp_ge (tgt := 76) hx hb dX8_above_11 (by decide) (fun c_1 => ?_) (fun c_1 => ?_)
      · skip
        have g_1 := (nI_leI (by omega) (by omega)).mp c_1
        refine lv_iload_n hx hb dX8_above_76 rfl (lv_at hl 1 rfl) ?_
        refine hret _ _ _ _ _ _ (bs (pAb r o 11) i) () dX8_above_77 ?_ hP hD hS (Nat.le_of_ble_eq_true rfl) (Nat.le_of_ble_eq_true rfl)
        show bs (pAb r o 11) i = bs (pAb r o 11) (mny r)
        rw [show i = mny r by omega]
      · skip
        have g_1 := mt (nI_leI (by omega) (by omega)).mpr c_1
        refine lv_aload_n hx hb dX8_above_14 rfl (lv_at hl 2 rfl) ?_
        refine va_get (D := G.1) (ci := 7) (v := .ref (a 3)) (C := RX8) (T := TX8) (N := 9) hx hb hts in_X8 hown hK.1 hP 0 rfl rfl 3 (by decide) (hts _ q184) (fun _ h9 => h9) rfl dX8_above_15 ?_
        refine lv_iload_n hx hb dX8_above_18 rfl (lv_at hl 0 rfl) ?_
        refine x_ialdn (k := i) hx hb hK.1 hP 3 0 rfl rfl (by omega) (by decide) (v := (r 2) i) rfl dX8_above_19 ?_
        refine lv_iload_n hx hb dX8_above_20 rfl (lv_at hl 3 rfl) ?_
        refine lv_icmp_eq (tgt := 48) hx hb dX8_above_21 (by decide) (fun c_2 => ?_) (fun c_2 => ?_)
        · skip
          refine lv_iconst (v := 1) hx hb dX8_above_48 (by decide) ?_
          refine lv_goto (tgt := 53) hx hb dX8_above_49 (by decide) ?_
          refine lv_istore (lv' := [(4, .int 1), (3, .int (nI i)), (2, .int (bs (pAb r o 11) i)), (0, .ref (a 0)), (1, .int (nI o))]) hx hb dX8_above_53 hl (by decide) rfl (fun ls hl => ?_)
          refine lv_iload_n hx hb dX8_above_55 rfl (lv_at hl 2 rfl) ?_
          refine lv_iload hx hb dX8_above_56 (lv_at hl 0 rfl) ?_
          refine lv_if_eq (tgt := 67) hx hb dX8_above_58 (by decide) (fun c_3 => ?_) (fun c_3 => ?_)
          · skip
            exact absurd c_3 (by decide)
          · skip
            refine lv_iconst (v := 1) hx hb dX8_above_61 (by decide) ?_
            refine lv_iload_n hx hb dX8_above_62 rfl (lv_at hl 1 rfl) ?_
            refine x_ishl hx hb dX8_above_63 (v := b1 i) rfl ?_
            refine lv_goto (tgt := 68) hx hb dX8_above_64 (by decide) ?_
            refine x_ior hx hb dX8_above_68 (v := bs (pAb r o 11) (i + 1)) (bs_t (by rw [pAb_11 hr (show i < mny r by omega) (show o < i by omega) c_2 (by omega)]; simp)) ?_
            refine lv_istore_n (lv' := [(2, .int (bs (pAb r o 11) (i + 1))), (4, .int 1), (3, .int (nI i)), (0, .ref (a 0)), (1, .int (nI o))]) hx hb dX8_above_69 rfl hl (by decide) rfl (fun ls hl => ?_)
            refine lv_iinc (v := nI (i + 1)) (lv' := [(3, .int (nI (i + 1))), (2, .int (bs (pAb r o 11) (i + 1))), (4, .int 1), (0, .ref (a 0)), (1, .int (nI o))]) hx hb dX8_above_70 hl (k := 2) rfl (x_inc1 _) (by decide) rfl (fun ls hl => ?_)
            refine lv_goto (tgt := 6) hx hb dX8_above_73 (by decide) ?_
            exact ih_6 (i + 1) (by omega) (by omega) (by omega) _ _ _ hP hD hS (lv_sub hl [0, 1, 3, 4] rfl)
        · skip
          refine lv_aload_n hx hb dX8_above_24 rfl (lv_at hl 2 rfl) ?_
          refine va_get (D := G.1) (ci := 7) (v := .ref (a 3)) (C := RX8) (T := TX8) (N := 9) hx hb hts in_X8 hown hK.1 hP 0 rfl rfl 3 (by decide) (hts _ q184) (fun _ h9 => h9) rfl dX8_above_25 ?_
          refine lv_iload_n hx hb dX8_above_28 rfl (lv_at hl 0 rfl) ?_
          refine x_ialdn (k := i) hx hb hK.1 hP 3 0 rfl rfl (by omega) (by decide) (v := (r 2) i) rfl dX8_above_29 ?_
          refine lv_bipush (v := (-9)) hx hb dX8_above_30 (by decide) ?_
          refine lv_icmp_eq (tgt := 52) hx hb dX8_above_32 (by decide) (fun c_4 => ?_) (fun c_4 => ?_)
          · skip
            refine lv_iconst (v := 0) hx hb dX8_above_52 (by decide) ?_
            refine lv_istore (lv' := [(4, .int 0), (3, .int (nI i)), (2, .int (bs (pAb r o 11) i)), (0, .ref (a 0)), (1, .int (nI o))]) hx hb dX8_above_53 hl (by decide) rfl (fun ls hl => ?_)
            refine lv_iload_n hx hb dX8_above_55 rfl (lv_at hl 2 rfl) ?_
            refine lv_iload hx hb dX8_above_56 (lv_at hl 0 rfl) ?_
            refine lv_if_eq (tgt := 67) hx hb dX8_above_58 (by decide) (fun c_5 => ?_) (fun c_5 => ?_)
            · skip
              refine lv_iconst (v := 0) hx hb dX8_above_67 (by decide) ?_
              refine x_ior hx hb dX8_above_68 (v := bs (pAb r o 11) (i + 1)) (bs_f (pAb_9 c_4)) ?_
              refine lv_istore_n (lv' := [(2, .int (bs (pAb r o 11) (i + 1))), (4, .int 0), (3, .int (nI i)), (0, .ref (a 0)), (1, .int (nI o))]) hx hb dX8_above_69 rfl hl (by decide) rfl (fun ls hl => ?_)
              refine lv_iinc (v := nI (i + 1)) (lv' := [(3, .int (nI (i + 1))), (2, .int (bs (pAb r o 11) (i + 1))), (4, .int 0), (0, .ref (a 0)), (1, .int (nI o))]) hx hb dX8_above_70 hl (k := 2) rfl (x_inc1 _) (by decide) rfl (fun ls hl => ?_)
              refine lv_goto (tgt := 6) hx hb dX8_above_73 (by decide) ?_
              exact ih_6 (i + 1) (by omega) (by omega) (by omega) _ _ _ hP hD hS (lv_sub hl [0, 1, 3, 4] rfl)
            · skip
              exact absurd c_5 (by decide)
          · skip
            refine lv_iload_n hx hb dX8_above_35 rfl (lv_at hl 1 rfl) ?_
            refine lv_aload_n hx hb dX8_above_36 rfl (lv_at hl 2 rfl) ?_
            refine va_get (D := G.1) (ci := 7) (v := .ref (a 3)) (C := RX8) (T := TX8) (N := 9) hx hb hts in_X8 hown hK.1 hP 0 rfl rfl 3 (by decide) (hts _ q184) (fun _ h9 => h9) rfl dX8_above_37 ?_
            refine lv_iload_n hx hb dX8_above_40 rfl (lv_at hl 0 rfl) ?_
            refine x_ialdn (k := i) hx hb hK.1 hP 3 0 rfl rfl (by omega) (by decide) (v := (r 2) i) rfl dX8_above_41 ?_
            obtain ⟨j, hj, ej⟩ := (hr.on (show i < mny r by omega)).resolve_left c_4
            rw [ej]
            refine x_SNi (wN := fun _ => (wR G a kd r ++ wK ka)) ⟨C0, hK, hP, hD, hS, hA⟩ ((m_has l G (bs (pAb r o 11) i) j)) ⟨va_cnB 2 hts (lw_meth q618) rfl rfl rfl (hK.2.M 19 rfl) (hts _ q86) (by decide +kernel) ⟨Nat.le_of_ble_eq_true rfl, Nat.le_of_ble_eq_true rfl⟩, hts _ q617, trivial⟩ [] [0, 2, 4, 6, 8, 10, 12, 14, 16, 18, 20, 22] rfl (fun _ => rfl) rfl rfl hl.1 rfl (Nat.le_of_ble_eq_true rfl) dX8_above_42 ⟨Nat.le_of_ble_eq_true rfl, Nat.le_of_ble_eq_true rfl⟩ (fun r_6 u_6 H locs hw_6 hP hD hS => ?_)
            have hw_6 : r_6 = bI (pAb r o 11 j) := hw_6.trans (congrArg bI (hs_in (by omega) hj))
            have hw_6 : (bI (pAb r o 11 j) : Int32) = r_6 := hw_6.symm
            subst hw_6
            refine lv_if_eq (tgt := 52) hx hb dX8_above_45 (by decide) (fun c_7 => ?_) (fun c_7 => ?_)
            · skip
              refine lv_iconst (v := 0) hx hb dX8_above_52 (by decide) ?_
              refine lv_istore (lv' := [(4, .int 0), (3, .int (nI i)), (2, .int (bs (pAb r o 11) i)), (0, .ref (a 0)), (1, .int (nI o))]) hx hb dX8_above_53 hl (by decide) rfl (fun ls hl => ?_)
              refine lv_iload_n hx hb dX8_above_55 rfl (lv_at hl 2 rfl) ?_
              refine lv_iload hx hb dX8_above_56 (lv_at hl 0 rfl) ?_
              refine lv_if_eq (tgt := 67) hx hb dX8_above_58 (by decide) (fun c_8 => ?_) (fun c_8 => ?_)
              · skip
                refine lv_iconst (v := 0) hx hb dX8_above_67 (by decide) ?_
                refine x_ior hx hb dX8_above_68 (v := bs (pAb r o 11) (i + 1)) (bs_f (by rw [pAb_11 hr (show i < mny r by omega) hj ej (by omega)]; simp only [bI_0, Bool.not_eq_false] at c_7; have hjo : j ≠ o := (fun q => c_2 (by rw [ej, q])); simp [hjo, c_7])) ?_
                refine lv_istore_n (lv' := [(2, .int (bs (pAb r o 11) (i + 1))), (4, .int 0), (3, .int (nI i)), (0, .ref (a 0)), (1, .int (nI o))]) hx hb dX8_above_69 rfl hl (by decide) rfl (fun ls hl => ?_)
                refine lv_iinc (v := nI (i + 1)) (lv' := [(3, .int (nI (i + 1))), (2, .int (bs (pAb r o 11) (i + 1))), (4, .int 0), (0, .ref (a 0)), (1, .int (nI o))]) hx hb dX8_above_70 hl (k := 2) rfl (x_inc1 _) (by decide) rfl (fun ls hl => ?_)
                refine lv_goto (tgt := 6) hx hb dX8_above_73 (by decide) ?_
                exact ih_6 (i + 1) (by omega) (by omega) (by omega) _ _ _ hP hD hS (lv_sub hl [0, 1, 3, 4] rfl)
              · skip
                exact absurd c_8 (by decide)
            · skip
              refine lv_iconst (v := 1) hx hb dX8_above_48 (by decide) ?_
              refine lv_goto (tgt := 53) hx hb dX8_above_49 (by decide) ?_
              refine lv_istore (lv' := [(4, .int 1), (3, .int (nI i)), (2, .int (bs (pAb r o 11) i)), (0, .ref (a 0)), (1, .int (nI o))]) hx hb dX8_above_53 hl (by decide) rfl (fun ls hl => ?_)
              refine lv_iload_n hx hb dX8_above_55 rfl (lv_at hl 2 rfl) ?_
              refine lv_iload hx hb dX8_above_56 (lv_at hl 0 rfl) ?_
              refine lv_if_eq (tgt := 67) hx hb dX8_above_58 (by decide) (fun c_9 => ?_) (fun c_9 => ?_)
              · skip
                exact absurd c_9 (by decide)
              · skip
                refine lv_iconst (v := 1) hx hb dX8_above_61 (by decide) ?_
                refine lv_iload_n hx hb dX8_above_62 rfl (lv_at hl 1 rfl) ?_
                refine x_ishl hx hb dX8_above_63 (v := b1 i) rfl ?_
                refine lv_goto (tgt := 68) hx hb dX8_above_64 (by decide) ?_
                refine x_ior hx hb dX8_above_68 (v := bs (pAb r o 11) (i + 1)) (bs_t (by rw [pAb_11 hr (show i < mny r by omega) hj ej (by omega)]; simp only [bI_0, Bool.not_eq_false] at c_7; have hjo : j ≠ o := (fun q => c_2 (by rw [ej, q])); simp [hjo, c_7])) ?_
                refine lv_istore_n (lv' := [(2, .int (bs (pAb r o 11) (i + 1))), (4, .int 1), (3, .int (nI i)), (0, .ref (a 0)), (1, .int (nI o))]) hx hb dX8_above_69 rfl hl (by decide) rfl (fun ls hl => ?_)
                refine lv_iinc (v := nI (i + 1)) (lv' := [(3, .int (nI (i + 1))), (2, .int (bs (pAb r o 11) (i + 1))), (4, .int 1), (0, .ref (a 0)), (1, .int (nI o))]) hx hb dX8_above_70 hl (k := 2) rfl (x_inc1 _) (by decide) rfl (fun ls hl => ?_)
                refine lv_goto (tgt := 6) hx hb dX8_above_73 (by decide) ?_
                exact ih_6 (i + 1) (by omega) (by omega) (by omega) _ _ _ hP hD hS (lv_sub hl [0, 1, 3, 4] rfl)
  have e0 : (0 : Int32) = bs (pAb r o 11) (o + 1) := ((bs_0 (by omega)).mpr (fun t h => pAb_low hr (by omega) 11 t (by omega) (by omega))).symm
  rw [e0] at hl
  exact loop_6 (mny r + 1) (o + 1) (by omega) (by omega) (by omega) _ _ _ hP hD hS (lv_sub hl [0, 1, 2, 3] rfl)
set_option maxHeartbeats 4000000 in
set_option maxRecDepth 100000 in
/-- a new room -/
theorem m_Room_init (l : Launch) (G : xG) (a0 : Nat) : xCv l G yX8_init cX8_init 1 none ({ frames := 1, cells := 5, slots := 50, locals := 12 } : Room) [.ref a0] ([(a0, .inr (7, [.int 0, .null, .null, .null, .null, .null, .int 0, .int 0, .int 0]))]) (S := (Nat → Nat)) (fun a => a 0 = a0) (fun a => wR G a (fun _ => none) pInit) := by
  refine x_openc (by decide) (Nat.le_of_ble_eq_true rfl) ?_
  intro p e s m args below meth c A Q ls C0 hK hP hD hA hl hin hret
  obtain ⟨hx, hb, hml, hown, hts⟩ := id C0
  have hS : va_S A s.heap s.heap [] := va_S.rf
  have hP : va_P G.1 vwCl ([(a0, .inr (7, [.int 0, .null, .null, .null, .null, .null, .int 0, .int 0, .int 0]))]) s.heap := hP
  have hD : va_D A ([(a0, .inr (7, [.int 0, .null, .null, .null, .null, .null, .int 0, .int 0, .int 0]))]) := hD
  have hl : lv_has ls 1 [(0, .ref a0)] := hl
  refine lv_aload_n hx hb dX8_init_0 rfl (lv_at hl 0 rfl) ?_
  refine W.objInit hx hb hown (hts _ q172) (hts _ q118) (hts _ q119) rfl (by rw [hml]; exact hl.1) rfl dX8_init_1 (Nat.le_of_ble_eq_true rfl) (Nat.le_of_ble_eq_true rfl) ?_
  refine W.eq (g2 := F0 m 4 ls []) rfl ?_
  refine lv_aload_n hx hb dX8_init_4 rfl (lv_at hl 0 rfl) ?_
  refine lv_bipush (v := 10) hx hb dX8_init_5 (by decide) ?_
  refine x_newq (N' := 10) (C := RX1) hx hb hown (hts _ q173) hK.2.2.2.2.2.1 hK.1 hP hD hS hA 3 rfl (by decide) (by decide) (Nat.le_of_ble_eq_true rfl) (Nat.le_of_ble_eq_true rfl) (Nat.le_of_ble_eq_true rfl) dX8_init_7 (fun q_1 H hP hD hS => ?_)
  have hP : va_P G.1 vwCl ([(a0, .inr (7, [.int 0, .null, .null, .null, .null, .null, .int 0, .int 0, .int 0]))] ++ [(q_1, .inl (G.2 3, 10, .inr (.inr (.inr (.inr (fun _ => none))))))]) H := hP
  have hD : va_D A ([(a0, .inr (7, [.int 0, .null, .null, .null, .null, .null, .int 0, .int 0, .int 0]))] ++ [(q_1, .inl (G.2 3, 10, .inr (.inr (.inr (.inr (fun _ => none))))))]) := hD
  refine W.widen (k := 1) (n := 10) (Nat.le_of_ble_eq_true rfl) (Nat.le_of_ble_eq_true rfl) ?_
  refine va_putF (D := G.1) (ci := 7) (v := .ref q_1) (ty := (.array (.object "PulledFromUnder$Kind"))) (C := RX8) (T := TX8) (N := 9) hx hb hts in_X8 tyX8 tyX8_ok nmX8 hown hK.1 hP hD hS 0 rfl rfl 1 (by decide) (hts _ q180) (fun _ h9 => h9) rfl hin rfl (by decide +kernel) rfl rfl (Nat.le_of_ble_eq_true rfl) dX8_init_10 (fun H locs hP hD hS => ?_)
  have hP : va_P G.1 vwCl ([(a0, .inr (7, [.int 0, .ref q_1, .null, .null, .null, .null, .int 0, .int 0, .int 0]))] ++ [(q_1, .inl (G.2 3, 10, .inr (.inr (.inr (.inr (fun _ => none))))))]) H := hP
  have hD : va_D A ([(a0, .inr (7, [.int 0, .ref q_1, .null, .null, .null, .null, .int 0, .int 0, .int 0]))] ++ [(q_1, .inl (G.2 3, 10, .inr (.inr (.inr (.inr (fun _ => none))))))]) := hD
  refine lv_aload_n hx hb dX8_init_13 rfl (lv_at hl 0 rfl) ?_
  refine lv_bipush (v := 10) hx hb dX8_init_14 (by decide) ?_
  refine x_newa (atype := .int) (ty := .int) (a0 := (10, .inl (fun _ => 0))) hx hb (hts _ q219) rfl hK.1 hP hD hS hA 0 rfl (fun _ => rfl) (by decide) (by decide) (Nat.le_of_ble_eq_true rfl) (Nat.le_of_ble_eq_true rfl) (Nat.le_of_ble_eq_true rfl) dX8_init_16 (fun q_2 H hP hD hS => ?_)
  have hP : va_P G.1 vwCl ([(a0, .inr (7, [.int 0, .ref q_1, .null, .null, .null, .null, .int 0, .int 0, .int 0]))] ++ [(q_1, .inl (G.2 3, 10, .inr (.inr (.inr (.inr (fun _ => none))))))] ++ [(q_2, .inl (G.2 0, 10, .inl (fun _ => 0)))]) H := hP
  have hD : va_D A ([(a0, .inr (7, [.int 0, .ref q_1, .null, .null, .null, .null, .int 0, .int 0, .int 0]))] ++ [(q_1, .inl (G.2 3, 10, .inr (.inr (.inr (.inr (fun _ => none))))))] ++ [(q_2, .inl (G.2 0, 10, .inl (fun _ => 0)))]) := hD
  refine W.widen (k := 2) (n := 20) (Nat.le_of_ble_eq_true rfl) (Nat.le_of_ble_eq_true rfl) ?_
  refine va_putF (D := G.1) (ci := 7) (v := .ref q_2) (ty := (.array .int)) (C := RX8) (T := TX8) (N := 9) hx hb hts in_X8 tyX8 tyX8_ok nmX8 hown hK.1 hP hD hS 0 rfl rfl 2 (by decide) (hts _ q182) (fun _ h9 => h9) rfl hin rfl (by decide +kernel) rfl rfl (Nat.le_of_ble_eq_true rfl) dX8_init_18 (fun H locs hP hD hS => ?_)
  have hP : va_P G.1 vwCl ([(a0, .inr (7, [.int 0, .ref q_1, .ref q_2, .null, .null, .null, .int 0, .int 0, .int 0]))] ++ [(q_1, .inl (G.2 3, 10, .inr (.inr (.inr (.inr (fun _ => none))))))] ++ [(q_2, .inl (G.2 0, 10, .inl (fun _ => 0)))]) H := hP
  have hD : va_D A ([(a0, .inr (7, [.int 0, .ref q_1, .ref q_2, .null, .null, .null, .int 0, .int 0, .int 0]))] ++ [(q_1, .inl (G.2 3, 10, .inr (.inr (.inr (.inr (fun _ => none))))))] ++ [(q_2, .inl (G.2 0, 10, .inl (fun _ => 0)))]) := hD
  refine lv_aload_n hx hb dX8_init_21 rfl (lv_at hl 0 rfl) ?_
  refine lv_bipush (v := 10) hx hb dX8_init_22 (by decide) ?_
  refine x_newa (atype := .int) (ty := .int) (a0 := (10, .inl (fun _ => 0))) hx hb (hts _ q219) rfl hK.1 hP hD hS hA 0 rfl (fun _ => rfl) (by decide) (by decide) (Nat.le_of_ble_eq_true rfl) (Nat.le_of_ble_eq_true rfl) (Nat.le_of_ble_eq_true rfl) dX8_init_24 (fun q_3 H hP hD hS => ?_)
  have hP : va_P G.1 vwCl ([(a0, .inr (7, [.int 0, .ref q_1, .ref q_2, .null, .null, .null, .int 0, .int 0, .int 0]))] ++ [(q_1, .inl (G.2 3, 10, .inr (.inr (.inr (.inr (fun _ => none))))))] ++ [(q_2, .inl (G.2 0, 10, .inl (fun _ => 0)))] ++ [(q_3, .inl (G.2 0, 10, .inl (fun _ => 0)))]) H := hP
  have hD : va_D A ([(a0, .inr (7, [.int 0, .ref q_1, .ref q_2, .null, .null, .null, .int 0, .int 0, .int 0]))] ++ [(q_1, .inl (G.2 3, 10, .inr (.inr (.inr (.inr (fun _ => none))))))] ++ [(q_2, .inl (G.2 0, 10, .inl (fun _ => 0)))] ++ [(q_3, .inl (G.2 0, 10, .inl (fun _ => 0)))]) := hD
  refine W.widen (k := 3) (n := 30) (Nat.le_of_ble_eq_true rfl) (Nat.le_of_ble_eq_true rfl) ?_
  refine va_putF (D := G.1) (ci := 7) (v := .ref q_3) (ty := (.array .int)) (C := RX8) (T := TX8) (N := 9) hx hb hts in_X8 tyX8 tyX8_ok nmX8 hown hK.1 hP hD hS 0 rfl rfl 3 (by decide) (hts _ q184) (fun _ h9 => h9) rfl hin rfl (by decide +kernel) rfl rfl (Nat.le_of_ble_eq_true rfl) dX8_init_26 (fun H locs hP hD hS => ?_)
  have hP : va_P G.1 vwCl ([(a0, .inr (7, [.int 0, .ref q_1, .ref q_2, .ref q_3, .null, .null, .int 0, .int 0, .int 0]))] ++ [(q_1, .inl (G.2 3, 10, .inr (.inr (.inr (.inr (fun _ => none))))))] ++ [(q_2, .inl (G.2 0, 10, .inl (fun _ => 0)))] ++ [(q_3, .inl (G.2 0, 10, .inl (fun _ => 0)))]) H := hP
  have hD : va_D A ([(a0, .inr (7, [.int 0, .ref q_1, .ref q_2, .ref q_3, .null, .null, .int 0, .int 0, .int 0]))] ++ [(q_1, .inl (G.2 3, 10, .inr (.inr (.inr (.inr (fun _ => none))))))] ++ [(q_2, .inl (G.2 0, 10, .inl (fun _ => 0)))] ++ [(q_3, .inl (G.2 0, 10, .inl (fun _ => 0)))]) := hD
  refine lv_aload_n hx hb dX8_init_29 rfl (lv_at hl 0 rfl) ?_
  refine lv_bipush (v := 10) hx hb dX8_init_30 (by decide) ?_
  refine x_newa (atype := .int) (ty := .int) (a0 := (10, .inl (fun _ => 0))) hx hb (hts _ q219) rfl hK.1 hP hD hS hA 0 rfl (fun _ => rfl) (by decide) (by decide) (Nat.le_of_ble_eq_true rfl) (Nat.le_of_ble_eq_true rfl) (Nat.le_of_ble_eq_true rfl) dX8_init_32 (fun q_4 H hP hD hS => ?_)
  have hP : va_P G.1 vwCl ([(a0, .inr (7, [.int 0, .ref q_1, .ref q_2, .ref q_3, .null, .null, .int 0, .int 0, .int 0]))] ++ [(q_1, .inl (G.2 3, 10, .inr (.inr (.inr (.inr (fun _ => none))))))] ++ [(q_2, .inl (G.2 0, 10, .inl (fun _ => 0)))] ++ [(q_3, .inl (G.2 0, 10, .inl (fun _ => 0)))] ++ [(q_4, .inl (G.2 0, 10, .inl (fun _ => 0)))]) H := hP
  have hD : va_D A ([(a0, .inr (7, [.int 0, .ref q_1, .ref q_2, .ref q_3, .null, .null, .int 0, .int 0, .int 0]))] ++ [(q_1, .inl (G.2 3, 10, .inr (.inr (.inr (.inr (fun _ => none))))))] ++ [(q_2, .inl (G.2 0, 10, .inl (fun _ => 0)))] ++ [(q_3, .inl (G.2 0, 10, .inl (fun _ => 0)))] ++ [(q_4, .inl (G.2 0, 10, .inl (fun _ => 0)))]) := hD
  refine W.widen (k := 4) (n := 40) (Nat.le_of_ble_eq_true rfl) (Nat.le_of_ble_eq_true rfl) ?_
  refine va_putF (D := G.1) (ci := 7) (v := .ref q_4) (ty := (.array .int)) (C := RX8) (T := TX8) (N := 9) hx hb hts in_X8 tyX8 tyX8_ok nmX8 hown hK.1 hP hD hS 0 rfl rfl 4 (by decide) (hts _ q186) (fun _ h9 => h9) rfl hin rfl (by decide +kernel) rfl rfl (Nat.le_of_ble_eq_true rfl) dX8_init_34 (fun H locs hP hD hS => ?_)
  have hP : va_P G.1 vwCl ([(a0, .inr (7, [.int 0, .ref q_1, .ref q_2, .ref q_3, .ref q_4, .null, .int 0, .int 0, .int 0]))] ++ [(q_1, .inl (G.2 3, 10, .inr (.inr (.inr (.inr (fun _ => none))))))] ++ [(q_2, .inl (G.2 0, 10, .inl (fun _ => 0)))] ++ [(q_3, .inl (G.2 0, 10, .inl (fun _ => 0)))] ++ [(q_4, .inl (G.2 0, 10, .inl (fun _ => 0)))]) H := hP
  have hD : va_D A ([(a0, .inr (7, [.int 0, .ref q_1, .ref q_2, .ref q_3, .ref q_4, .null, .int 0, .int 0, .int 0]))] ++ [(q_1, .inl (G.2 3, 10, .inr (.inr (.inr (.inr (fun _ => none))))))] ++ [(q_2, .inl (G.2 0, 10, .inl (fun _ => 0)))] ++ [(q_3, .inl (G.2 0, 10, .inl (fun _ => 0)))] ++ [(q_4, .inl (G.2 0, 10, .inl (fun _ => 0)))]) := hD
  refine lv_aload_n hx hb dX8_init_37 rfl (lv_at hl 0 rfl) ?_
  refine lv_bipush (v := 10) hx hb dX8_init_38 (by decide) ?_
  refine x_newa (atype := .int) (ty := .int) (a0 := (10, .inl (fun _ => 0))) hx hb (hts _ q219) rfl hK.1 hP hD hS hA 0 rfl (fun _ => rfl) (by decide) (by decide) (Nat.le_of_ble_eq_true rfl) (Nat.le_of_ble_eq_true rfl) (Nat.le_of_ble_eq_true rfl) dX8_init_40 (fun q_5 H hP hD hS => ?_)
  have hP : va_P G.1 vwCl ([(a0, .inr (7, [.int 0, .ref q_1, .ref q_2, .ref q_3, .ref q_4, .null, .int 0, .int 0, .int 0]))] ++ [(q_1, .inl (G.2 3, 10, .inr (.inr (.inr (.inr (fun _ => none))))))] ++ [(q_2, .inl (G.2 0, 10, .inl (fun _ => 0)))] ++ [(q_3, .inl (G.2 0, 10, .inl (fun _ => 0)))] ++ [(q_4, .inl (G.2 0, 10, .inl (fun _ => 0)))] ++ [(q_5, .inl (G.2 0, 10, .inl (fun _ => 0)))]) H := hP
  have hD : va_D A ([(a0, .inr (7, [.int 0, .ref q_1, .ref q_2, .ref q_3, .ref q_4, .null, .int 0, .int 0, .int 0]))] ++ [(q_1, .inl (G.2 3, 10, .inr (.inr (.inr (.inr (fun _ => none))))))] ++ [(q_2, .inl (G.2 0, 10, .inl (fun _ => 0)))] ++ [(q_3, .inl (G.2 0, 10, .inl (fun _ => 0)))] ++ [(q_4, .inl (G.2 0, 10, .inl (fun _ => 0)))] ++ [(q_5, .inl (G.2 0, 10, .inl (fun _ => 0)))]) := hD
  refine W.widen (k := 5) (n := 50) (Nat.le_of_ble_eq_true rfl) (Nat.le_of_ble_eq_true rfl) ?_
  refine va_putF (D := G.1) (ci := 7) (v := .ref q_5) (ty := (.array .int)) (C := RX8) (T := TX8) (N := 9) hx hb hts in_X8 tyX8 tyX8_ok nmX8 hown hK.1 hP hD hS 0 rfl rfl 5 (by decide) (hts _ q189) (fun _ h9 => h9) rfl hin rfl (by decide +kernel) rfl rfl (Nat.le_of_ble_eq_true rfl) dX8_init_42 (fun H locs hP hD hS => ?_)
  have hP : va_P G.1 vwCl ([(a0, .inr (7, [.int 0, .ref q_1, .ref q_2, .ref q_3, .ref q_4, .ref q_5, .int 0, .int 0, .int 0]))] ++ [(q_1, .inl (G.2 3, 10, .inr (.inr (.inr (.inr (fun _ => none))))))] ++ [(q_2, .inl (G.2 0, 10, .inl (fun _ => 0)))] ++ [(q_3, .inl (G.2 0, 10, .inl (fun _ => 0)))] ++ [(q_4, .inl (G.2 0, 10, .inl (fun _ => 0)))] ++ [(q_5, .inl (G.2 0, 10, .inl (fun _ => 0)))]) H := hP
  have hD : va_D A ([(a0, .inr (7, [.int 0, .ref q_1, .ref q_2, .ref q_3, .ref q_4, .ref q_5, .int 0, .int 0, .int 0]))] ++ [(q_1, .inl (G.2 3, 10, .inr (.inr (.inr (.inr (fun _ => none))))))] ++ [(q_2, .inl (G.2 0, 10, .inl (fun _ => 0)))] ++ [(q_3, .inl (G.2 0, 10, .inl (fun _ => 0)))] ++ [(q_4, .inl (G.2 0, 10, .inl (fun _ => 0)))] ++ [(q_5, .inl (G.2 0, 10, .inl (fun _ => 0)))]) := hD
  refine lv_aload_n hx hb dX8_init_45 rfl (lv_at hl 0 rfl) ?_
  refine lv_iconst (v := 1) hx hb dX8_init_46 (by decide) ?_
  refine va_put (D := G.1) (ci := 7) (v := .int 1) (ty := .boolean) (C := RX8) (T := TX8) (N := 9) hx hb hts in_X8 tyX8 tyX8_ok nmX8 hown hK.1 hP hD hS 0 rfl rfl 6 (by decide) (hts _ q191) (fun _ h9 => h9) rfl (by decide +kernel) rfl rfl (Nat.le_of_ble_eq_true rfl) dX8_init_47 (fun H locs hP hD hS => ?_)
  have hP : va_P G.1 vwCl ([(a0, .inr (7, [.int 0, .ref q_1, .ref q_2, .ref q_3, .ref q_4, .ref q_5, .int 1, .int 0, .int 0]))] ++ [(q_1, .inl (G.2 3, 10, .inr (.inr (.inr (.inr (fun _ => none))))))] ++ [(q_2, .inl (G.2 0, 10, .inl (fun _ => 0)))] ++ [(q_3, .inl (G.2 0, 10, .inl (fun _ => 0)))] ++ [(q_4, .inl (G.2 0, 10, .inl (fun _ => 0)))] ++ [(q_5, .inl (G.2 0, 10, .inl (fun _ => 0)))]) H := hP
  have hD : va_D A ([(a0, .inr (7, [.int 0, .ref q_1, .ref q_2, .ref q_3, .ref q_4, .ref q_5, .int 1, .int 0, .int 0]))] ++ [(q_1, .inl (G.2 3, 10, .inr (.inr (.inr (.inr (fun _ => none))))))] ++ [(q_2, .inl (G.2 0, 10, .inl (fun _ => 0)))] ++ [(q_3, .inl (G.2 0, 10, .inl (fun _ => 0)))] ++ [(q_4, .inl (G.2 0, 10, .inl (fun _ => 0)))] ++ [(q_5, .inl (G.2 0, 10, .inl (fun _ => 0)))]) := hD
  refine hret _ _ _ _ _ _ (fun k => [a0, q_1, q_2, q_3, q_4, q_5].getD k 0) dX8_init_50 ?_ hP hD hS (Nat.le_of_ble_eq_true rfl) (Nat.le_of_ble_eq_true rfl)
  rfl

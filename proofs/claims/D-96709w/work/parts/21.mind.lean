/-! methods in mind (printed by tools/mind.py) -/
set_option maxHeartbeats 4000000 in
set_option maxRecDepth 100000 in
theorem m_openMind (l : Launch) (G : xG) (ad : Nat → Nat → Nat) (kd k1 k2 : Nat → Option Nat) (r r1 r2 : Rw) (ho rn ln dr : Int32) (ro lt rf th sb : Nat → Int32) (hr : Ok r) (hp : r 5 3 = 0) (hk : kOk (ad 4) kd r) : xCr l G yX0_openMind cX0_openMind 1 (some (.object "PulledFromUnder$Room")) ({ frames := 2, cells := 0, slots := 0, locals := 101 } : Room) [.ref (ad 0 0)] (wX G ad ho rn ln dr ro lt rf th sb ++ wR G (ad 1) kd r ++ wR G (ad 2) k1 r1 ++ wR G (ad 3) k2 r2 ++ wK (ad 4)) (S := Unit) (fun _ => True) (fun _ => (ad 2) 0) (fun _ => (wX G ad ho rn ln dr ro lt rf th sb ++ wR G (ad 1) kd r ++ wR G (ad 2) kd r ++ wR G (ad 3) k2 r2 ++ wK (ad 4))) := by
  refine x_openr (by decide) (Nat.le_of_ble_eq_true rfl) (Or.inl ⟨_, rfl⟩) ?_
  intro p e s m args below meth c A Q ls C0 hK hP hD hA hl hret
  obtain ⟨hx, hb, hml, hown, hts⟩ := id C0
  have hS : va_S A s.heap s.heap [] := va_S.rf
  have hP : va_P G.1 vwCl (wX G ad ho rn ln dr ro lt rf th sb ++ wR G (ad 1) kd r ++ wR G (ad 2) k1 r1 ++ wR G (ad 3) k2 r2 ++ wK (ad 4)) s.heap := hP
  have hD : va_D A (wX G ad ho rn ln dr ro lt rf th sb ++ wR G (ad 1) kd r ++ wR G (ad 2) k1 r1 ++ wR G (ad 3) k2 r2 ++ wK (ad 4)) := hD
  have hl : lv_has ls 1 [(0, .ref (ad 0 0))] := hl
  have hr0 := hr.n
  have hN := hr.le
  refine lv_aload_n hx hb dX0_openMind_0 rfl (lv_at hl 0 rfl) ?_
  refine va_get (D := G.1) (ci := 0) (v := .ref ((ad 2) 0)) (C := RX0) (T := TX0) (N := 13) hx hb hts in_X0 hown hK.1 hP 0 rfl rfl 2 (by decide) (hts _ q223) (fun _ h9 => h9) rfl dX0_openMind_1 ?_
  refine lv_aload_n hx hb dX0_openMind_4 rfl (lv_at hl 0 rfl) ?_
  refine va_get (D := G.1) (ci := 0) (v := .ref ((ad 1) 0)) (C := RX0) (T := TX0) (N := 13) hx hb hts in_X0 hown hK.1 hP 0 rfl rfl 1 (by decide) (hts _ q222) (fun _ h9 => h9) rfl dX0_openMind_5 ?_
  refine x_Vr (wN := fun _ => (wX G ad ho rn ln dr ro lt rf th sb ++ wR G (ad 1) kd r ++ wR G (ad 2) kd r ++ wR G (ad 3) k2 r2 ++ wK (ad 4))) ⟨C0, hK, hP, hD, hS, hA⟩ 13 rfl (ci := 7) rfl rfl ((m_set l G (ad 2) (ad 1) (ad 4) k1 kd r1 r hr hk hp)) (cwV 1 hts (lw_V q523 q524 q525 q94 q526) rfl rfl rfl (by decide +kernel) ⟨Nat.le_of_ble_eq_true rfl, Nat.le_of_ble_eq_true rfl⟩) [13, 14, 15, 16, 17, 18, 7, 8, 9, 10, 11, 12, 25, 26, 27, 28, 29, 30] [0, 2, 4, 6, 8, 10, 12, 13, 15, 17, 19, 21, 23, 1, 3, 5, 7, 9, 11, 38, 40, 42, 44, 46, 48, 25, 27, 29, 31, 33, 35] rfl (fun _ => rfl) rfl rfl hl.1 rfl (Nat.le_of_ble_eq_true rfl) dX0_openMind_8 ⟨Nat.le_of_ble_eq_true rfl, Nat.le_of_ble_eq_true rfl⟩ (fun u_1 H locs hw_1 hP hD hS => ?_)
  have hP : va_P G.1 vwCl (wX G ad ho rn ln dr ro lt rf th sb ++ wR G (ad 1) kd r ++ wR G (ad 2) kd r ++ wR G (ad 3) k2 r2 ++ wK (ad 4)) H := hP
  have hD : va_D A (wX G ad ho rn ln dr ro lt rf th sb ++ wR G (ad 1) kd r ++ wR G (ad 2) kd r ++ wR G (ad 3) k2 r2 ++ wK (ad 4)) := hD
  refine lv_pop hx hb dX0_openMind_11 rfl ?_
  refine lv_aload_n hx hb dX0_openMind_12 rfl (lv_at hl 0 rfl) ?_
  refine va_get (D := G.1) (ci := 0) (v := .ref ((ad 2) 0)) (C := RX0) (T := TX0) (N := 13) hx hb hts in_X0 hown hK.1 hP 0 rfl rfl 2 (by decide) (hts _ q223) (fun _ h9 => h9) rfl dX0_openMind_13 ?_
  refine hret _ _ _ _ _ _ () dX0_openMind_16 ?_ hP hD hS (Nat.le_of_ble_eq_true rfl) (Nat.le_of_ble_eq_true rfl)
  trivial
set_option maxHeartbeats 4000000 in
set_option maxRecDepth 100000 in
theorem m_ahead (l : Launch) (G : xG) (ad : Nat → Nat → Nat) (kd k1 k2 : Nat → Option Nat) (r r1 r2 : Rw) (ho rn ln dr : Int32) (ro lt rf th sb : Nat → Int32) (hr : Ok r) (hp : r 5 3 = 0) (hk : kOk (ad 4) kd r) (k : Nat) (hk1 : k < 2 ^ 30) : xCr l G yX0_ahead cX0_ahead 2 (some (.object "PulledFromUnder$Room")) ({ frames := 6, cells := 0, slots := 0, locals := 133 } : Room) [.ref (ad 0 0), .int (nI k)] (wX G ad ho rn ln dr ro lt rf th sb ++ wR G (ad 1) kd r ++ wR G (ad 2) k1 r1 ++ wR G (ad 3) k2 r2 ++ wK (ad 4)) (S := Unit) (fun _ => True) (fun _ => (ad 2) 0) (fun _ => (wX G ad ho rn ln dr ro lt rf th sb ++ wR G (ad 1) kd r ++ wR G (ad 2) kd (pMins r k) ++ wR G (ad 3) k2 r2 ++ wK (ad 4))) := by
  refine x_openr (by decide) (Nat.le_of_ble_eq_true rfl) (Or.inl ⟨_, rfl⟩) ?_
  intro p e s m args below meth c A Q ls C0 hK hP hD hA hl hret
  obtain ⟨hx, hb, hml, hown, hts⟩ := id C0
  have hS : va_S A s.heap s.heap [] := va_S.rf
  have hP : va_P G.1 vwCl (wX G ad ho rn ln dr ro lt rf th sb ++ wR G (ad 1) kd r ++ wR G (ad 2) k1 r1 ++ wR G (ad 3) k2 r2 ++ wK (ad 4)) s.heap := hP
  have hD : va_D A (wX G ad ho rn ln dr ro lt rf th sb ++ wR G (ad 1) kd r ++ wR G (ad 2) k1 r1 ++ wR G (ad 3) k2 r2 ++ wK (ad 4)) := hD
  have hl : lv_has ls 2 [(0, .ref (ad 0 0)), (1, .int (nI k))] := hl
  have hr0 := hr.n
  have hN := hr.le
  refine lv_aload_n hx hb dX0_ahead_0 rfl (lv_at hl 0 rfl) ?_
  refine x_Vr (wN := fun _ => (wX G ad ho rn ln dr ro lt rf th sb ++ wR G (ad 1) kd r ++ wR G (ad 2) kd r ++ wR G (ad 3) k2 r2 ++ wK (ad 4))) ⟨C0, hK, hP, hD, hS, hA⟩ 0 rfl (ci := 0) rfl rfl ((m_openMind l G ad kd k1 k2 r r1 r2 ho rn ln dr ro lt rf th sb hr hp hk )) (cwV 0 hts (lw_V q795 q797 qs25 q86 q798) rfl rfl rfl (by decide +kernel) ⟨Nat.le_of_ble_eq_true rfl, Nat.le_of_ble_eq_true rfl⟩) [0, 1, 2, 3, 4, 5, 6, 7, 8, 9, 10, 11, 12, 13, 14, 15, 16, 17, 18, 19, 20, 21, 22, 23, 24, 25, 26, 27, 28, 29, 30] [1, 3, 5, 7, 9, 11, 13, 15, 17, 19, 21, 23, 25, 27, 29, 31, 33, 35, 37, 39, 41, 43, 45, 47, 49, 51, 53, 55, 57, 59, 61] rfl (fun _ => rfl) rfl rfl hl.1 rfl (Nat.le_of_ble_eq_true rfl) dX0_ahead_1 ⟨Nat.le_of_ble_eq_true rfl, Nat.le_of_ble_eq_true rfl⟩ (fun u_1 H locs hw_1 hP hD hS => ?_)
  have hP : va_P G.1 vwCl (wX G ad ho rn ln dr ro lt rf th sb ++ wR G (ad 1) kd r ++ wR G (ad 2) kd r ++ wR G (ad 3) k2 r2 ++ wK (ad 4)) H := hP
  have hD : va_D A (wX G ad ho rn ln dr ro lt rf th sb ++ wR G (ad 1) kd r ++ wR G (ad 2) kd r ++ wR G (ad 3) k2 r2 ++ wK (ad 4)) := hD
  refine lv_iload_n hx hb dX0_ahead_4 rfl (lv_at hl 1 rfl) ?_
  refine x_Vr (wN := fun _ => (wX G ad ho rn ln dr ro lt rf th sb ++ wR G (ad 1) kd r ++ wR G (ad 2) kd (pMins r k) ++ wR G (ad 3) k2 r2 ++ wK (ad 4))) ⟨C0, hK, hP, hD, hS, hA⟩ 13 rfl (ci := 7) rfl rfl ((m_minutesOn l G (ad 2) (ad 4) kd r hr hk k hk1)) (cwV 1 hts (lw_V q770 q623 q624 q94 q625) rfl rfl rfl (by decide +kernel) ⟨Nat.le_of_ble_eq_true rfl, Nat.le_of_ble_eq_true rfl⟩) [13, 14, 15, 16, 17, 18, 25, 26, 27, 28, 29, 30] [0, 2, 4, 6, 8, 10, 12, 14, 16, 18, 20, 22, 24, 1, 3, 5, 7, 9, 11, 38, 40, 42, 44, 46, 48, 13, 15, 17, 19, 21, 23] rfl (fun _ => rfl) rfl rfl hl.1 rfl (Nat.le_of_ble_eq_true rfl) dX0_ahead_5 ⟨Nat.le_of_ble_eq_true rfl, Nat.le_of_ble_eq_true rfl⟩ (fun u_2 H locs hw_2 hP hD hS => ?_)
  have hP : va_P G.1 vwCl (wX G ad ho rn ln dr ro lt rf th sb ++ wR G (ad 1) kd r ++ wR G (ad 2) kd (pMins r k) ++ wR G (ad 3) k2 r2 ++ wK (ad 4)) H := hP
  have hD : va_D A (wX G ad ho rn ln dr ro lt rf th sb ++ wR G (ad 1) kd r ++ wR G (ad 2) kd (pMins r k) ++ wR G (ad 3) k2 r2 ++ wK (ad 4)) := hD
  refine hret _ _ _ _ _ _ () dX0_ahead_8 ?_ hP hD hS (Nat.le_of_ble_eq_true rfl) (Nat.le_of_ble_eq_true rfl)
  trivial
set_option maxHeartbeats 4000000 in
set_option maxRecDepth 100000 in
theorem m_fallIn (l : Launch) (G : xG) (ad : Nat → Nat → Nat) (kd k1 k2 : Nat → Option Nat) (r r1 r2 : Rw) (ho rn ln dr : Int32) (ro lt rf th sb : Nat → Int32) (hr : Ok r) (hp : r 5 3 = 0) (hk : kOk (ad 4) kd r) (t : Nat) (ht : t < 10) : xCi l G yX0_fallIn cX0_fallIn 4 (some .int) ({ frames := 5, cells := 0, slots := 0, locals := 111 } : Room) [.ref (ad 0 0), .ref ((ad 2) 0), .int (nI t)] (wX G ad ho rn ln dr ro lt rf th sb ++ wR G (ad 1) kd r ++ wR G (ad 2) kd r ++ wR G (ad 3) k2 r2 ++ wK (ad 4)) (S := ((Nat → Option Nat) × Rw)) (fun v _ => v = nI (pFallIn r t)) (fun u => (wX G ad ho rn ln dr ro lt rf th sb ++ wR G (ad 1) kd r ++ wR G (ad 2) u.1 u.2 ++ wR G (ad 3) k2 r2 ++ wK (ad 4))) := by
  refine x_openi (by decide) (Nat.le_of_ble_eq_true rfl) (fun _ _ _ => rfl) ?_
  intro p e s m args below meth c A Q ls C0 hK hP hD hA hl hret
  obtain ⟨hx, hb, hml, hown, hts⟩ := id C0
  have hS : va_S A s.heap s.heap [] := va_S.rf
  have hP : va_P G.1 vwCl (wX G ad ho rn ln dr ro lt rf th sb ++ wR G (ad 1) kd r ++ wR G (ad 2) kd r ++ wR G (ad 3) k2 r2 ++ wK (ad 4)) s.heap := hP
  have hD : va_D A (wX G ad ho rn ln dr ro lt rf th sb ++ wR G (ad 1) kd r ++ wR G (ad 2) kd r ++ wR G (ad 3) k2 r2 ++ wK (ad 4)) := hD
  have hl : lv_has ls 4 [(0, .ref (ad 0 0)), (1, .ref ((ad 2) 0)), (2, .int (nI t))] := hl
  have hr0 := hr.n
  have hN := hr.le
  refine lv_iconst (v := 0) hx hb dX0_fallIn_0 (by decide) ?_
  refine lv_istore_n (lv' := [(3, .int 0), (0, .ref (ad 0 0)), (1, .ref ((ad 2) 0)), (2, .int (nI t))]) hx hb dX0_fallIn_1 rfl hl (by decide) rfl (fun ls hl => ?_)
  have loop_2 : ∀ (n : Nat) (i : Nat), (i ≤ 100) → (100 < i + n) → (∀ j, j < i → ¬ pMins r j 3 t = 1) → ∀ (H : Heap) (locs : List Loc) (ls : Array Slot), va_P G.1 vwCl (wX G ad ho rn ln dr ro lt rf th sb ++ wR G (ad 1) kd r ++ wR G (ad 2) kd (pMins r i) ++ wR G (ad 3) k2 r2 ++ wK (ad 4)) H → va_D A (wX G ad ho rn ln dr ro lt rf th sb ++ wR G (ad 1) kd r ++ wR G (ad 2) kd (pMins r i) ++ wR G (ad 3) k2 r2 ++ wK (ad 4)) → va_S A s.heap H locs → lv_has ls 4 [(3, .int (nI i)), (0, .ref (ad 0 0)), (1, .ref ((ad 2) 0)), (2, .int (nI t))] → W p l e ({ frames := 5, cells := 0, slots := 0, locals := 111 } : Room) s m args below meth c H locs 0 0 Q (F0 m 2 ls []) := by
    intro n
    induction n with
    | zero => intro i hi2_0 hi2_1 hi2_2; exact absurd hi2_1 (by omega)
    | succ n ih_2 =>
      intro i hi2_0 hi2_1 hi2_2 H locs ls hP hD hS hl
      refine lv_iload_n hx hb dX0_fallIn_2 rfl (lv_at hl 0 rfl) ?_
      refine lv_bipush (v := 99) hx hb dX0_fallIn_3 (by decide) ?_
      refine lv_icmp_gt (tgt := 29) hx hb dX0_fallIn_5 (by decide) (fun c_1 => ?_) (fun c_1 => ?_)
      · skip
        have g_1 := (nI_ltI (by omega) (by omega)).mp (show nI i > nI 99 from c_1)
        refine lv_iload_n hx hb dX0_fallIn_29 rfl (lv_at hl 0 rfl) ?_
        refine hret _ _ _ _ _ _ (nI i) (kd, (pMins r i)) dX0_fallIn_30 ?_ hP hD hS (Nat.le_of_ble_eq_true rfl) (Nat.le_of_ble_eq_true rfl)
        refine congrArg nI (fs_eq hi2_0 (fun j hj => decide_eq_false (hi2_2 j hj)) (fun q => absurd q (by omega))).symm
      · skip
        have g_1 := mt (nI_ltI (by omega) (by omega)).mpr (show ¬ (nI i > nI 99) from c_1)
        refine lv_aload_n hx hb dX0_fallIn_8 rfl (lv_at hl 2 rfl) ?_
        refine va_getN (D := G.1) (ci := 7) (v := .ref ((ad 2) 4)) (C := RX8) (T := TX8) (N := 9) hx hb hts in_X8 hown hK.1 hP 13 rfl rfl 4 (by decide) (va_Nw.use rfl (hK.2.F 9 rfl)) (fun _ h9 => h9) rfl dX0_fallIn_9 ?_
        refine lv_iload_n hx hb dX0_fallIn_12 rfl (lv_at hl 3 rfl) ?_
        refine x_ialdn (k := t) hx hb hK.1 hP 17 0 rfl rfl (by omega) (by decide) (v := ((pMins r i) 3) t) rfl dX0_fallIn_13 ?_
        refine lv_iconst (v := 1) hx hb dX0_fallIn_14 (by decide) ?_
        refine lv_icmp_eq (tgt := 29) hx hb dX0_fallIn_15 (by decide) (fun c_2 => ?_) (fun c_2 => ?_)
        · skip
          refine lv_iload_n hx hb dX0_fallIn_29 rfl (lv_at hl 0 rfl) ?_
          refine hret _ _ _ _ _ _ (nI i) (kd, (pMins r i)) dX0_fallIn_30 ?_ hP hD hS (Nat.le_of_ble_eq_true rfl) (Nat.le_of_ble_eq_true rfl)
          refine congrArg nI (fs_eq hi2_0 (fun j hj => decide_eq_false (hi2_2 j hj)) (fun q => decide_eq_true c_2)).symm
        · skip
          refine lv_aload_n hx hb dX0_fallIn_18 rfl (lv_at hl 2 rfl) ?_
          refine lv_iconst (v := 0) hx hb dX0_fallIn_19 (by decide) ?_
          refine x_Vv (wN := fun _ => (wX G ad ho rn ln dr ro lt rf th sb ++ wR G (ad 1) kd r ++ wR G (ad 2) kd (pMin (pMins r i) 0) ++ wR G (ad 3) k2 r2 ++ wK (ad 4))) ⟨C0, hK, hP, hD, hS, hA⟩ 13 rfl (ci := 7) rfl rfl ((m_minuteOn l G (ad 2) (ad 4) kd (pMins r i) (hr.mins) (hk.mins) 0)) (cwV 1 hts (lw_V q807 q627 q628 q94 q629) rfl rfl rfl (by decide +kernel) ⟨Nat.le_of_ble_eq_true rfl, Nat.le_of_ble_eq_true rfl⟩) [13, 14, 15, 16, 17, 18, 25, 26, 27, 28, 29, 30] [0, 2, 4, 6, 8, 10, 12, 14, 16, 18, 20, 22, 24, 1, 3, 5, 7, 9, 11, 38, 40, 42, 44, 46, 48, 13, 15, 17, 19, 21, 23] rfl (fun _ => rfl) rfl rfl hl.1 rfl (Nat.le_of_ble_eq_true rfl) dX0_fallIn_20 ⟨Nat.le_of_ble_eq_true rfl, Nat.le_of_ble_eq_true rfl⟩ (fun u_3 H locs hw_3 hP hD hS => ?_)
          have hP : va_P G.1 vwCl (wX G ad ho rn ln dr ro lt rf th sb ++ wR G (ad 1) kd r ++ wR G (ad 2) kd (pMin (pMins r i) 0) ++ wR G (ad 3) k2 r2 ++ wK (ad 4)) H := hP
          have hD : va_D A (wX G ad ho rn ln dr ro lt rf th sb ++ wR G (ad 1) kd r ++ wR G (ad 2) kd (pMin (pMins r i) 0) ++ wR G (ad 3) k2 r2 ++ wK (ad 4)) := hD
          refine lv_iinc (v := nI (i + 1)) (lv' := [(3, .int (nI (i + 1))), (0, .ref (ad 0 0)), (1, .ref ((ad 2) 0)), (2, .int (nI t))]) hx hb dX0_fallIn_23 hl (k := 0) rfl (x_inc1 _) (by decide) rfl (fun ls hl => ?_)
          refine lv_goto (tgt := 2) hx hb dX0_fallIn_26 (by decide) ?_
          exact ih_2 (i + 1) (by omega) (by omega) (fun j hj => if q : j = i then q ▸ c_2 else hi2_2 j (by omega)) _ _ _ hP hD hS (lv_sub hl [0, 1, 2, 3] rfl)
  exact loop_2 101 0 (by omega) (by omega) (fun j hj => absurd hj (Nat.not_lt_zero j)) _ _ _ hP hD hS (lv_sub hl [0, 1, 2, 3] rfl)
set_option maxHeartbeats 4000000 in
set_option maxRecDepth 100000 in
theorem m_firstFall (l : Launch) (G : xG) (ad : Nat → Nat → Nat) (kd k1 k2 : Nat → Option Nat) (r r1 r2 : Rw) (ho rn ln dr : Int32) (ro lt rf th sb : Nat → Int32) (hr : Ok r) (hp : r 5 3 = 0) (hk : kOk (ad 4) kd r) (w : Int32) : xCi l G yX0_firstFall cX0_firstFall 7 (some .int) ({ frames := 5, cells := 0, slots := 0, locals := 121 } : Room) [.ref (ad 0 0), .int w] (wX G ad ho rn ln dr ro lt rf th sb ++ wR G (ad 1) kd r ++ wR G (ad 2) k1 r1 ++ wR G (ad 3) k2 r2 ++ wK (ad 4)) (S := ((Nat → Option Nat) × Rw)) (fun v _ => v = pFF r w) (fun u => (wX G ad ho rn ln dr ro lt rf th sb ++ wR G (ad 1) kd r ++ wR G (ad 2) u.1 u.2 ++ wR G (ad 3) k2 r2 ++ wK (ad 4))) := by
  refine x_openi (by decide) (Nat.le_of_ble_eq_true rfl) (fun _ _ _ => rfl) ?_
  intro p e s m args below meth c A Q ls C0 hK hP hD hA hl hret
  obtain ⟨hx, hb, hml, hown, hts⟩ := id C0
  have hS : va_S A s.heap s.heap [] := va_S.rf
  have hP : va_P G.1 vwCl (wX G ad ho rn ln dr ro lt rf th sb ++ wR G (ad 1) kd r ++ wR G (ad 2) k1 r1 ++ wR G (ad 3) k2 r2 ++ wK (ad 4)) s.heap := hP
  have hD : va_D A (wX G ad ho rn ln dr ro lt rf th sb ++ wR G (ad 1) kd r ++ wR G (ad 2) k1 r1 ++ wR G (ad 3) k2 r2 ++ wK (ad 4)) := hD
  have hl : lv_has ls 7 [(0, .ref (ad 0 0)), (1, .int w)] := hl
  have hr0 := hr.n
  have hN := hr.le
  refine lv_aload_n hx hb dX0_firstFall_0 rfl (lv_at hl 0 rfl) ?_
  refine va_get (D := G.1) (ci := 0) (v := .ref ((ad 1) 0)) (C := RX0) (T := TX0) (N := 13) hx hb hts in_X0 hown hK.1 hP 0 rfl rfl 1 (by decide) (hts _ q222) (fun _ h9 => h9) rfl dX0_firstFall_1 ?_
  refine lv_iconst (v := 0) hx hb dX0_firstFall_4 (by decide) ?_
  refine x_Vi (wN := fun _ => (wX G ad ho rn ln dr ro lt rf th sb ++ wR G (ad 1) kd r ++ wR G (ad 2) k1 r1 ++ wR G (ad 3) k2 r2 ++ wK (ad 4))) ⟨C0, hK, hP, hD, hS, hA⟩ 7 rfl (ci := 7) rfl rfl ((m_bits l G (ad 1) (ad 4) kd r hr hk 0)) (cwV 1 hts (lw_V q815 q643 q644 q94 q645) rfl rfl rfl (by decide +kernel) ⟨Nat.le_of_ble_eq_true rfl, Nat.le_of_ble_eq_true rfl⟩) [7, 8, 9, 10, 11, 12, 25, 26, 27, 28, 29, 30] [0, 2, 4, 6, 8, 10, 12, 1, 3, 5, 7, 9, 11, 26, 28, 30, 32, 34, 36, 38, 40, 42, 44, 46, 48, 13, 15, 17, 19, 21, 23] rfl (fun _ => rfl) rfl rfl hl.1 rfl (Nat.le_of_ble_eq_true rfl) dX0_firstFall_5 ⟨Nat.le_of_ble_eq_true rfl, Nat.le_of_ble_eq_true rfl⟩ (fun r_1 u_1 H locs hw_1 hP hD hS => ?_)
  have hw_1 : (pSet r 0 : Int32) = r_1 := hw_1.symm
  subst hw_1
  refine lv_istore_n (lv' := [(2, .int (pSet r 0)), (0, .ref (ad 0 0)), (1, .int w)]) hx hb dX0_firstFall_8 rfl hl (by decide) rfl (fun ls hl => ?_)
  refine lv_aload_n hx hb dX0_firstFall_9 rfl (lv_at hl 1 rfl) ?_
  refine x_Vr (wN := fun _ => (wX G ad ho rn ln dr ro lt rf th sb ++ wR G (ad 1) kd r ++ wR G (ad 2) kd r ++ wR G (ad 3) k2 r2 ++ wK (ad 4))) ⟨C0, hK, hP, hD, hS, hA⟩ 0 rfl (ci := 0) rfl rfl ((m_openMind l G ad kd k1 k2 r r1 r2 ho rn ln dr ro lt rf th sb hr hp hk )) (cwV 0 hts (lw_V q795 q797 qs25 q86 q798) rfl rfl rfl (by decide +kernel) ⟨Nat.le_of_ble_eq_true rfl, Nat.le_of_ble_eq_true rfl⟩) [0, 1, 2, 3, 4, 5, 6, 7, 8, 9, 10, 11, 12, 13, 14, 15, 16, 17, 18, 19, 20, 21, 22, 23, 24, 25, 26, 27, 28, 29, 30] [1, 3, 5, 7, 9, 11, 13, 15, 17, 19, 21, 23, 25, 27, 29, 31, 33, 35, 37, 39, 41, 43, 45, 47, 49, 51, 53, 55, 57, 59, 61] rfl (fun _ => rfl) rfl rfl hl.1 rfl (Nat.le_of_ble_eq_true rfl) dX0_firstFall_10 ⟨Nat.le_of_ble_eq_true rfl, Nat.le_of_ble_eq_true rfl⟩ (fun u_2 H locs hw_2 hP hD hS => ?_)
  have hP : va_P G.1 vwCl (wX G ad ho rn ln dr ro lt rf th sb ++ wR G (ad 1) kd r ++ wR G (ad 2) kd r ++ wR G (ad 3) k2 r2 ++ wK (ad 4)) H := hP
  have hD : va_D A (wX G ad ho rn ln dr ro lt rf th sb ++ wR G (ad 1) kd r ++ wR G (ad 2) kd r ++ wR G (ad 3) k2 r2 ++ wK (ad 4)) := hD
  refine lv_astore_n (lv' := [(3, .ref ((ad 2) 0)), (2, .int (pSet r 0)), (0, .ref (ad 0 0)), (1, .int w)]) hx hb dX0_firstFall_13 rfl hl (by decide) rfl (fun ls hl => ?_)
  refine lv_iconst (v := 1) hx hb dX0_firstFall_14 (by decide) ?_
  refine lv_istore (lv' := [(4, .int 1), (3, .ref ((ad 2) 0)), (2, .int (pSet r 0)), (0, .ref (ad 0 0)), (1, .int w)]) hx hb dX0_firstFall_15 hl (by decide) rfl (fun ls hl => ?_)
  have loop_17 : ∀ (n : Nat) (i : Nat), (i ≤ 99) → (99 < i + n) → (∀ j, j ≤ i → ¬ fs (pNow r j) (mny r) < mny r) → ∀ (H : Heap) (locs : List Loc) (ls : Array Slot), va_P G.1 vwCl (wX G ad ho rn ln dr ro lt rf th sb ++ wR G (ad 1) kd r ++ wR G (ad 2) kd (pMins r i) ++ wR G (ad 3) k2 r2 ++ wK (ad 4)) H → va_D A (wX G ad ho rn ln dr ro lt rf th sb ++ wR G (ad 1) kd r ++ wR G (ad 2) kd (pMins r i) ++ wR G (ad 3) k2 r2 ++ wK (ad 4)) → va_S A s.heap H locs → lv_has ls 7 [(4, .int (nI (i + 1))), (3, .ref ((ad 2) 0)), (2, .int (pSet r 0)), (0, .ref (ad 0 0)), (1, .int w)] → W p l e ({ frames := 5, cells := 0, slots := 0, locals := 121 } : Room) s m args below meth c H locs 0 0 Q (F0 m 17 ls []) := by
    intro n
    induction n with
    | zero => intro i hi17_0 hi17_1 hi17_2; exact absurd hi17_1 (by omega)
    | succ n ih_17 =>
      intro i hi17_0 hi17_1 hi17_2 H locs ls hP hD hS hl
      refine lv_iload hx hb dX0_firstFall_17 (lv_at hl 0 rfl) ?_
      refine lv_bipush (v := 99) hx hb dX0_firstFall_19 (by decide) ?_
      refine lv_icmp_gt (tgt := 84) hx hb dX0_firstFall_21 (by decide) (fun c_3 => ?_) (fun c_3 => ?_)
      · skip
        have g_3 := (nI_ltI (by omega) (by omega)).mp (show nI (i + 1) > nI 99 from c_3)
        refine lv_bipush (v := (-9)) hx hb dX0_firstFall_84 (by decide) ?_
        refine hret _ _ _ _ _ _ (-9) (kd, (pMins r i)) dX0_firstFall_86 ?_ hP hD hS (Nat.le_of_ble_eq_true rfl) (Nat.le_of_ble_eq_true rfl)
        exact pFF_none (fun j hj => hi17_2 j (by omega))
      · skip
        have g_3 := mt (nI_ltI (by omega) (by omega)).mpr (show ¬ (nI (i + 1) > nI 99) from c_3)
        refine lv_aload_n hx hb dX0_firstFall_24 rfl (lv_at hl 1 rfl) ?_
        refine lv_iconst (v := 0) hx hb dX0_firstFall_25 (by decide) ?_
        refine x_Vv (wN := fun _ => (wX G ad ho rn ln dr ro lt rf th sb ++ wR G (ad 1) kd r ++ wR G (ad 2) kd (pMin (pMins r i) 0) ++ wR G (ad 3) k2 r2 ++ wK (ad 4))) ⟨C0, hK, hP, hD, hS, hA⟩ 13 rfl (ci := 7) rfl rfl ((m_minuteOn l G (ad 2) (ad 4) kd (pMins r i) (hr.mins) (hk.mins) 0)) (cwV 1 hts (lw_V q807 q627 q628 q94 q629) rfl rfl rfl (by decide +kernel) ⟨Nat.le_of_ble_eq_true rfl, Nat.le_of_ble_eq_true rfl⟩) [13, 14, 15, 16, 17, 18, 25, 26, 27, 28, 29, 30] [0, 2, 4, 6, 8, 10, 12, 14, 16, 18, 20, 22, 24, 1, 3, 5, 7, 9, 11, 38, 40, 42, 44, 46, 48, 13, 15, 17, 19, 21, 23] rfl (fun _ => rfl) rfl rfl hl.1 rfl (Nat.le_of_ble_eq_true rfl) dX0_firstFall_26 ⟨Nat.le_of_ble_eq_true rfl, Nat.le_of_ble_eq_true rfl⟩ (fun u_4 H locs hw_4 hP hD hS => ?_)
        have hP : va_P G.1 vwCl (wX G ad ho rn ln dr ro lt rf th sb ++ wR G (ad 1) kd r ++ wR G (ad 2) kd (pMin (pMins r i) 0) ++ wR G (ad 3) k2 r2 ++ wK (ad 4)) H := hP
        have hD : va_D A (wX G ad ho rn ln dr ro lt rf th sb ++ wR G (ad 1) kd r ++ wR G (ad 2) kd (pMin (pMins r i) 0) ++ wR G (ad 3) k2 r2 ++ wK (ad 4)) := hD
        refine lv_aload_n hx hb dX0_firstFall_29 rfl (lv_at hl 1 rfl) ?_
        refine lv_iconst (v := 1) hx hb dX0_firstFall_30 (by decide) ?_
        refine x_Vi (wN := fun _ => (wX G ad ho rn ln dr ro lt rf th sb ++ wR G (ad 1) kd r ++ wR G (ad 2) kd (pMin (pMins r i) 0) ++ wR G (ad 3) k2 r2 ++ wK (ad 4))) ⟨C0, hK, hP, hD, hS, hA⟩ 13 rfl (ci := 7) rfl rfl ((m_bits l G (ad 2) (ad 4) kd (pMin (pMins r i) 0) (Ok.min (hr.mins)) (kOk.min (hk.mins)) 1)) (cwV 1 hts (lw_V q815 q643 q644 q94 q645) rfl rfl rfl (by decide +kernel) ⟨Nat.le_of_ble_eq_true rfl, Nat.le_of_ble_eq_true rfl⟩) [13, 14, 15, 16, 17, 18, 25, 26, 27, 28, 29, 30] [0, 2, 4, 6, 8, 10, 12, 14, 16, 18, 20, 22, 24, 1, 3, 5, 7, 9, 11, 38, 40, 42, 44, 46, 48, 13, 15, 17, 19, 21, 23] rfl (fun _ => rfl) rfl rfl hl.1 rfl (Nat.le_of_ble_eq_true rfl) dX0_firstFall_31 ⟨Nat.le_of_ble_eq_true rfl, Nat.le_of_ble_eq_true rfl⟩ (fun r_5 u_5 H locs hw_5 hP hD hS => ?_)
        have hw_5 : (pSet (pMin (pMins r i) 0) 1 : Int32) = r_5 := hw_5.symm
        subst hw_5
        refine lv_iload_n hx hb dX0_firstFall_34 rfl (lv_at hl 2 rfl) ?_
        refine x_iand hx hb dX0_firstFall_35 (v := bs (pNow r (i + 1)) (mny r)) (bs_now r (i + 1) hN) ?_
        refine lv_istore (lv' := [(5, .int (bs (pNow r (i + 1)) (mny r))), (4, .int (nI (i + 1))), (3, .ref ((ad 2) 0)), (2, .int (pSet r 0)), (0, .ref (ad 0 0)), (1, .int w)]) hx hb dX0_firstFall_36 hl (by decide) rfl (fun ls hl => ?_)
        refine lv_iconst (v := 0) hx hb dX0_firstFall_38 (by decide) ?_
        refine lv_istore (lv' := [(6, .int 0), (5, .int (bs (pNow r (i + 1)) (mny r))), (4, .int (nI (i + 1))), (3, .ref ((ad 2) 0)), (2, .int (pSet r 0)), (0, .ref (ad 0 0)), (1, .int w)]) hx hb dX0_firstFall_39 hl (by decide) rfl (fun ls hl => ?_)
        have loop_41 : ∀ (n : Nat) (t : Nat), (t ≤ mny r) → (mny r < t + n) → (∀ j, j < t → pNow r (i + 1) j = false) → ∀ (H : Heap) (locs : List Loc) (ls : Array Slot), va_P G.1 vwCl (wX G ad ho rn ln dr ro lt rf th sb ++ wR G (ad 1) kd r ++ wR G (ad 2) kd (pMin (pMins r i) 0) ++ wR G (ad 3) k2 r2 ++ wK (ad 4)) H → va_D A (wX G ad ho rn ln dr ro lt rf th sb ++ wR G (ad 1) kd r ++ wR G (ad 2) kd (pMin (pMins r i) 0) ++ wR G (ad 3) k2 r2 ++ wK (ad 4)) → va_S A s.heap H locs → lv_has ls 7 [(6, .int (nI t)), (5, .int (bs (pNow r (i + 1)) (mny r))), (4, .int (nI (i + 1))), (3, .ref ((ad 2) 0)), (2, .int (pSet r 0)), (0, .ref (ad 0 0)), (1, .int w)] → W p l e ({ frames := 5, cells := 0, slots := 0, locals := 121 } : Room) s m args below meth c H locs 0 0 Q (F0 m 41 ls []) := by
          intro n
          induction n with
          | zero => intro t hi41_0 hi41_1 hi41_2; exact absurd hi41_1 (by omega)
          | succ n ih_41 =>
            intro t hi41_0 hi41_1 hi41_2 H locs ls hP hD hS hl
            refine lv_iload hx hb dX0_firstFall_41 (lv_at hl 0 rfl) ?_
            refine lv_aload_n hx hb dX0_firstFall_43 rfl (lv_at hl 3 rfl) ?_
            refine va_getN (D := G.1) (ci := 7) (v := .int (nI (mny r))) (C := RX8) (T := TX8) (N := 9) hx hb hts in_X8 hown hK.1 hP 13 rfl rfl 0 (by decide) (va_Nw.use rfl (hK.2.F 4 rfl)) (fun _ h9 => h9) (x_some (pMins_r0 hr)) dX0_firstFall_44 ?_
            refine lv_icmp_ge (tgt := 78) hx hb dX0_firstFall_47 (by decide) (fun c_6 => ?_) (fun c_6 => ?_)
            · skip
              have g_6 := (nI_leI (by omega) (by omega)).mp c_6
              refine lv_iinc (v := nI ((i + 1) + 1)) (lv' := [(4, .int (nI ((i + 1) + 1))), (6, .int (nI t)), (5, .int (bs (pNow r (i + 1)) (mny r))), (3, .ref ((ad 2) 0)), (2, .int (pSet r 0)), (0, .ref (ad 0 0)), (1, .int w)]) hx hb dX0_firstFall_78 hl (k := 2) rfl (x_inc1 _) (by decide) rfl (fun ls hl => ?_)
              refine lv_goto (tgt := 17) hx hb dX0_firstFall_81 (by decide) ?_
              exact ih_17 (i + 1) (by omega) (by omega) (fun j hj => if q : j = i + 1 then by rw [q, fs_eq (Nat.le_refl _) (fun t ht => hi41_2 t (by omega)) (fun z => absurd z (by omega))]; omega else hi17_2 j (by omega)) _ _ _ hP hD hS (lv_sub hl [0, 3, 4, 5, 6] rfl)
            · skip
              have g_6 := mt (nI_leI (by omega) (by omega)).mpr c_6
              refine lv_iload hx hb dX0_firstFall_50 (lv_at hl 1 rfl) ?_
              refine lv_iload hx hb dX0_firstFall_52 (lv_at hl 0 rfl) ?_
              refine x_Si (wN := fun _ => (wX G ad ho rn ln dr ro lt rf th sb ++ wR G (ad 1) kd r ++ wR G (ad 2) kd (pMin (pMins r i) 0) ++ wR G (ad 3) k2 r2 ++ wK (ad 4))) ⟨C0, hK, hP, hD, hS, hA⟩ ((m_has l G (bs (pNow r (i + 1)) (mny r)) t)) (va_cwS 2 hts (lw_S q816 q617 q86 q618) rfl rfl rfl (by decide +kernel) ⟨Nat.le_of_ble_eq_true rfl, Nat.le_of_ble_eq_true rfl⟩) [] [0, 2, 4, 6, 8, 10, 12, 14, 16, 18, 20, 22, 24, 26, 28, 30, 32, 34, 36, 38, 40, 42, 44, 46, 48, 50, 52, 54, 56, 58, 60] rfl (fun _ => rfl) rfl rfl hl.1 rfl (Nat.le_of_ble_eq_true rfl) dX0_firstFall_54 ⟨Nat.le_of_ble_eq_true rfl, Nat.le_of_ble_eq_true rfl⟩ (fun r_7 u_7 H locs hw_7 hP hD hS => ?_)
              have hw_7 : r_7 = bI (pNow r (i + 1) t) := hw_7.trans (congrArg bI (hs_in (by omega) (by omega)))
              have hw_7 : (bI (pNow r (i + 1) t) : Int32) = r_7 := hw_7.symm
              subst hw_7
              refine lv_if_eq (tgt := 72) hx hb dX0_firstFall_57 (by decide) (fun c_8 => ?_) (fun c_8 => ?_)
              · skip
                refine lv_iinc (v := nI (t + 1)) (lv' := [(6, .int (nI (t + 1))), (5, .int (bs (pNow r (i + 1)) (mny r))), (4, .int (nI (i + 1))), (3, .ref ((ad 2) 0)), (2, .int (pSet r 0)), (0, .ref (ad 0 0)), (1, .int w)]) hx hb dX0_firstFall_72 hl (k := 0) rfl (x_inc1 _) (by decide) rfl (fun ls hl => ?_)
                refine lv_goto (tgt := 41) hx hb dX0_firstFall_75 (by decide) ?_
                exact ih_41 (t + 1) (by omega) (by omega) (fun j hj => if q : j = t then q ▸ (by simpa [bI_0] using c_8) else hi41_2 j (by omega)) _ _ _ hP hD hS (lv_sub hl [0, 1, 2, 3, 4, 5, 6] rfl)
              · skip
                refine lv_iload_n hx hb dX0_firstFall_60 rfl (lv_at hl 6 rfl) ?_
                refine lv_if_ne (tgt := 69) hx hb dX0_firstFall_61 (by decide) (fun c_9 => ?_) (fun c_9 => ?_)
                · skip
                  refine lv_iload hx hb dX0_firstFall_69 (lv_at hl 2 rfl) ?_
                  refine hret _ _ _ _ _ _ (nI (i + 1)) (kd, (pMin (pMins r i) 0)) dX0_firstFall_71 ?_ hP hD hS (Nat.le_of_ble_eq_true rfl) (Nat.le_of_ble_eq_true rfl)
                  obtain ⟨e1, e2⟩ := pFF_at (r := r) (n := i + 1) (t := t) (fun j hj => hi17_2 j (by omega)) (by omega) (by omega) hi41_2 (by simpa [bI_0] using c_8)
                  unfold pFF
                  rw [e1, if_pos (by omega), if_neg c_9]
                · skip
                  refine lv_iload hx hb dX0_firstFall_64 (lv_at hl 0 rfl) ?_
                  refine lv_goto (tgt := 71) hx hb dX0_firstFall_66 (by decide) ?_
                  refine hret _ _ _ _ _ _ (nI t) (kd, (pMin (pMins r i) 0)) dX0_firstFall_71 ?_ hP hD hS (Nat.le_of_ble_eq_true rfl) (Nat.le_of_ble_eq_true rfl)
                  obtain ⟨e1, e2⟩ := pFF_at (r := r) (n := i + 1) (t := t) (fun j hj => hi17_2 j (by omega)) (by omega) (by omega) hi41_2 (by simpa [bI_0] using c_8)
                  unfold pFF
                  rw [e1, if_pos (by omega), if_pos c_9, e2]
        exact loop_41 (mny r + 1) 0 (by omega) (by omega) (fun j hj => absurd hj (Nat.not_lt_zero j)) _ _ _ hP hD hS (lv_sub hl [0, 1, 2, 3, 4, 5, 6] rfl)
  exact loop_17 100 0 (by omega) (by omega) (fun j hj => by rw [show j = 0 by omega, fs_eq (Nat.le_refl _) (fun t ht => pNow_0 r t) (fun z => absurd z (by omega))]; omega) _ _ _ hP hD hS (lv_sub hl [0, 1, 2, 3, 4] rfl)
set_option maxHeartbeats 4000000 in
set_option maxRecDepth 100000 in
theorem m_standFor (l : Launch) (G : xG) (ad : Nat → Nat → Nat) (kd k1 k2 : Nat → Option Nat) (r r1 r2 : Rw) (ho rn ln dr : Int32) (ro lt rf th sb : Nat → Int32) (hr : Ok r) (hp : r 5 3 = 0) (hk : kOk (ad 4) kd r) : xCi l G yX0_standFor cX0_standFor 2 (some .int) ({ frames := 6, cells := 0, slots := 0, locals := 147 } : Room) [.ref (ad 0 0)] (wX G ad ho rn ln dr ro lt rf th sb ++ wR G (ad 1) kd r ++ wR G (ad 2) k1 r1 ++ wR G (ad 3) k2 r2 ++ wK (ad 4)) (S := ((Nat → Option Nat) × Rw)) (fun v _ => v = pSF r) (fun u => (wX G ad ho rn ln dr ro lt rf th sb ++ wR G (ad 1) kd r ++ wR G (ad 2) u.1 u.2 ++ wR G (ad 3) k2 r2 ++ wK (ad 4))) := by
  refine x_openi (by decide) (Nat.le_of_ble_eq_true rfl) (fun _ _ _ => rfl) ?_
  intro p e s m args below meth c A Q ls C0 hK hP hD hA hl hret
  obtain ⟨hx, hb, hml, hown, hts⟩ := id C0
  have hS : va_S A s.heap s.heap [] := va_S.rf
  have hP : va_P G.1 vwCl (wX G ad ho rn ln dr ro lt rf th sb ++ wR G (ad 1) kd r ++ wR G (ad 2) k1 r1 ++ wR G (ad 3) k2 r2 ++ wK (ad 4)) s.heap := hP
  have hD : va_D A (wX G ad ho rn ln dr ro lt rf th sb ++ wR G (ad 1) kd r ++ wR G (ad 2) k1 r1 ++ wR G (ad 3) k2 r2 ++ wK (ad 4)) := hD
  have hl : lv_has ls 2 [(0, .ref (ad 0 0))] := hl
  have hr0 := hr.n
  have hN := hr.le
  refine lv_aload_n hx hb dX0_standFor_0 rfl (lv_at hl 0 rfl) ?_
  refine lv_iconst (v := 1) hx hb dX0_standFor_1 (by decide) ?_
  refine x_Vi (wN := fun u_1 => (wX G ad ho rn ln dr ro lt rf th sb ++ wR G (ad 1) kd r ++ wR G (ad 2) u_1.1 u_1.2 ++ wR G (ad 3) k2 r2 ++ wK (ad 4))) ⟨C0, hK, hP, hD, hS, hA⟩ 0 rfl (ci := 0) rfl rfl ((m_firstFall l G ad kd k1 k2 r r1 r2 ho rn ln dr ro lt rf th sb hr hp hk 1)) (cwV 1 hts (lw_V q811 q813 qs28 q86 q814) rfl rfl rfl (by decide +kernel) ⟨Nat.le_of_ble_eq_true rfl, Nat.le_of_ble_eq_true rfl⟩) [0, 1, 2, 3, 4, 5, 6, 7, 8, 9, 10, 11, 12, 13, 14, 15, 16, 17, 18, 19, 20, 21, 22, 23, 24, 25, 26, 27, 28, 29, 30] [1, 3, 5, 7, 9, 11, 13, 15, 17, 19, 21, 23, 25, 27, 29, 31, 33, 35, 37, 39, 41, 43, 45, 47, 49, 51, 53, 55, 57, 59, 61] rfl (fun _ => rfl) rfl rfl hl.1 rfl (Nat.le_of_ble_eq_true rfl) dX0_standFor_2 ⟨Nat.le_of_ble_eq_true rfl, Nat.le_of_ble_eq_true rfl⟩ (fun r_1 u_1 H locs hw_1 hP hD hS => ?_)
  have hw_1 : (pFF r 1 : Int32) = r_1 := hw_1.symm
  subst hw_1
  have hP : va_P G.1 vwCl (wX G ad ho rn ln dr ro lt rf th sb ++ wR G (ad 1) kd r ++ wR G (ad 2) u_1.1 u_1.2 ++ wR G (ad 3) k2 r2 ++ wK (ad 4)) H := hP
  have hD : va_D A (wX G ad ho rn ln dr ro lt rf th sb ++ wR G (ad 1) kd r ++ wR G (ad 2) u_1.1 u_1.2 ++ wR G (ad 3) k2 r2 ++ wK (ad 4)) := hD
  refine lv_istore_n (lv' := [(1, .int (pFF r 1)), (0, .ref (ad 0 0))]) hx hb dX0_standFor_5 rfl hl (by decide) rfl (fun ls hl => ?_)
  refine lv_iload_n hx hb dX0_standFor_6 rfl (lv_at hl 0 rfl) ?_
  refine lv_bipush (v := (-9)) hx hb dX0_standFor_7 (by decide) ?_
  refine lv_icmp_ne (tgt := 17) hx hb dX0_standFor_9 (by decide) (fun c_2 => ?_) (fun c_2 => ?_)
  · skip
    refine lv_iload_n hx hb dX0_standFor_17 rfl (lv_at hl 0 rfl) ?_
    refine lv_iconst (v := 1) hx hb dX0_standFor_18 (by decide) ?_
    refine x_isub hx hb dX0_standFor_19 (v := (pFF r 1) - 1) rfl ?_
    refine hret _ _ _ _ _ _ ((pFF r 1) - 1) (u_1.1, u_1.2) dX0_standFor_20 ?_ hP hD hS (Nat.le_of_ble_eq_true rfl) (Nat.le_of_ble_eq_true rfl)
    exact pSF_n c_2
  · skip
    refine lv_bipush (v := 99) hx hb dX0_standFor_12 (by decide) ?_
    refine lv_goto (tgt := 20) hx hb dX0_standFor_14 (by decide) ?_
    refine hret _ _ _ _ _ _ 99 (u_1.1, u_1.2) dX0_standFor_20 ?_ hP hD hS (Nat.le_of_ble_eq_true rfl) (Nat.le_of_ble_eq_true rfl)
    exact pSF_99 c_2
set_option maxHeartbeats 4000000 in
set_option maxRecDepth 100000 in
theorem m_slowest (l : Launch) (G : xG) (ad : Nat → Nat → Nat) (kd k1 k2 : Nat → Option Nat) (r r1 r2 : Rw) (ho rn ln dr : Int32) (ro lt rf th sb : Nat → Int32) (hr : Ok r) (hp : r 5 3 = 0) (hk : kOk (ad 4) kd r) (t : Nat) (ht : t < mny r) : xCi l G yX0_slowest cX0_slowest 3 (some .int) ({ frames := 6, cells := 0, slots := 0, locals := 130 } : Room) [.ref (ad 0 0), .int (nI t)] (wX G ad ho rn ln dr ro lt rf th sb ++ wR G (ad 1) kd r ++ wR G (ad 2) k1 r1 ++ wR G (ad 3) k2 r2 ++ wK (ad 4)) (S := ((Nat → Option Nat) × Rw)) (fun v _ => v = pSlow r t) (fun u => (wX G ad ho rn ln dr ro lt rf th sb ++ wR G (ad 1) kd r ++ wR G (ad 2) u.1 u.2 ++ wR G (ad 3) k2 r2 ++ wK (ad 4))) := by
  refine x_openi (by decide) (Nat.le_of_ble_eq_true rfl) (fun _ _ _ => rfl) ?_
  intro p e s m args below meth c A Q ls C0 hK hP hD hA hl hret
  obtain ⟨hx, hb, hml, hown, hts⟩ := id C0
  have hS : va_S A s.heap s.heap [] := va_S.rf
  have hP : va_P G.1 vwCl (wX G ad ho rn ln dr ro lt rf th sb ++ wR G (ad 1) kd r ++ wR G (ad 2) k1 r1 ++ wR G (ad 3) k2 r2 ++ wK (ad 4)) s.heap := hP
  have hD : va_D A (wX G ad ho rn ln dr ro lt rf th sb ++ wR G (ad 1) kd r ++ wR G (ad 2) k1 r1 ++ wR G (ad 3) k2 r2 ++ wK (ad 4)) := hD
  have hl : lv_has ls 3 [(0, .ref (ad 0 0)), (1, .int (nI t))] := hl
  have hr0 := hr.n
  have hN := hr.le
  refine lv_iconst (v := 0) hx hb dX0_slowest_0 (by decide) ?_
  refine lv_istore_n (lv' := [(2, .int 0), (0, .ref (ad 0 0)), (1, .int (nI t))]) hx hb dX0_slowest_1 rfl hl (by decide) rfl (fun ls hl => ?_)
  have loop_2 : ∀ (n : Nat) (i : Nat) (km : Nat → Option Nat) (rm : Rw), (i ≤ 10) → (10 < i + n) → (∀ j, j < i → ¬ pPullN r t (nI j) = 0) → ∀ (H : Heap) (locs : List Loc) (ls : Array Slot), va_P G.1 vwCl (wX G ad ho rn ln dr ro lt rf th sb ++ wR G (ad 1) kd r ++ wR G (ad 2) km rm ++ wR G (ad 3) k2 r2 ++ wK (ad 4)) H → va_D A (wX G ad ho rn ln dr ro lt rf th sb ++ wR G (ad 1) kd r ++ wR G (ad 2) km rm ++ wR G (ad 3) k2 r2 ++ wK (ad 4)) → va_S A s.heap H locs → lv_has ls 3 [(2, .int (nI i)), (0, .ref (ad 0 0)), (1, .int (nI t))] → W p l e ({ frames := 6, cells := 0, slots := 0, locals := 130 } : Room) s m args below meth c H locs 0 0 Q (F0 m 2 ls []) := by
    intro n
    induction n with
    | zero => intro i km rm hi2_0 hi2_1 hi2_2; exact absurd hi2_1 (by omega)
    | succ n ih_2 =>
      intro i km rm hi2_0 hi2_1 hi2_2 H locs ls hP hD hS hl
      refine lv_iload_n hx hb dX0_slowest_2 rfl (lv_at hl 0 rfl) ?_
      refine lv_bipush (v := 9) hx hb dX0_slowest_3 (by decide) ?_
      refine lv_icmp_gt (tgt := 28) hx hb dX0_slowest_5 (by decide) (fun c_1 => ?_) (fun c_1 => ?_)
      · skip
        have g_1 := (nI_ltI (by omega) (by omega)).mp (show nI i > nI 9 from c_1)
        refine lv_bipush (v := (-9)) hx hb dX0_slowest_28 (by decide) ?_
        refine hret _ _ _ _ _ _ (-9) (km, rm) dX0_slowest_30 ?_ hP hD hS (Nat.le_of_ble_eq_true rfl) (Nat.le_of_ble_eq_true rfl)
        exact pSlow_no (fun j hj => hi2_2 j (by omega))
      · skip
        have g_1 := mt (nI_ltI (by omega) (by omega)).mpr (show ¬ (nI i > nI 9) from c_1)
        refine lv_aload_n hx hb dX0_slowest_8 rfl (lv_at hl 1 rfl) ?_
        refine x_Vr (wN := fun _ => (wX G ad ho rn ln dr ro lt rf th sb ++ wR G (ad 1) kd r ++ wR G (ad 2) kd r ++ wR G (ad 3) k2 r2 ++ wK (ad 4))) ⟨C0, hK, hP, hD, hS, hA⟩ 0 rfl (ci := 0) rfl rfl ((m_openMind l G ad kd km k2 r rm r2 ho rn ln dr ro lt rf th sb hr hp hk )) (cwV 0 hts (lw_V q795 q797 qs25 q86 q798) rfl rfl rfl (by decide +kernel) ⟨Nat.le_of_ble_eq_true rfl, Nat.le_of_ble_eq_true rfl⟩) [0, 1, 2, 3, 4, 5, 6, 7, 8, 9, 10, 11, 12, 13, 14, 15, 16, 17, 18, 19, 20, 21, 22, 23, 24, 25, 26, 27, 28, 29, 30] [1, 3, 5, 7, 9, 11, 13, 15, 17, 19, 21, 23, 25, 27, 29, 31, 33, 35, 37, 39, 41, 43, 45, 47, 49, 51, 53, 55, 57, 59, 61] rfl (fun _ => rfl) rfl rfl hl.1 rfl (Nat.le_of_ble_eq_true rfl) dX0_slowest_9 ⟨Nat.le_of_ble_eq_true rfl, Nat.le_of_ble_eq_true rfl⟩ (fun u_2 H locs hw_2 hP hD hS => ?_)
        have hP : va_P G.1 vwCl (wX G ad ho rn ln dr ro lt rf th sb ++ wR G (ad 1) kd r ++ wR G (ad 2) kd r ++ wR G (ad 3) k2 r2 ++ wK (ad 4)) H := hP
        have hD : va_D A (wX G ad ho rn ln dr ro lt rf th sb ++ wR G (ad 1) kd r ++ wR G (ad 2) kd r ++ wR G (ad 3) k2 r2 ++ wK (ad 4)) := hD
        refine lv_iload_n hx hb dX0_slowest_12 rfl (lv_at hl 2 rfl) ?_
        refine lv_iload_n hx hb dX0_slowest_13 rfl (lv_at hl 0 rfl) ?_
        refine x_Vi (wN := fun _ => (wX G ad ho rn ln dr ro lt rf th sb ++ wR G (ad 1) kd r ++ wR G (ad 2) kd (pPull r t (nI i)) ++ wR G (ad 3) k2 r2 ++ wK (ad 4))) ⟨C0, hK, hP, hD, hS, hA⟩ 13 rfl (ci := 7) rfl rfl ((m_pull l G (ad 2) (ad 4) kd r hr hk t (nI i) (show t < mny r by omega) hp)) (cwV 2 hts (lw_V q745 q683 q684 q94 q685) rfl rfl rfl (by decide +kernel) ⟨Nat.le_of_ble_eq_true rfl, Nat.le_of_ble_eq_true rfl⟩) [13, 14, 15, 16, 17, 18, 25, 26, 27, 28, 29, 30] [0, 2, 4, 6, 8, 10, 12, 14, 16, 18, 20, 22, 24, 1, 3, 5, 7, 9, 11, 38, 40, 42, 44, 46, 48, 13, 15, 17, 19, 21, 23] rfl (fun _ => rfl) rfl rfl hl.1 rfl (Nat.le_of_ble_eq_true rfl) dX0_slowest_14 ⟨Nat.le_of_ble_eq_true rfl, Nat.le_of_ble_eq_true rfl⟩ (fun r_3 u_3 H locs hw_3 hP hD hS => ?_)
        have hw_3 : (pPullN r t (nI i) : Int32) = r_3 := hw_3.symm
        subst hw_3
        have hP : va_P G.1 vwCl (wX G ad ho rn ln dr ro lt rf th sb ++ wR G (ad 1) kd r ++ wR G (ad 2) kd (pPull r t (nI i)) ++ wR G (ad 3) k2 r2 ++ wK (ad 4)) H := hP
        have hD : va_D A (wX G ad ho rn ln dr ro lt rf th sb ++ wR G (ad 1) kd r ++ wR G (ad 2) kd (pPull r t (nI i)) ++ wR G (ad 3) k2 r2 ++ wK (ad 4)) := hD
        refine lv_if_ne (tgt := 22) hx hb dX0_slowest_17 (by decide) (fun c_4 => ?_) (fun c_4 => ?_)
        · skip
          refine lv_iinc (v := nI (i + 1)) (lv' := [(2, .int (nI (i + 1))), (0, .ref (ad 0 0)), (1, .int (nI t))]) hx hb dX0_slowest_22 hl (k := 0) rfl (x_inc1 _) (by decide) rfl (fun ls hl => ?_)
          refine lv_goto (tgt := 2) hx hb dX0_slowest_25 (by decide) ?_
          exact ih_2 (i + 1) _ _ (by omega) (by omega) (fun j hj => if q : j = i then q ▸ c_4 else hi2_2 j (by omega)) _ _ _ hP hD hS (lv_sub hl [0, 1, 2] rfl)
        · skip
          refine lv_iload_n hx hb dX0_slowest_20 rfl (lv_at hl 0 rfl) ?_
          refine hret _ _ _ _ _ _ (nI i) (kd, (pPull r t (nI i))) dX0_slowest_21 ?_ hP hD hS (Nat.le_of_ble_eq_true rfl) (Nat.le_of_ble_eq_true rfl)
          exact pSlow_at (by omega) hi2_2 c_4
  exact loop_2 11 0 _ _ (by omega) (by omega) (fun j hj => absurd hj (Nat.not_lt_zero j)) _ _ _ hP hD hS (lv_sub hl [0, 1, 2] rfl)
set_option maxHeartbeats 4000000 in
set_option maxRecDepth 100000 in
theorem m_fallenBy (l : Launch) (G : xG) (ad : Nat → Nat → Nat) (kd k1 k2 : Nat → Option Nat) (r r1 r2 : Rw) (ho rn ln dr : Int32) (ro lt rf th sb : Nat → Int32) (hr : Ok r) (hp : r 5 3 = 0) (hk : kOk (ad 4) kd r) (t : Nat) (ht : t < mny r) (sp : Int32) : xCi l G yX0_fallenBy cX0_fallenBy 4 (some .int) ({ frames := 6, cells := 0, slots := 0, locals := 130 } : Room) [.ref (ad 0 0), .int (nI t), .int sp] (wX G ad ho rn ln dr ro lt rf th sb ++ wR G (ad 1) kd r ++ wR G (ad 2) k1 r1 ++ wR G (ad 3) k2 r2 ++ wK (ad 4)) (S := ((Nat → Option Nat) × Rw)) (fun v _ => v = pFB r t sp) (fun u => (wX G ad ho rn ln dr ro lt rf th sb ++ wR G (ad 1) kd r ++ wR G (ad 2) u.1 u.2 ++ wR G (ad 3) k2 r2 ++ wK (ad 4))) := by
  refine x_openi (by decide) (Nat.le_of_ble_eq_true rfl) (fun _ _ _ => rfl) ?_
  intro p e s m args below meth c A Q ls C0 hK hP hD hA hl hret
  obtain ⟨hx, hb, hml, hown, hts⟩ := id C0
  have hS : va_S A s.heap s.heap [] := va_S.rf
  have hP : va_P G.1 vwCl (wX G ad ho rn ln dr ro lt rf th sb ++ wR G (ad 1) kd r ++ wR G (ad 2) k1 r1 ++ wR G (ad 3) k2 r2 ++ wK (ad 4)) s.heap := hP
  have hD : va_D A (wX G ad ho rn ln dr ro lt rf th sb ++ wR G (ad 1) kd r ++ wR G (ad 2) k1 r1 ++ wR G (ad 3) k2 r2 ++ wK (ad 4)) := hD
  have hl : lv_has ls 4 [(0, .ref (ad 0 0)), (1, .int (nI t)), (2, .int sp)] := hl
  have hr0 := hr.n
  have hN := hr.le
  refine lv_aload_n hx hb dX0_fallenBy_0 rfl (lv_at hl 0 rfl) ?_
  refine x_Vr (wN := fun _ => (wX G ad ho rn ln dr ro lt rf th sb ++ wR G (ad 1) kd r ++ wR G (ad 2) kd r ++ wR G (ad 3) k2 r2 ++ wK (ad 4))) ⟨C0, hK, hP, hD, hS, hA⟩ 0 rfl (ci := 0) rfl rfl ((m_openMind l G ad kd k1 k2 r r1 r2 ho rn ln dr ro lt rf th sb hr hp hk )) (cwV 0 hts (lw_V q795 q797 qs25 q86 q798) rfl rfl rfl (by decide +kernel) ⟨Nat.le_of_ble_eq_true rfl, Nat.le_of_ble_eq_true rfl⟩) [0, 1, 2, 3, 4, 5, 6, 7, 8, 9, 10, 11, 12, 13, 14, 15, 16, 17, 18, 19, 20, 21, 22, 23, 24, 25, 26, 27, 28, 29, 30] [1, 3, 5, 7, 9, 11, 13, 15, 17, 19, 21, 23, 25, 27, 29, 31, 33, 35, 37, 39, 41, 43, 45, 47, 49, 51, 53, 55, 57, 59, 61] rfl (fun _ => rfl) rfl rfl hl.1 rfl (Nat.le_of_ble_eq_true rfl) dX0_fallenBy_1 ⟨Nat.le_of_ble_eq_true rfl, Nat.le_of_ble_eq_true rfl⟩ (fun u_1 H locs hw_1 hP hD hS => ?_)
  have hP : va_P G.1 vwCl (wX G ad ho rn ln dr ro lt rf th sb ++ wR G (ad 1) kd r ++ wR G (ad 2) kd r ++ wR G (ad 3) k2 r2 ++ wK (ad 4)) H := hP
  have hD : va_D A (wX G ad ho rn ln dr ro lt rf th sb ++ wR G (ad 1) kd r ++ wR G (ad 2) kd r ++ wR G (ad 3) k2 r2 ++ wK (ad 4)) := hD
  refine lv_astore_n (lv' := [(3, .ref ((ad 2) 0)), (0, .ref (ad 0 0)), (1, .int (nI t)), (2, .int sp)]) hx hb dX0_fallenBy_4 rfl hl (by decide) rfl (fun ls hl => ?_)
  refine lv_aload_n hx hb dX0_fallenBy_5 rfl (lv_at hl 0 rfl) ?_
  refine lv_iload_n hx hb dX0_fallenBy_6 rfl (lv_at hl 2 rfl) ?_
  refine lv_iload_n hx hb dX0_fallenBy_7 rfl (lv_at hl 3 rfl) ?_
  refine x_Vi (wN := fun _ => (wX G ad ho rn ln dr ro lt rf th sb ++ wR G (ad 1) kd r ++ wR G (ad 2) kd (pPull r t sp) ++ wR G (ad 3) k2 r2 ++ wK (ad 4))) ⟨C0, hK, hP, hD, hS, hA⟩ 13 rfl (ci := 7) rfl rfl ((m_pull l G (ad 2) (ad 4) kd r hr hk t sp (show t < mny r by omega) hp)) (cwV 2 hts (lw_V q745 q683 q684 q94 q685) rfl rfl rfl (by decide +kernel) ⟨Nat.le_of_ble_eq_true rfl, Nat.le_of_ble_eq_true rfl⟩) [13, 14, 15, 16, 17, 18, 25, 26, 27, 28, 29, 30] [0, 2, 4, 6, 8, 10, 12, 14, 16, 18, 20, 22, 24, 1, 3, 5, 7, 9, 11, 38, 40, 42, 44, 46, 48, 13, 15, 17, 19, 21, 23] rfl (fun _ => rfl) rfl rfl hl.1 rfl (Nat.le_of_ble_eq_true rfl) dX0_fallenBy_8 ⟨Nat.le_of_ble_eq_true rfl, Nat.le_of_ble_eq_true rfl⟩ (fun r_2 u_2 H locs hw_2 hP hD hS => ?_)
  have hw_2 : (pPullN r t sp : Int32) = r_2 := hw_2.symm
  subst hw_2
  have hP : va_P G.1 vwCl (wX G ad ho rn ln dr ro lt rf th sb ++ wR G (ad 1) kd r ++ wR G (ad 2) kd (pPull r t sp) ++ wR G (ad 3) k2 r2 ++ wK (ad 4)) H := hP
  have hD : va_D A (wX G ad ho rn ln dr ro lt rf th sb ++ wR G (ad 1) kd r ++ wR G (ad 2) kd (pPull r t sp) ++ wR G (ad 3) k2 r2 ++ wK (ad 4)) := hD
  refine lv_pop hx hb dX0_fallenBy_11 rfl ?_
  refine lv_aload_n hx hb dX0_fallenBy_12 rfl (lv_at hl 0 rfl) ?_
  refine lv_iconst (v := 1) hx hb dX0_fallenBy_13 (by decide) ?_
  refine x_Vi (wN := fun _ => (wX G ad ho rn ln dr ro lt rf th sb ++ wR G (ad 1) kd r ++ wR G (ad 2) kd (pPull r t sp) ++ wR G (ad 3) k2 r2 ++ wK (ad 4))) ⟨C0, hK, hP, hD, hS, hA⟩ 13 rfl (ci := 7) rfl rfl ((m_bits l G (ad 2) (ad 4) kd (pPull r t sp) (Ok.pull hr) (kOk.pull hk) 1)) (cwV 1 hts (lw_V q815 q643 q644 q94 q645) rfl rfl rfl (by decide +kernel) ⟨Nat.le_of_ble_eq_true rfl, Nat.le_of_ble_eq_true rfl⟩) [13, 14, 15, 16, 17, 18, 25, 26, 27, 28, 29, 30] [0, 2, 4, 6, 8, 10, 12, 14, 16, 18, 20, 22, 24, 1, 3, 5, 7, 9, 11, 38, 40, 42, 44, 46, 48, 13, 15, 17, 19, 21, 23] rfl (fun _ => rfl) rfl rfl hl.1 rfl (Nat.le_of_ble_eq_true rfl) dX0_fallenBy_14 ⟨Nat.le_of_ble_eq_true rfl, Nat.le_of_ble_eq_true rfl⟩ (fun r_3 u_3 H locs hw_3 hP hD hS => ?_)
  have hw_3 : (pSet (pPull r t sp) 1 : Int32) = r_3 := hw_3.symm
  subst hw_3
  refine lv_aload_n hx hb dX0_fallenBy_17 rfl (lv_at hl 1 rfl) ?_
  refine va_get (D := G.1) (ci := 0) (v := .ref ((ad 1) 0)) (C := RX0) (T := TX0) (N := 13) hx hb hts in_X0 hown hK.1 hP 0 rfl rfl 1 (by decide) (hts _ q222) (fun _ h9 => h9) rfl dX0_fallenBy_18 ?_
  refine lv_iconst (v := 1) hx hb dX0_fallenBy_21 (by decide) ?_
  refine x_Vi (wN := fun _ => (wX G ad ho rn ln dr ro lt rf th sb ++ wR G (ad 1) kd r ++ wR G (ad 2) kd (pPull r t sp) ++ wR G (ad 3) k2 r2 ++ wK (ad 4))) ⟨C0, hK, hP, hD, hS, hA⟩ 7 rfl (ci := 7) rfl rfl ((m_bits l G (ad 1) (ad 4) kd r hr hk 1)) (cwV 1 hts (lw_V q815 q643 q644 q94 q645) rfl rfl rfl (by decide +kernel) ⟨Nat.le_of_ble_eq_true rfl, Nat.le_of_ble_eq_true rfl⟩) [7, 8, 9, 10, 11, 12, 25, 26, 27, 28, 29, 30] [0, 2, 4, 6, 8, 10, 12, 1, 3, 5, 7, 9, 11, 26, 28, 30, 32, 34, 36, 38, 40, 42, 44, 46, 48, 13, 15, 17, 19, 21, 23] rfl (fun _ => rfl) rfl rfl hl.1 rfl (Nat.le_of_ble_eq_true rfl) dX0_fallenBy_22 ⟨Nat.le_of_ble_eq_true rfl, Nat.le_of_ble_eq_true rfl⟩ (fun r_4 u_4 H locs hw_4 hP hD hS => ?_)
  have hw_4 : (pSet r 1 : Int32) = r_4 := hw_4.symm
  subst hw_4
  refine lv_iconst (v := (-1)) hx hb dX0_fallenBy_25 (by decide) ?_
  refine x_ixor hx hb dX0_fallenBy_26 (v := (pSet r 1) ^^^ (-1)) rfl ?_
  refine x_iand hx hb dX0_fallenBy_27 (v := (pSet (pPull r t sp) 1) &&& ((pSet r 1) ^^^ (-1))) rfl ?_
  refine hret _ _ _ _ _ _ ((pSet (pPull r t sp) 1) &&& ((pSet r 1) ^^^ (-1))) (kd, (pPull r t sp)) dX0_fallenBy_28 ?_ hP hD hS (Nat.le_of_ble_eq_true rfl) (Nat.le_of_ble_eq_true rfl)
  rfl
set_option maxHeartbeats 4000000 in
set_option maxRecDepth 100000 in
theorem m_fallenLater (l : Launch) (G : xG) (ad : Nat → Nat → Nat) (kd k1 k2 : Nat → Option Nat) (r r1 r2 : Rw) (ho rn ln dr : Int32) (ro lt rf th sb : Nat → Int32) (hr : Ok r) (hp : r 5 3 = 0) (hk : kOk (ad 4) kd r) (t k : Nat) (ht : t < mny r) (hk1 : k < 2 ^ 30) (sp : Int32) : xCi l G yX0_fallenLater cX0_fallenLater 7 (some .int) ({ frames := 7, cells := 0, slots := 0, locals := 154 } : Room) [.ref (ad 0 0), .int (nI t), .int sp, .int (nI k)] (wX G ad ho rn ln dr ro lt rf th sb ++ wR G (ad 1) kd r ++ wR G (ad 2) k1 r1 ++ wR G (ad 3) k2 r2 ++ wK (ad 4)) (S := ((Nat → Option Nat) × Rw)) (fun v _ => v = pFL r t sp k) (fun u => (wX G ad ho rn ln dr ro lt rf th sb ++ wR G (ad 1) kd r ++ wR G (ad 2) u.1 u.2 ++ wR G (ad 3) k2 r2 ++ wK (ad 4))) := by
  refine x_openi (by decide) (Nat.le_of_ble_eq_true rfl) (fun _ _ _ => rfl) ?_
  intro p e s m args below meth c A Q ls C0 hK hP hD hA hl hret
  obtain ⟨hx, hb, hml, hown, hts⟩ := id C0
  have hS : va_S A s.heap s.heap [] := va_S.rf
  have hP : va_P G.1 vwCl (wX G ad ho rn ln dr ro lt rf th sb ++ wR G (ad 1) kd r ++ wR G (ad 2) k1 r1 ++ wR G (ad 3) k2 r2 ++ wK (ad 4)) s.heap := hP
  have hD : va_D A (wX G ad ho rn ln dr ro lt rf th sb ++ wR G (ad 1) kd r ++ wR G (ad 2) k1 r1 ++ wR G (ad 3) k2 r2 ++ wK (ad 4)) := hD
  have hl : lv_has ls 7 [(0, .ref (ad 0 0)), (1, .int (nI t)), (2, .int sp), (3, .int (nI k))] := hl
  have hr0 := hr.n
  have hN := hr.le
  refine lv_aload_n hx hb dX0_fallenLater_0 rfl (lv_at hl 0 rfl) ?_
  refine lv_iload_n hx hb dX0_fallenLater_1 rfl (lv_at hl 3 rfl) ?_
  refine x_Vr (wN := fun _ => (wX G ad ho rn ln dr ro lt rf th sb ++ wR G (ad 1) kd r ++ wR G (ad 2) kd (pMins r k) ++ wR G (ad 3) k2 r2 ++ wK (ad 4))) ⟨C0, hK, hP, hD, hS, hA⟩ 0 rfl (ci := 0) rfl rfl ((m_ahead l G ad kd k1 k2 r r1 r2 ho rn ln dr ro lt rf th sb hr hp hk k hk1)) (cwV 1 hts (lw_V q791 q793 qs24 q86 q794) rfl rfl rfl (by decide +kernel) ⟨Nat.le_of_ble_eq_true rfl, Nat.le_of_ble_eq_true rfl⟩) [0, 1, 2, 3, 4, 5, 6, 7, 8, 9, 10, 11, 12, 13, 14, 15, 16, 17, 18, 19, 20, 21, 22, 23, 24, 25, 26, 27, 28, 29, 30] [1, 3, 5, 7, 9, 11, 13, 15, 17, 19, 21, 23, 25, 27, 29, 31, 33, 35, 37, 39, 41, 43, 45, 47, 49, 51, 53, 55, 57, 59, 61] rfl (fun _ => rfl) rfl rfl hl.1 rfl (Nat.le_of_ble_eq_true rfl) dX0_fallenLater_2 ⟨Nat.le_of_ble_eq_true rfl, Nat.le_of_ble_eq_true rfl⟩ (fun u_1 H locs hw_1 hP hD hS => ?_)
  have hP : va_P G.1 vwCl (wX G ad ho rn ln dr ro lt rf th sb ++ wR G (ad 1) kd r ++ wR G (ad 2) kd (pMins r k) ++ wR G (ad 3) k2 r2 ++ wK (ad 4)) H := hP
  have hD : va_D A (wX G ad ho rn ln dr ro lt rf th sb ++ wR G (ad 1) kd r ++ wR G (ad 2) kd (pMins r k) ++ wR G (ad 3) k2 r2 ++ wK (ad 4)) := hD
  refine lv_iconst (v := 1) hx hb dX0_fallenLater_5 (by decide) ?_
  refine x_Vi (wN := fun _ => (wX G ad ho rn ln dr ro lt rf th sb ++ wR G (ad 1) kd r ++ wR G (ad 2) kd (pMins r k) ++ wR G (ad 3) k2 r2 ++ wK (ad 4))) ⟨C0, hK, hP, hD, hS, hA⟩ 13 rfl (ci := 7) rfl rfl ((m_bits l G (ad 2) (ad 4) kd (pMins r k) (Ok.mins hr) (kOk.mins hk) 1)) (cwV 1 hts (lw_V q815 q643 q644 q94 q645) rfl rfl rfl (by decide +kernel) ⟨Nat.le_of_ble_eq_true rfl, Nat.le_of_ble_eq_true rfl⟩) [13, 14, 15, 16, 17, 18, 25, 26, 27, 28, 29, 30] [0, 2, 4, 6, 8, 10, 12, 14, 16, 18, 20, 22, 24, 1, 3, 5, 7, 9, 11, 38, 40, 42, 44, 46, 48, 13, 15, 17, 19, 21, 23] rfl (fun _ => rfl) rfl rfl hl.1 rfl (Nat.le_of_ble_eq_true rfl) dX0_fallenLater_6 ⟨Nat.le_of_ble_eq_true rfl, Nat.le_of_ble_eq_true rfl⟩ (fun r_2 u_2 H locs hw_2 hP hD hS => ?_)
  have hw_2 : (pSet (pMins r k) 1 : Int32) = r_2 := hw_2.symm
  subst hw_2
  refine lv_istore (lv' := [(4, .int (pSet (pMins r k) 1)), (0, .ref (ad 0 0)), (1, .int (nI t)), (2, .int sp), (3, .int (nI k))]) hx hb dX0_fallenLater_9 hl (by decide) rfl (fun ls hl => ?_)
  refine lv_aload_n hx hb dX0_fallenLater_11 rfl (lv_at hl 1 rfl) ?_
  refine lv_iload_n hx hb dX0_fallenLater_12 rfl (lv_at hl 2 rfl) ?_
  refine lv_iload_n hx hb dX0_fallenLater_13 rfl (lv_at hl 3 rfl) ?_
  refine x_Vi (wN := fun u_3 => (wX G ad ho rn ln dr ro lt rf th sb ++ wR G (ad 1) kd r ++ wR G (ad 2) u_3.1 u_3.2 ++ wR G (ad 3) k2 r2 ++ wK (ad 4))) ⟨C0, hK, hP, hD, hS, hA⟩ 0 rfl (ci := 0) rfl rfl ((m_fallenBy l G ad kd kd k2 r (pMins r k) r2 ho rn ln dr ro lt rf th sb hr hp hk t (by omega) sp)) (cwV 2 hts (lw_V q849 q851 qs34 q86 q852) rfl rfl rfl (by decide +kernel) ⟨Nat.le_of_ble_eq_true rfl, Nat.le_of_ble_eq_true rfl⟩) [0, 1, 2, 3, 4, 5, 6, 7, 8, 9, 10, 11, 12, 13, 14, 15, 16, 17, 18, 19, 20, 21, 22, 23, 24, 25, 26, 27, 28, 29, 30] [1, 3, 5, 7, 9, 11, 13, 15, 17, 19, 21, 23, 25, 27, 29, 31, 33, 35, 37, 39, 41, 43, 45, 47, 49, 51, 53, 55, 57, 59, 61] rfl (fun _ => rfl) rfl rfl hl.1 rfl (Nat.le_of_ble_eq_true rfl) dX0_fallenLater_14 ⟨Nat.le_of_ble_eq_true rfl, Nat.le_of_ble_eq_true rfl⟩ (fun r_3 u_3 H locs hw_3 hP hD hS => ?_)
  have hw_3 : (pFB r t sp : Int32) = r_3 := hw_3.symm
  subst hw_3
  have hP : va_P G.1 vwCl (wX G ad ho rn ln dr ro lt rf th sb ++ wR G (ad 1) kd r ++ wR G (ad 2) u_3.1 u_3.2 ++ wR G (ad 3) k2 r2 ++ wK (ad 4)) H := hP
  have hD : va_D A (wX G ad ho rn ln dr ro lt rf th sb ++ wR G (ad 1) kd r ++ wR G (ad 2) u_3.1 u_3.2 ++ wR G (ad 3) k2 r2 ++ wK (ad 4)) := hD
  refine lv_istore (lv' := [(5, .int (pFB r t sp)), (4, .int (pSet (pMins r k) 1)), (0, .ref (ad 0 0)), (1, .int (nI t)), (2, .int sp), (3, .int (nI k))]) hx hb dX0_fallenLater_17 hl (by decide) rfl (fun ls hl => ?_)
  refine lv_aload_n hx hb dX0_fallenLater_19 rfl (lv_at hl 2 rfl) ?_
  refine x_Vr (wN := fun _ => (wX G ad ho rn ln dr ro lt rf th sb ++ wR G (ad 1) kd r ++ wR G (ad 2) kd r ++ wR G (ad 3) k2 r2 ++ wK (ad 4))) ⟨C0, hK, hP, hD, hS, hA⟩ 0 rfl (ci := 0) rfl rfl ((m_openMind l G ad kd u_3.1 k2 r u_3.2 r2 ho rn ln dr ro lt rf th sb hr hp hk )) (cwV 0 hts (lw_V q795 q797 qs25 q86 q798) rfl rfl rfl (by decide +kernel) ⟨Nat.le_of_ble_eq_true rfl, Nat.le_of_ble_eq_true rfl⟩) [0, 1, 2, 3, 4, 5, 6, 7, 8, 9, 10, 11, 12, 13, 14, 15, 16, 17, 18, 19, 20, 21, 22, 23, 24, 25, 26, 27, 28, 29, 30] [1, 3, 5, 7, 9, 11, 13, 15, 17, 19, 21, 23, 25, 27, 29, 31, 33, 35, 37, 39, 41, 43, 45, 47, 49, 51, 53, 55, 57, 59, 61] rfl (fun _ => rfl) rfl rfl hl.1 rfl (Nat.le_of_ble_eq_true rfl) dX0_fallenLater_20 ⟨Nat.le_of_ble_eq_true rfl, Nat.le_of_ble_eq_true rfl⟩ (fun u_4 H locs hw_4 hP hD hS => ?_)
  have hP : va_P G.1 vwCl (wX G ad ho rn ln dr ro lt rf th sb ++ wR G (ad 1) kd r ++ wR G (ad 2) kd r ++ wR G (ad 3) k2 r2 ++ wK (ad 4)) H := hP
  have hD : va_D A (wX G ad ho rn ln dr ro lt rf th sb ++ wR G (ad 1) kd r ++ wR G (ad 2) kd r ++ wR G (ad 3) k2 r2 ++ wK (ad 4)) := hD
  refine lv_astore (lv' := [(6, .ref ((ad 2) 0)), (5, .int (pFB r t sp)), (4, .int (pSet (pMins r k) 1)), (0, .ref (ad 0 0)), (1, .int (nI t)), (2, .int sp), (3, .int (nI k))]) hx hb dX0_fallenLater_23 hl (by decide) rfl (fun ls hl => ?_)
  refine lv_aload hx hb dX0_fallenLater_25 (lv_at hl 0 rfl) ?_
  refine lv_iload_n hx hb dX0_fallenLater_27 rfl (lv_at hl 4 rfl) ?_
  refine lv_iload_n hx hb dX0_fallenLater_28 rfl (lv_at hl 5 rfl) ?_
  refine x_Vi (wN := fun _ => (wX G ad ho rn ln dr ro lt rf th sb ++ wR G (ad 1) kd r ++ wR G (ad 2) kd (pPull r t sp) ++ wR G (ad 3) k2 r2 ++ wK (ad 4))) ⟨C0, hK, hP, hD, hS, hA⟩ 13 rfl (ci := 7) rfl rfl ((m_pull l G (ad 2) (ad 4) kd r hr hk t sp (show t < mny r by omega) hp)) (cwV 2 hts (lw_V q745 q683 q684 q94 q685) rfl rfl rfl (by decide +kernel) ⟨Nat.le_of_ble_eq_true rfl, Nat.le_of_ble_eq_true rfl⟩) [13, 14, 15, 16, 17, 18, 25, 26, 27, 28, 29, 30] [0, 2, 4, 6, 8, 10, 12, 14, 16, 18, 20, 22, 24, 1, 3, 5, 7, 9, 11, 38, 40, 42, 44, 46, 48, 13, 15, 17, 19, 21, 23] rfl (fun _ => rfl) rfl rfl hl.1 rfl (Nat.le_of_ble_eq_true rfl) dX0_fallenLater_29 ⟨Nat.le_of_ble_eq_true rfl, Nat.le_of_ble_eq_true rfl⟩ (fun r_5 u_5 H locs hw_5 hP hD hS => ?_)
  have hw_5 : (pPullN r t sp : Int32) = r_5 := hw_5.symm
  subst hw_5
  have hP : va_P G.1 vwCl (wX G ad ho rn ln dr ro lt rf th sb ++ wR G (ad 1) kd r ++ wR G (ad 2) kd (pPull r t sp) ++ wR G (ad 3) k2 r2 ++ wK (ad 4)) H := hP
  have hD : va_D A (wX G ad ho rn ln dr ro lt rf th sb ++ wR G (ad 1) kd r ++ wR G (ad 2) kd (pPull r t sp) ++ wR G (ad 3) k2 r2 ++ wK (ad 4)) := hD
  refine lv_pop hx hb dX0_fallenLater_32 rfl ?_
  refine lv_aload hx hb dX0_fallenLater_33 (lv_at hl 0 rfl) ?_
  refine lv_iload_n hx hb dX0_fallenLater_35 rfl (lv_at hl 6 rfl) ?_
  refine x_Vr (wN := fun _ => (wX G ad ho rn ln dr ro lt rf th sb ++ wR G (ad 1) kd r ++ wR G (ad 2) kd (pMins (pPull r t sp) k) ++ wR G (ad 3) k2 r2 ++ wK (ad 4))) ⟨C0, hK, hP, hD, hS, hA⟩ 13 rfl (ci := 7) rfl rfl ((m_minutesOn l G (ad 2) (ad 4) kd (pPull r t sp) (Ok.pull hr) (kOk.pull hk) k hk1)) (cwV 1 hts (lw_V q770 q623 q624 q94 q625) rfl rfl rfl (by decide +kernel) ⟨Nat.le_of_ble_eq_true rfl, Nat.le_of_ble_eq_true rfl⟩) [13, 14, 15, 16, 17, 18, 25, 26, 27, 28, 29, 30] [0, 2, 4, 6, 8, 10, 12, 14, 16, 18, 20, 22, 24, 1, 3, 5, 7, 9, 11, 38, 40, 42, 44, 46, 48, 13, 15, 17, 19, 21, 23] rfl (fun _ => rfl) rfl rfl hl.1 rfl (Nat.le_of_ble_eq_true rfl) dX0_fallenLater_36 ⟨Nat.le_of_ble_eq_true rfl, Nat.le_of_ble_eq_true rfl⟩ (fun u_6 H locs hw_6 hP hD hS => ?_)
  have hP : va_P G.1 vwCl (wX G ad ho rn ln dr ro lt rf th sb ++ wR G (ad 1) kd r ++ wR G (ad 2) kd (pMins (pPull r t sp) k) ++ wR G (ad 3) k2 r2 ++ wK (ad 4)) H := hP
  have hD : va_D A (wX G ad ho rn ln dr ro lt rf th sb ++ wR G (ad 1) kd r ++ wR G (ad 2) kd (pMins (pPull r t sp) k) ++ wR G (ad 3) k2 r2 ++ wK (ad 4)) := hD
  refine lv_iconst (v := 1) hx hb dX0_fallenLater_39 (by decide) ?_
  refine x_Vi (wN := fun _ => (wX G ad ho rn ln dr ro lt rf th sb ++ wR G (ad 1) kd r ++ wR G (ad 2) kd (pMins (pPull r t sp) k) ++ wR G (ad 3) k2 r2 ++ wK (ad 4))) ⟨C0, hK, hP, hD, hS, hA⟩ 13 rfl (ci := 7) rfl rfl ((m_bits l G (ad 2) (ad 4) kd (pMins (pPull r t sp) k) (Ok.mins (Ok.pull hr)) (kOk.mins (kOk.pull hk)) 1)) (cwV 1 hts (lw_V q815 q643 q644 q94 q645) rfl rfl rfl (by decide +kernel) ⟨Nat.le_of_ble_eq_true rfl, Nat.le_of_ble_eq_true rfl⟩) [13, 14, 15, 16, 17, 18, 25, 26, 27, 28, 29, 30] [0, 2, 4, 6, 8, 10, 12, 14, 16, 18, 20, 22, 24, 1, 3, 5, 7, 9, 11, 38, 40, 42, 44, 46, 48, 13, 15, 17, 19, 21, 23] rfl (fun _ => rfl) rfl rfl hl.1 rfl (Nat.le_of_ble_eq_true rfl) dX0_fallenLater_40 ⟨Nat.le_of_ble_eq_true rfl, Nat.le_of_ble_eq_true rfl⟩ (fun r_7 u_7 H locs hw_7 hP hD hS => ?_)
  have hw_7 : (pSet (pMins (pPull r t sp) k) 1 : Int32) = r_7 := hw_7.symm
  subst hw_7
  refine lv_iload hx hb dX0_fallenLater_43 (lv_at hl 2 rfl) ?_
  refine lv_iconst (v := (-1)) hx hb dX0_fallenLater_45 (by decide) ?_
  refine x_ixor hx hb dX0_fallenLater_46 (v := (pSet (pMins r k) 1) ^^^ (-1)) rfl ?_
  refine x_iand hx hb dX0_fallenLater_47 (v := (pSet (pMins (pPull r t sp) k) 1) &&& ((pSet (pMins r k) 1) ^^^ (-1))) rfl ?_
  refine lv_iload hx hb dX0_fallenLater_48 (lv_at hl 1 rfl) ?_
  refine lv_iconst (v := (-1)) hx hb dX0_fallenLater_50 (by decide) ?_
  refine x_ixor hx hb dX0_fallenLater_51 (v := (pFB r t sp) ^^^ (-1)) rfl ?_
  refine x_iand hx hb dX0_fallenLater_52 (v := ((pSet (pMins (pPull r t sp) k) 1) &&& ((pSet (pMins r k) 1) ^^^ (-1))) &&& ((pFB r t sp) ^^^ (-1))) rfl ?_
  refine hret _ _ _ _ _ _ (((pSet (pMins (pPull r t sp) k) 1) &&& ((pSet (pMins r k) 1) ^^^ (-1))) &&& ((pFB r t sp) ^^^ (-1))) (kd, (pMins (pPull r t sp) k)) dX0_fallenLater_53 ?_ hP hD hS (Nat.le_of_ble_eq_true rfl) (Nat.le_of_ble_eq_true rfl)
  rfl
set_option maxHeartbeats 4000000 in
set_option maxRecDepth 100000 in
theorem m_areEnough (l : Launch) (G : xG) (ad : Nat → Nat → Nat) (kd k1 k2 : Nat → Option Nat) (r r1 r2 : Rw) (ho rn ln dr : Int32) (ro lt rf th sb : Nat → Int32) (hr : Ok r) (hp : r 5 3 = 0) (hk : kOk (ad 4) kd r) (x : Int32) (t k : Nat) (ht : t < 10) (hk1 : k < 2 ^ 30) : xCi l G yX0_areEnough cX0_areEnough 6 (some .boolean) ({ frames := 6, cells := 0, slots := 0, locals := 133 } : Room) [.ref (ad 0 0), .int x, .int (nI t), .int (nI k)] (wX G ad ho rn ln dr ro lt rf th sb ++ wR G (ad 1) kd r ++ wR G (ad 2) k1 r1 ++ wR G (ad 3) k2 r2 ++ wK (ad 4)) (S := ((Nat → Option Nat) × Rw)) (fun v _ => v = bI (pEn r x t k)) (fun u => (wX G ad ho rn ln dr ro lt rf th sb ++ wR G (ad 1) kd r ++ wR G (ad 2) u.1 u.2 ++ wR G (ad 3) k2 r2 ++ wK (ad 4))) := by
  refine x_openi (by decide) (Nat.le_of_ble_eq_true rfl) (fun _ _ h => by rw [h]; exact bI_z _) ?_
  intro p e s m args below meth c A Q ls C0 hK hP hD hA hl hret
  obtain ⟨hx, hb, hml, hown, hts⟩ := id C0
  have hS : va_S A s.heap s.heap [] := va_S.rf
  have hP : va_P G.1 vwCl (wX G ad ho rn ln dr ro lt rf th sb ++ wR G (ad 1) kd r ++ wR G (ad 2) k1 r1 ++ wR G (ad 3) k2 r2 ++ wK (ad 4)) s.heap := hP
  have hD : va_D A (wX G ad ho rn ln dr ro lt rf th sb ++ wR G (ad 1) kd r ++ wR G (ad 2) k1 r1 ++ wR G (ad 3) k2 r2 ++ wK (ad 4)) := hD
  have hl : lv_has ls 6 [(0, .ref (ad 0 0)), (1, .int x), (2, .int (nI t)), (3, .int (nI k))] := hl
  have hr0 := hr.n
  have hN := hr.le
  refine lv_aload_n hx hb dX0_areEnough_0 rfl (lv_at hl 0 rfl) ?_
  refine x_Vr (wN := fun _ => (wX G ad ho rn ln dr ro lt rf th sb ++ wR G (ad 1) kd r ++ wR G (ad 2) kd r ++ wR G (ad 3) k2 r2 ++ wK (ad 4))) ⟨C0, hK, hP, hD, hS, hA⟩ 0 rfl (ci := 0) rfl rfl ((m_openMind l G ad kd k1 k2 r r1 r2 ho rn ln dr ro lt rf th sb hr hp hk )) (cwV 0 hts (lw_V q795 q797 qs25 q86 q798) rfl rfl rfl (by decide +kernel) ⟨Nat.le_of_ble_eq_true rfl, Nat.le_of_ble_eq_true rfl⟩) [0, 1, 2, 3, 4, 5, 6, 7, 8, 9, 10, 11, 12, 13, 14, 15, 16, 17, 18, 19, 20, 21, 22, 23, 24, 25, 26, 27, 28, 29, 30] [1, 3, 5, 7, 9, 11, 13, 15, 17, 19, 21, 23, 25, 27, 29, 31, 33, 35, 37, 39, 41, 43, 45, 47, 49, 51, 53, 55, 57, 59, 61] rfl (fun _ => rfl) rfl rfl hl.1 rfl (Nat.le_of_ble_eq_true rfl) dX0_areEnough_1 ⟨Nat.le_of_ble_eq_true rfl, Nat.le_of_ble_eq_true rfl⟩ (fun u_1 H locs hw_1 hP hD hS => ?_)
  have hP : va_P G.1 vwCl (wX G ad ho rn ln dr ro lt rf th sb ++ wR G (ad 1) kd r ++ wR G (ad 2) kd r ++ wR G (ad 3) k2 r2 ++ wK (ad 4)) H := hP
  have hD : va_D A (wX G ad ho rn ln dr ro lt rf th sb ++ wR G (ad 1) kd r ++ wR G (ad 2) kd r ++ wR G (ad 3) k2 r2 ++ wK (ad 4)) := hD
  refine lv_astore (lv' := [(4, .ref ((ad 2) 0)), (0, .ref (ad 0 0)), (1, .int x), (2, .int (nI t)), (3, .int (nI k))]) hx hb dX0_areEnough_4 hl (by decide) rfl (fun ls hl => ?_)
  refine lv_iconst (v := 0) hx hb dX0_areEnough_6 (by decide) ?_
  refine lv_istore (lv' := [(5, .int 0), (4, .ref ((ad 2) 0)), (0, .ref (ad 0 0)), (1, .int x), (2, .int (nI t)), (3, .int (nI k))]) hx hb dX0_areEnough_7 hl (by decide) rfl (fun ls hl => ?_)
  have loop_9 : ∀ (n : Nat) (i : Nat) (q : Rw), (i ≤ mny r) → (mny r < i + n) → (Ok q) → (kOk (ad 4) kd q) → (q 5 3 = 0) → (mny q = mny r) → (pPS r x i = some q) → ∀ (H : Heap) (locs : List Loc) (ls : Array Slot), va_P G.1 vwCl (wX G ad ho rn ln dr ro lt rf th sb ++ wR G (ad 1) kd r ++ wR G (ad 2) kd q ++ wR G (ad 3) k2 r2 ++ wK (ad 4)) H → va_D A (wX G ad ho rn ln dr ro lt rf th sb ++ wR G (ad 1) kd r ++ wR G (ad 2) kd q ++ wR G (ad 3) k2 r2 ++ wK (ad 4)) → va_S A s.heap H locs → lv_has ls 6 [(5, .int (nI i)), (4, .ref ((ad 2) 0)), (0, .ref (ad 0 0)), (1, .int x), (2, .int (nI t)), (3, .int (nI k))] → W p l e ({ frames := 6, cells := 0, slots := 0, locals := 133 } : Room) s m args below meth c H locs 0 0 Q (F0 m 9 ls []) := by
    intro n
    induction n with
    | zero => intro i q hi9_0 hi9_1 hi9_2 hi9_3 hi9_4 hi9_5 hi9_6; exact absurd hi9_1 (by omega)
    | succ n ih_9 =>
      intro i q hi9_0 hi9_1 hi9_2 hi9_3 hi9_4 hi9_5 hi9_6 H locs ls hP hD hS hl
      refine lv_iload hx hb dX0_areEnough_9 (lv_at hl 0 rfl) ?_
      refine lv_aload hx hb dX0_areEnough_11 (lv_at hl 1 rfl) ?_
      refine va_getN (D := G.1) (ci := 7) (v := .int (nI (mny r))) (C := RX8) (T := TX8) (N := 9) hx hb hts in_X8 hown hK.1 hP 13 rfl rfl 0 (by decide) (va_Nw.use rfl (hK.2.F 4 rfl)) (fun _ h9 => h9) (x_some (hi9_2.n.trans (congrArg nI hi9_5))) dX0_areEnough_13 ?_
      refine lv_icmp_ge (tgt := 56) hx hb dX0_areEnough_16 (by decide) (fun c_2 => ?_) (fun c_2 => ?_)
      · skip
        have g_2 := (nI_leI (by omega) (by omega)).mp c_2
        refine lv_aload hx hb dX0_areEnough_56 (lv_at hl 1 rfl) ?_
        refine lv_iload_n hx hb dX0_areEnough_58 rfl (lv_at hl 5 rfl) ?_
        refine x_Vr (wN := fun _ => (wX G ad ho rn ln dr ro lt rf th sb ++ wR G (ad 1) kd r ++ wR G (ad 2) kd (pMins q k) ++ wR G (ad 3) k2 r2 ++ wK (ad 4))) ⟨C0, hK, hP, hD, hS, hA⟩ 13 rfl (ci := 7) rfl rfl ((m_minutesOn l G (ad 2) (ad 4) kd q hi9_2 hi9_3 k hk1)) (cwV 1 hts (lw_V q770 q623 q624 q94 q625) rfl rfl rfl (by decide +kernel) ⟨Nat.le_of_ble_eq_true rfl, Nat.le_of_ble_eq_true rfl⟩) [13, 14, 15, 16, 17, 18, 25, 26, 27, 28, 29, 30] [0, 2, 4, 6, 8, 10, 12, 14, 16, 18, 20, 22, 24, 1, 3, 5, 7, 9, 11, 38, 40, 42, 44, 46, 48, 13, 15, 17, 19, 21, 23] rfl (fun _ => rfl) rfl rfl hl.1 rfl (Nat.le_of_ble_eq_true rfl) dX0_areEnough_59 ⟨Nat.le_of_ble_eq_true rfl, Nat.le_of_ble_eq_true rfl⟩ (fun u_3 H locs hw_3 hP hD hS => ?_)
        have hP : va_P G.1 vwCl (wX G ad ho rn ln dr ro lt rf th sb ++ wR G (ad 1) kd r ++ wR G (ad 2) kd (pMins q k) ++ wR G (ad 3) k2 r2 ++ wK (ad 4)) H := hP
        have hD : va_D A (wX G ad ho rn ln dr ro lt rf th sb ++ wR G (ad 1) kd r ++ wR G (ad 2) kd (pMins q k) ++ wR G (ad 3) k2 r2 ++ wK (ad 4)) := hD
        refine lv_iload_n hx hb dX0_areEnough_62 rfl (lv_at hl 4 rfl) ?_
        refine x_Vi (wN := fun _ => (wX G ad ho rn ln dr ro lt rf th sb ++ wR G (ad 1) kd r ++ wR G (ad 2) kd (pMins q k) ++ wR G (ad 3) k2 r2 ++ wK (ad 4))) ⟨C0, hK, hP, hD, hS, hA⟩ 13 rfl (ci := 7) rfl rfl ((m_isStanding l G (ad 2) (ad 4) kd (pMins q k) (Ok.mins hi9_2) (kOk.mins hi9_3) t ht)) (cwV 1 hts (lw_V q744 q558 q559 q94 q560) rfl rfl rfl (by decide +kernel) ⟨Nat.le_of_ble_eq_true rfl, Nat.le_of_ble_eq_true rfl⟩) [13, 14, 15, 16, 17, 18, 25, 26, 27, 28, 29, 30] [0, 2, 4, 6, 8, 10, 12, 14, 16, 18, 20, 22, 24, 1, 3, 5, 7, 9, 11, 38, 40, 42, 44, 46, 48, 13, 15, 17, 19, 21, 23] rfl (fun _ => rfl) rfl rfl hl.1 rfl (Nat.le_of_ble_eq_true rfl) dX0_areEnough_63 ⟨Nat.le_of_ble_eq_true rfl, Nat.le_of_ble_eq_true rfl⟩ (fun r_4 u_4 H locs hw_4 hP hD hS => ?_)
        have hw_4 : (bI (pSt (pMins q k) t) : Int32) = r_4 := hw_4.symm
        subst hw_4
        refine hret _ _ _ _ _ _ (bI (pSt (pMins q k) t)) (kd, (pMins q k)) dX0_areEnough_66 ?_ hP hD hS (Nat.le_of_ble_eq_true rfl) (Nat.le_of_ble_eq_true rfl)
        obtain rfl : i = mny r := by omega
        exact congrArg bI (pEn_s hi9_6).symm
      · skip
        have g_2 := mt (nI_leI (by omega) (by omega)).mpr c_2
        refine lv_iload_n hx hb dX0_areEnough_19 rfl (lv_at hl 3 rfl) ?_
        refine lv_iload hx hb dX0_areEnough_20 (lv_at hl 0 rfl) ?_
        refine x_Si (wN := fun _ => (wX G ad ho rn ln dr ro lt rf th sb ++ wR G (ad 1) kd r ++ wR G (ad 2) kd q ++ wR G (ad 3) k2 r2 ++ wK (ad 4))) ⟨C0, hK, hP, hD, hS, hA⟩ ((m_has l G x i)) (va_cwS 2 hts (lw_S q816 q617 q86 q618) rfl rfl rfl (by decide +kernel) ⟨Nat.le_of_ble_eq_true rfl, Nat.le_of_ble_eq_true rfl⟩) [] [0, 2, 4, 6, 8, 10, 12, 14, 16, 18, 20, 22, 24, 26, 28, 30, 32, 34, 36, 38, 40, 42, 44, 46, 48, 50, 52, 54, 56, 58, 60] rfl (fun _ => rfl) rfl rfl hl.1 rfl (Nat.le_of_ble_eq_true rfl) dX0_areEnough_22 ⟨Nat.le_of_ble_eq_true rfl, Nat.le_of_ble_eq_true rfl⟩ (fun r_5 u_5 H locs hw_5 hP hD hS => ?_)
        have hw_5 : (bI (hs x i) : Int32) = r_5 := hw_5.symm
        subst hw_5
        refine lv_if_eq (tgt := 50) hx hb dX0_areEnough_25 (by decide) (fun c_6 => ?_) (fun c_6 => ?_)
        · skip
          refine lv_iinc (v := nI (i + 1)) (lv' := [(5, .int (nI (i + 1))), (4, .ref ((ad 2) 0)), (0, .ref (ad 0 0)), (1, .int x), (2, .int (nI t)), (3, .int (nI k))]) hx hb dX0_areEnough_50 hl (k := 0) rfl (x_inc1 _) (by decide) rfl (fun ls hl => ?_)
          refine lv_goto (tgt := 9) hx hb dX0_areEnough_53 (by decide) ?_
          exact ih_9 (i + 1) q (by omega) (by omega) hi9_2 hi9_3 hi9_4 hi9_5 (by rw [pPS_s hi9_6, if_neg (by have h9 := c_6; simpa [bI_0] using h9)]) _ _ _ hP hD hS (lv_sub hl [0, 1, 2, 3, 4, 5] rfl)
        · skip
          refine lv_aload hx hb dX0_areEnough_28 (lv_at hl 1 rfl) ?_
          refine lv_iload hx hb dX0_areEnough_30 (lv_at hl 0 rfl) ?_
          refine x_Vi (wN := fun _ => (wX G ad ho rn ln dr ro lt rf th sb ++ wR G (ad 1) kd r ++ wR G (ad 2) kd q ++ wR G (ad 3) k2 r2 ++ wK (ad 4))) ⟨C0, hK, hP, hD, hS, hA⟩ 13 rfl (ci := 7) rfl rfl ((m_isStanding l G (ad 2) (ad 4) kd q hi9_2 hi9_3 i (by omega))) (cwV 1 hts (lw_V q744 q558 q559 q94 q560) rfl rfl rfl (by decide +kernel) ⟨Nat.le_of_ble_eq_true rfl, Nat.le_of_ble_eq_true rfl⟩) [13, 14, 15, 16, 17, 18, 25, 26, 27, 28, 29, 30] [0, 2, 4, 6, 8, 10, 12, 14, 16, 18, 20, 22, 24, 1, 3, 5, 7, 9, 11, 38, 40, 42, 44, 46, 48, 13, 15, 17, 19, 21, 23] rfl (fun _ => rfl) rfl rfl hl.1 rfl (Nat.le_of_ble_eq_true rfl) dX0_areEnough_32 ⟨Nat.le_of_ble_eq_true rfl, Nat.le_of_ble_eq_true rfl⟩ (fun r_7 u_7 H locs hw_7 hP hD hS => ?_)
          have hw_7 : (bI (pSt q i) : Int32) = r_7 := hw_7.symm
          subst hw_7
          refine lv_if_ne (tgt := 40) hx hb dX0_areEnough_35 (by decide) (fun c_8 => ?_) (fun c_8 => ?_)
          · skip
            refine lv_aload hx hb dX0_areEnough_40 (lv_at hl 1 rfl) ?_
            refine lv_iload hx hb dX0_areEnough_42 (lv_at hl 0 rfl) ?_
            refine lv_bipush (v := 9) hx hb dX0_areEnough_44 (by decide) ?_
            refine x_Vi (wN := fun _ => (wX G ad ho rn ln dr ro lt rf th sb ++ wR G (ad 1) kd r ++ wR G (ad 2) kd (pPull q i 9) ++ wR G (ad 3) k2 r2 ++ wK (ad 4))) ⟨C0, hK, hP, hD, hS, hA⟩ 13 rfl (ci := 7) rfl rfl ((m_pull l G (ad 2) (ad 4) kd q hi9_2 hi9_3 i 9 (by omega) hi9_4)) (cwV 2 hts (lw_V q745 q683 q684 q94 q685) rfl rfl rfl (by decide +kernel) ⟨Nat.le_of_ble_eq_true rfl, Nat.le_of_ble_eq_true rfl⟩) [13, 14, 15, 16, 17, 18, 25, 26, 27, 28, 29, 30] [0, 2, 4, 6, 8, 10, 12, 14, 16, 18, 20, 22, 24, 1, 3, 5, 7, 9, 11, 38, 40, 42, 44, 46, 48, 13, 15, 17, 19, 21, 23] rfl (fun _ => rfl) rfl rfl hl.1 rfl (Nat.le_of_ble_eq_true rfl) dX0_areEnough_46 ⟨Nat.le_of_ble_eq_true rfl, Nat.le_of_ble_eq_true rfl⟩ (fun r_9 u_9 H locs hw_9 hP hD hS => ?_)
            have hw_9 : (pPullN q i 9 : Int32) = r_9 := hw_9.symm
            subst hw_9
            have hP : va_P G.1 vwCl (wX G ad ho rn ln dr ro lt rf th sb ++ wR G (ad 1) kd r ++ wR G (ad 2) kd (pPull q i 9) ++ wR G (ad 3) k2 r2 ++ wK (ad 4)) H := hP
            have hD : va_D A (wX G ad ho rn ln dr ro lt rf th sb ++ wR G (ad 1) kd r ++ wR G (ad 2) kd (pPull q i 9) ++ wR G (ad 3) k2 r2 ++ wK (ad 4)) := hD
            refine lv_pop hx hb dX0_areEnough_49 rfl ?_
            refine lv_iinc (v := nI (i + 1)) (lv' := [(5, .int (nI (i + 1))), (4, .ref ((ad 2) 0)), (0, .ref (ad 0 0)), (1, .int x), (2, .int (nI t)), (3, .int (nI k))]) hx hb dX0_areEnough_50 hl (k := 0) rfl (x_inc1 _) (by decide) rfl (fun ls hl => ?_)
            refine lv_goto (tgt := 9) hx hb dX0_areEnough_53 (by decide) ?_
            exact ih_9 (i + 1) (pPull q i 9) (by omega) (by omega) (Ok.pull hi9_2) (kOk.pull hi9_3) hi9_4 hi9_5 (by rw [pPS_s hi9_6, if_pos (by have h9 := c_6; simpa [bI_0] using h9), if_pos (by have h9 := c_8; simpa [bI_0] using h9)]) _ _ _ hP hD hS (lv_sub hl [0, 1, 2, 3, 4, 5] rfl)
          · skip
            refine lv_iconst (v := 0) hx hb dX0_areEnough_38 (by decide) ?_
            refine hret _ _ _ _ _ _ 0 (kd, q) dX0_areEnough_39 ?_ hP hD hS (Nat.le_of_ble_eq_true rfl) (Nat.le_of_ble_eq_true rfl)
            exact bI_F (pEn_f hi9_6 (by omega) (by have h9 := c_6; simpa [bI_0] using h9) (by have h9 := c_8; simpa [bI_0] using h9))
  exact loop_9 (mny r + 1) 0 r (by omega) (by omega) hr hk hp rfl rfl _ _ _ hP hD hS (lv_sub hl [0, 1, 2, 3, 4, 5] rfl)

/-! what each act comes to (printed by tools/acts.py) -/
set_option maxRecDepth 100000
set_option maxHeartbeats 4000000 in
set_option maxRecDepth 100000 in
theorem m_of_0 (l : Launch) (hl0 : l.stackTraces = false) (G : xG) (ad : Nat → Nat → Nat) (kd k1 k2 : Nat → Option Nat) (r r1 r2 : Rw) (ho rn ln dr : Int32) (ro lt rf th sb : Nat → Int32) (hr : Ok r) (hp : r 5 3 = 0) (hk : kOk (ad 4) kd r) (c1 z0 z1 : Int32) (lm : Nat) (hln : ln = nI lm) (hlm9 : lm ≤ 96) : yCi l G yX0_ofRoom cX0_ofRoom 5 (some .int) ({ frames := 10, cells := 3, slots := 21, locals := 175 } : Room) [.ref (ad 0 0), .int 0, .int c1, .int z0, .int z1] (wX G ad ho rn ln dr ro lt rf th sb ++ wR G (ad 1) kd r ++ wR G (ad 2) k1 r1 ++ wR G (ad 3) k2 r2 ++ wK (ad 4)) (S := Unit) (SX := Unit) (fun v _ => eW (wBy c1.toInt 0 255) (eS (decide (lm < 96)) (-6) 0) = 0 ∧ v = nI (lm + 1)) (fun _ => (wX G ad ho rn (nI (lm + 1)) dr ro (upd lt lm c1) rf th sb ++ wR G (ad 1) kd r ++ wR G (ad 2) k1 r1 ++ wR G (ad 3) k2 r2 ++ wK (ad 4))) (fun n _ => n = eW (wBy c1.toInt 0 255) (eS (decide (lm < 96)) (-6) 0) ∧ eW (wBy c1.toInt 0 255) (eS (decide (lm < 96)) (-6) 0) ≠ 0) (fun _ => (wX G ad ho rn ln dr ro lt rf th sb ++ wR G (ad 1) kd r ++ wR G (ad 2) k1 r1 ++ wR G (ad 3) k2 r2 ++ wK (ad 4))) := by
  refine y_openi (by decide) (Nat.le_of_ble_eq_true rfl) (fun _ _ _ => rfl) ?_
  intro p e s m args below meth c A Q ls C0 hK hZ hP hD hA hl hret hthr
  obtain ⟨hx, hb, hml, hown, hts⟩ := id C0
  have hS : va_S A s.heap s.heap [] := va_S.rf
  have hP : va_P G.1 vwCl (wX G ad ho rn ln dr ro lt rf th sb ++ wR G (ad 1) kd r ++ wR G (ad 2) k1 r1 ++ wR G (ad 3) k2 r2 ++ wK (ad 4)) s.heap := hP
  have hD : va_D A (wX G ad ho rn ln dr ro lt rf th sb ++ wR G (ad 1) kd r ++ wR G (ad 2) k1 r1 ++ wR G (ad 3) k2 r2 ++ wK (ad 4)) := hD
  have hl : lv_has ls 5 [(0, .ref (ad 0 0)), (1, .int 0), (2, .int c1), (3, .int z0), (4, .int z1)] := hl
  have hr0 := hr.n
  have hN := hr.le
  refine lv_iload_n hx hb dX0_ofRoom_0 rfl (lv_at hl 1 rfl) ?_
  refine lv_tableIn (tgt := 48) hx hb dX0_ofRoom_1 (by decide) (by decide) rfl (by decide) ?_
  refine lv_aload_n hx hb dX0_ofRoom_48 rfl (lv_at hl 0 rfl) ?_
  refine lv_iload_n hx hb dX0_ofRoom_49 rfl (lv_at hl 2 rfl) ?_
  refine y_Vi (wN := fun u_1 => (wX G ad ho rn (nI (lm + 1)) dr ro (upd lt lm c1) rf th sb ++ wR G (ad 1) kd r ++ wR G (ad 2) k1 r1 ++ wR G (ad 3) k2 r2 ++ wK (ad 4))) (wNx := fun u9 => (wX G ad ho rn ln dr ro lt rf th sb ++ wR G (ad 1) kd r ++ wR G (ad 2) k1 r1 ++ wR G (ad 3) k2 r2 ++ wK (ad 4))) ⟨C0, hK, hP, hD, hS, hA⟩ hZ 0 rfl (ci := 0) rfl rfl ((m_letterIt l hl0 G ad kd k1 k2 r r1 r2 ho rn ln dr ro lt rf th sb hr hp hk c1 lm hln hlm9)) (cwV 1 hts (lw_V q278 q280 qs2 q86 q281) rfl rfl rfl (by decide +kernel) ⟨Nat.le_of_ble_eq_true rfl, Nat.le_of_ble_eq_true rfl⟩) [0, 1, 2, 3, 4, 5, 6, 7, 8, 9, 10, 11, 12, 13, 14, 15, 16, 17, 18, 19, 20, 21, 22, 23, 24, 25, 26, 27, 28, 29, 30] [1, 3, 5, 7, 9, 11, 13, 15, 17, 19, 21, 23, 25, 27, 29, 31, 33, 35, 37, 39, 41, 43, 45, 47, 49, 51, 53, 55, 57, 59, 61] [1, 3, 5, 7, 9, 11, 13, 15, 17, 19, 21, 23, 25, 27, 29, 31, 33, 35, 37, 39, 41, 43, 45, 47, 49, 51, 53, 55, 57, 59, 61, 63] rfl (fun _ => rfl) (fun _ _ _ => rfl) rfl rfl rfl hl.1 rfl (Nat.le_of_ble_eq_true rfl) dX0_ofRoom_50 ⟨(Nat.le_of_ble_eq_true rfl), (Nat.le_of_ble_eq_true rfl)⟩ (fun q9 u9 ee H locs hw_1 hP hD hS => ?_) (fun r_1 u_1 H locs hw_1 hP hD hS => ?_)
  · skip
    refine hthr _ _ _ _ _ _ _ q9 () ee ?_ hP hD hS (Nat.le_of_ble_eq_true rfl) (Nat.le_of_ble_eq_true rfl)
    exact hw_1
  · skip
    obtain ⟨hz_1, hw_1⟩ := hw_1
    have hw_1 : (nI (lm + 1) : Int32) = r_1 := hw_1.symm
    subst hw_1
    have hP : va_P G.1 vwCl (wX G ad ho rn (nI (lm + 1)) dr ro (upd lt lm c1) rf th sb ++ wR G (ad 1) kd r ++ wR G (ad 2) k1 r1 ++ wR G (ad 3) k2 r2 ++ wK (ad 4)) H := hP
    have hD : va_D A (wX G ad ho rn (nI (lm + 1)) dr ro (upd lt lm c1) rf th sb ++ wR G (ad 1) kd r ++ wR G (ad 2) k1 r1 ++ wR G (ad 3) k2 r2 ++ wK (ad 4)) := hD
    refine W.widen (k := 3) (n := 21) (Nat.le_of_ble_eq_true rfl) (Nat.le_of_ble_eq_true rfl) ?_
    refine hret _ _ _ _ _ _ (nI (lm + 1)) () dX0_ofRoom_53 ?_ hP hD hS (Nat.le_of_ble_eq_true rfl) (Nat.le_of_ble_eq_true rfl)
    exact ⟨hz_1, rfl⟩
set_option maxHeartbeats 4000000 in
set_option maxRecDepth 100000 in
theorem m_of_1 (l : Launch) (hl0 : l.stackTraces = false) (G : xG) (ad : Nat → Nat → Nat) (kd k1 k2 : Nat → Option Nat) (r r1 r2 : Rw) (ho rn ln dr : Int32) (ro lt rf th sb : Nat → Int32) (hr : Ok r) (hp : r 5 3 = 0) (hk : kOk (ad 4) kd r) (z0 z1 z2 : Int32) (z : Nat) (hln : ln = nI z) (hz : z ≤ 96) : yCi l G yX0_ofRoom cX0_ofRoom 5 (some .int) ({ frames := 12, cells := 268, slots := 1898, locals := 220 } : Room) [.ref (ad 0 0), .int 1, .int z0, .int z1, .int z2] (wX G ad ho rn ln dr ro lt rf th sb ++ wR G (ad 1) kd r ++ wR G (ad 2) k1 r1 ++ wR G (ad 3) k2 r2 ++ wK (ad 4)) (S := (Nat → Option Nat)) (SX := ((Nat → Option Nat) × Rw)) (fun v u => rrE lt z r = 0 ∧ v = nI (sLast lt z + 1) ∧ kOk (ad 4) u (rrR lt z r (sLast lt z + 1))) (fun u => (wX G ad ho rn 0 dr ro lt rf th sb ++ wR G (ad 1) u (rrR lt z r (sLast lt z + 1)) ++ wR G (ad 2) u (rrR lt z r (sLast lt z + 1)) ++ wR G (ad 3) k2 r2 ++ wK (ad 4))) (fun n _ => n = rrE lt z r ∧ rrE lt z r ≠ 0) (fun u => (wX G ad ho rn 0 dr ro lt rf th sb ++ wR G (ad 1) kd r ++ wR G (ad 2) u.1 u.2 ++ wR G (ad 3) k2 r2 ++ wK (ad 4))) := by
  refine y_openi (by decide) (Nat.le_of_ble_eq_true rfl) (fun _ _ _ => rfl) ?_
  intro p e s m args below meth c A Q ls C0 hK hZ hP hD hA hl hret hthr
  obtain ⟨hx, hb, hml, hown, hts⟩ := id C0
  have hS : va_S A s.heap s.heap [] := va_S.rf
  have hP : va_P G.1 vwCl (wX G ad ho rn ln dr ro lt rf th sb ++ wR G (ad 1) kd r ++ wR G (ad 2) k1 r1 ++ wR G (ad 3) k2 r2 ++ wK (ad 4)) s.heap := hP
  have hD : va_D A (wX G ad ho rn ln dr ro lt rf th sb ++ wR G (ad 1) kd r ++ wR G (ad 2) k1 r1 ++ wR G (ad 3) k2 r2 ++ wK (ad 4)) := hD
  have hl : lv_has ls 5 [(0, .ref (ad 0 0)), (1, .int 1), (2, .int z0), (3, .int z1), (4, .int z2)] := hl
  have hr0 := hr.n
  have hN := hr.le
  refine lv_iload_n hx hb dX0_ofRoom_0 rfl (lv_at hl 1 rfl) ?_
  refine lv_tableIn (tgt := 54) hx hb dX0_ofRoom_1 (by decide) (by decide) rfl (by decide) ?_
  refine lv_aload_n hx hb dX0_ofRoom_54 rfl (lv_at hl 0 rfl) ?_
  refine y_Vi (wN := fun u_1 => (wX G ad ho rn 0 dr ro lt rf th sb ++ wR G (ad 1) u_1 (rrR lt z r (sLast lt z + 1)) ++ wR G (ad 2) u_1 (rrR lt z r (sLast lt z + 1)) ++ wR G (ad 3) k2 r2 ++ wK (ad 4))) (wNx := fun u9 => (wX G ad ho rn 0 dr ro lt rf th sb ++ wR G (ad 1) kd r ++ wR G (ad 2) u9.1 u9.2 ++ wR G (ad 3) k2 r2 ++ wK (ad 4))) ⟨C0, hK, hP, hD, hS, hA⟩ hZ 0 rfl (ci := 0) rfl rfl ((m_readRoom l hl0 G ad kd k1 k2 r r1 r2 ho rn ln dr ro lt rf th sb hr hp hk z hln hz)) (cwV 0 hts (lw_V q358 q360 qs4 q86 q361) rfl rfl rfl (by decide +kernel) ⟨Nat.le_of_ble_eq_true rfl, Nat.le_of_ble_eq_true rfl⟩) [0, 1, 2, 3, 4, 5, 6, 7, 8, 9, 10, 11, 12, 13, 14, 15, 16, 17, 18, 19, 20, 21, 22, 23, 24, 25, 26, 27, 28, 29, 30] [1, 3, 5, 7, 9, 11, 13, 15, 17, 19, 21, 23, 25, 27, 29, 31, 33, 35, 37, 39, 41, 43, 45, 47, 49, 51, 53, 55, 57, 59, 61] [1, 3, 5, 7, 9, 11, 13, 15, 17, 19, 21, 23, 25, 27, 29, 31, 33, 35, 37, 39, 41, 43, 45, 47, 49, 51, 53, 55, 57, 59, 61, 63] rfl (fun _ => rfl) (fun _ _ _ => rfl) rfl rfl rfl hl.1 rfl (Nat.le_of_ble_eq_true rfl) dX0_ofRoom_55 ⟨(Nat.le_of_ble_eq_true rfl), (Nat.le_of_ble_eq_true rfl)⟩ (fun q9 u9 ee H locs hw_1 hP hD hS => ?_) (fun r_1 u_1 H locs hw_1 hP hD hS => ?_)
  · skip
    refine hthr _ _ _ _ _ _ _ q9 u9 ee ?_ hP hD hS (Nat.le_of_ble_eq_true rfl) (Nat.le_of_ble_eq_true rfl)
    exact hw_1
  · skip
    have hP : va_P G.1 vwCl (wX G ad ho rn 0 dr ro lt rf th sb ++ wR G (ad 1) u_1 (rrR lt z r (sLast lt z + 1)) ++ wR G (ad 2) u_1 (rrR lt z r (sLast lt z + 1)) ++ wR G (ad 3) k2 r2 ++ wK (ad 4)) H := hP
    have hD : va_D A (wX G ad ho rn 0 dr ro lt rf th sb ++ wR G (ad 1) u_1 (rrR lt z r (sLast lt z + 1)) ++ wR G (ad 2) u_1 (rrR lt z r (sLast lt z + 1)) ++ wR G (ad 3) k2 r2 ++ wK (ad 4)) := hD
    refine W.widen (k := 268) (n := 1898) (Nat.le_of_ble_eq_true rfl) (Nat.le_of_ble_eq_true rfl) ?_
    refine hret _ _ _ _ _ _ r_1 u_1 dX0_ofRoom_58 ?_ hP hD hS (Nat.le_of_ble_eq_true rfl) (Nat.le_of_ble_eq_true rfl)
    exact hw_1
set_option maxHeartbeats 4000000 in
set_option maxRecDepth 100000 in
theorem m_of_2 (l : Launch) (hl0 : l.stackTraces = false) (G : xG) (ad : Nat → Nat → Nat) (kd k1 k2 : Nat → Option Nat) (r r1 r2 : Rw) (ho rn ln dr : Int32) (ro lt rf th sb : Nat → Int32) (hr : Ok r) (hp : r 5 3 = 0) (hk : kOk (ad 4) kd r) (t w z0 : Int32) : yCi l G yX0_ofRoom cX0_ofRoom 5 (some .int) ({ frames := 11, cells := 2, slots := 14, locals := 193 } : Room) [.ref (ad 0 0), .int 2, .int t, .int w, .int z0] (wX G ad ho rn ln dr ro lt rf th sb ++ wR G (ad 1) kd r ++ wR G (ad 2) k1 r1 ++ wR G (ad 3) k2 r2 ++ wK (ad 4)) (S := Unit) (SX := Unit) (fun v _ => eS (tB r t) (-1) (eS (inR w 0 7) (-2) 0) = 0 ∧ v = pTh r (ix t) w) (fun _ => (wX G ad ho rn ln dr ro lt rf th sb ++ wR G (ad 1) kd r ++ wR G (ad 2) k1 r1 ++ wR G (ad 3) k2 r2 ++ wK (ad 4))) (fun n _ => n = eS (tB r t) (-1) (eS (inR w 0 7) (-2) 0) ∧ eS (tB r t) (-1) (eS (inR w 0 7) (-2) 0) ≠ 0) (fun _ => (wX G ad ho rn ln dr ro lt rf th sb ++ wR G (ad 1) kd r ++ wR G (ad 2) k1 r1 ++ wR G (ad 3) k2 r2 ++ wK (ad 4))) := by
  refine y_openi (by decide) (Nat.le_of_ble_eq_true rfl) (fun _ _ _ => rfl) ?_
  intro p e s m args below meth c A Q ls C0 hK hZ hP hD hA hl hret hthr
  obtain ⟨hx, hb, hml, hown, hts⟩ := id C0
  have hS : va_S A s.heap s.heap [] := va_S.rf
  have hP : va_P G.1 vwCl (wX G ad ho rn ln dr ro lt rf th sb ++ wR G (ad 1) kd r ++ wR G (ad 2) k1 r1 ++ wR G (ad 3) k2 r2 ++ wK (ad 4)) s.heap := hP
  have hD : va_D A (wX G ad ho rn ln dr ro lt rf th sb ++ wR G (ad 1) kd r ++ wR G (ad 2) k1 r1 ++ wR G (ad 3) k2 r2 ++ wK (ad 4)) := hD
  have hl : lv_has ls 5 [(0, .ref (ad 0 0)), (1, .int 2), (2, .int t), (3, .int w), (4, .int z0)] := hl
  have hr0 := hr.n
  have hN := hr.le
  refine lv_iload_n hx hb dX0_ofRoom_0 rfl (lv_at hl 1 rfl) ?_
  refine lv_tableIn (tgt := 59) hx hb dX0_ofRoom_1 (by decide) (by decide) rfl (by decide) ?_
  refine lv_aload_n hx hb dX0_ofRoom_59 rfl (lv_at hl 0 rfl) ?_
  refine lv_iload_n hx hb dX0_ofRoom_60 rfl (lv_at hl 2 rfl) ?_
  refine lv_iload_n hx hb dX0_ofRoom_61 rfl (lv_at hl 3 rfl) ?_
  refine y_Vi (wN := fun _ => (wX G ad ho rn ln dr ro lt rf th sb ++ wR G (ad 1) kd r ++ wR G (ad 2) k1 r1 ++ wR G (ad 3) k2 r2 ++ wK (ad 4))) (wNx := fun u9 => (wX G ad ho rn ln dr ro lt rf th sb ++ wR G (ad 1) kd r ++ wR G (ad 2) k1 r1 ++ wR G (ad 3) k2 r2 ++ wK (ad 4))) ⟨C0, hK, hP, hD, hS, hA⟩ hZ 0 rfl (ci := 0) rfl rfl ((m_thingTold l hl0 G ad kd k1 k2 r r1 r2 ho rn ln dr ro lt rf th sb hr hp hk t w)) (cwV 2 hts (lw_V q695 q697 qs13 q86 q698) rfl rfl rfl (by decide +kernel) ⟨Nat.le_of_ble_eq_true rfl, Nat.le_of_ble_eq_true rfl⟩) [0, 1, 2, 3, 4, 5, 6, 7, 8, 9, 10, 11, 12, 13, 14, 15, 16, 17, 18, 19, 20, 21, 22, 23, 24, 25, 26, 27, 28, 29, 30] [1, 3, 5, 7, 9, 11, 13, 15, 17, 19, 21, 23, 25, 27, 29, 31, 33, 35, 37, 39, 41, 43, 45, 47, 49, 51, 53, 55, 57, 59, 61] [1, 3, 5, 7, 9, 11, 13, 15, 17, 19, 21, 23, 25, 27, 29, 31, 33, 35, 37, 39, 41, 43, 45, 47, 49, 51, 53, 55, 57, 59, 61, 63] rfl (fun _ => rfl) (fun _ _ _ => rfl) rfl rfl rfl hl.1 rfl (Nat.le_of_ble_eq_true rfl) dX0_ofRoom_62 ⟨(Nat.le_of_ble_eq_true rfl), (Nat.le_of_ble_eq_true rfl)⟩ (fun q9 u9 ee H locs hw_1 hP hD hS => ?_) (fun r_1 u_1 H locs hw_1 hP hD hS => ?_)
  · skip
    refine hthr _ _ _ _ _ _ _ q9 () ee ?_ hP hD hS (Nat.le_of_ble_eq_true rfl) (Nat.le_of_ble_eq_true rfl)
    exact hw_1
  · skip
    obtain ⟨hz_1, hw_1⟩ := hw_1
    have hw_1 : (pTh r (ix t) w : Int32) = r_1 := hw_1.symm
    subst hw_1
    refine W.widen (k := 2) (n := 14) (Nat.le_of_ble_eq_true rfl) (Nat.le_of_ble_eq_true rfl) ?_
    refine hret _ _ _ _ _ _ (pTh r (ix t) w) () dX0_ofRoom_65 ?_ hP hD hS (Nat.le_of_ble_eq_true rfl) (Nat.le_of_ble_eq_true rfl)
    exact ⟨hz_1, rfl⟩
set_option maxHeartbeats 4000000 in
set_option maxRecDepth 100000 in
theorem m_of_3 (l : Launch) (hl0 : l.stackTraces = false) (G : xG) (ad : Nat → Nat → Nat) (kd k1 k2 : Nat → Option Nat) (r r1 r2 : Rw) (ho rn ln dr : Int32) (ro lt rf th sb : Nat → Int32) (hr : Ok r) (hp : r 5 3 = 0) (hk : kOk (ad 4) kd r) (t sp z0 : Int32) : yCi l G yX0_ofRoom cX0_ofRoom 5 (some .int) ({ frames := 11, cells := 4, slots := 28, locals := 196 } : Room) [.ref (ad 0 0), .int 3, .int t, .int sp, .int z0] (wX G ad ho rn ln dr ro lt rf th sb ++ wR G (ad 1) kd r ++ wR G (ad 2) k1 r1 ++ wR G (ad 3) k2 r2 ++ wK (ad 4)) (S := Unit) (SX := Unit) (fun v _ => eS (tB r t) (-1) (eW (wBy sp.toInt 0 9) (eS (pSt r (ix t)) (-3) 0)) = 0 ∧ v = pPullN r (ix t) sp) (fun _ => (wX G ad ho rn ln dr ro lt rf th sb ++ wR G (ad 1) kd (pPull r (ix t) sp) ++ wR G (ad 2) k1 r1 ++ wR G (ad 3) k2 r2 ++ wK (ad 4))) (fun n _ => n = eS (tB r t) (-1) (eW (wBy sp.toInt 0 9) (eS (pSt r (ix t)) (-3) 0)) ∧ eS (tB r t) (-1) (eW (wBy sp.toInt 0 9) (eS (pSt r (ix t)) (-3) 0)) ≠ 0) (fun _ => (wX G ad ho rn ln dr ro lt rf th sb ++ wR G (ad 1) kd r ++ wR G (ad 2) k1 r1 ++ wR G (ad 3) k2 r2 ++ wK (ad 4))) := by
  refine y_openi (by decide) (Nat.le_of_ble_eq_true rfl) (fun _ _ _ => rfl) ?_
  intro p e s m args below meth c A Q ls C0 hK hZ hP hD hA hl hret hthr
  obtain ⟨hx, hb, hml, hown, hts⟩ := id C0
  have hS : va_S A s.heap s.heap [] := va_S.rf
  have hP : va_P G.1 vwCl (wX G ad ho rn ln dr ro lt rf th sb ++ wR G (ad 1) kd r ++ wR G (ad 2) k1 r1 ++ wR G (ad 3) k2 r2 ++ wK (ad 4)) s.heap := hP
  have hD : va_D A (wX G ad ho rn ln dr ro lt rf th sb ++ wR G (ad 1) kd r ++ wR G (ad 2) k1 r1 ++ wR G (ad 3) k2 r2 ++ wK (ad 4)) := hD
  have hl : lv_has ls 5 [(0, .ref (ad 0 0)), (1, .int 3), (2, .int t), (3, .int sp), (4, .int z0)] := hl
  have hr0 := hr.n
  have hN := hr.le
  refine lv_iload_n hx hb dX0_ofRoom_0 rfl (lv_at hl 1 rfl) ?_
  refine lv_tableIn (tgt := 66) hx hb dX0_ofRoom_1 (by decide) (by decide) rfl (by decide) ?_
  refine lv_aload_n hx hb dX0_ofRoom_66 rfl (lv_at hl 0 rfl) ?_
  refine lv_iload_n hx hb dX0_ofRoom_67 rfl (lv_at hl 2 rfl) ?_
  refine lv_iload_n hx hb dX0_ofRoom_68 rfl (lv_at hl 3 rfl) ?_
  refine y_Vi (wN := fun u_1 => (wX G ad ho rn ln dr ro lt rf th sb ++ wR G (ad 1) kd (pPull r (ix t) sp) ++ wR G (ad 2) k1 r1 ++ wR G (ad 3) k2 r2 ++ wK (ad 4))) (wNx := fun u9 => (wX G ad ho rn ln dr ro lt rf th sb ++ wR G (ad 1) kd r ++ wR G (ad 2) k1 r1 ++ wR G (ad 3) k2 r2 ++ wK (ad 4))) ⟨C0, hK, hP, hD, hS, hA⟩ hZ 0 rfl (ci := 0) rfl rfl ((m_pullIt l hl0 G ad kd k1 k2 r r1 r2 ho rn ln dr ro lt rf th sb hr hp hk t sp)) (cwV 2 hts (lw_V q732 q734 qs15 q86 q735) rfl rfl rfl (by decide +kernel) ⟨Nat.le_of_ble_eq_true rfl, Nat.le_of_ble_eq_true rfl⟩) [0, 1, 2, 3, 4, 5, 6, 7, 8, 9, 10, 11, 12, 13, 14, 15, 16, 17, 18, 19, 20, 21, 22, 23, 24, 25, 26, 27, 28, 29, 30] [1, 3, 5, 7, 9, 11, 13, 15, 17, 19, 21, 23, 25, 27, 29, 31, 33, 35, 37, 39, 41, 43, 45, 47, 49, 51, 53, 55, 57, 59, 61] [1, 3, 5, 7, 9, 11, 13, 15, 17, 19, 21, 23, 25, 27, 29, 31, 33, 35, 37, 39, 41, 43, 45, 47, 49, 51, 53, 55, 57, 59, 61, 63] rfl (fun _ => rfl) (fun _ _ _ => rfl) rfl rfl rfl hl.1 rfl (Nat.le_of_ble_eq_true rfl) dX0_ofRoom_69 ⟨(Nat.le_of_ble_eq_true rfl), (Nat.le_of_ble_eq_true rfl)⟩ (fun q9 u9 ee H locs hw_1 hP hD hS => ?_) (fun r_1 u_1 H locs hw_1 hP hD hS => ?_)
  · skip
    refine hthr _ _ _ _ _ _ _ q9 () ee ?_ hP hD hS (Nat.le_of_ble_eq_true rfl) (Nat.le_of_ble_eq_true rfl)
    exact hw_1
  · skip
    obtain ⟨hz_1, hw_1⟩ := hw_1
    have hw_1 : (pPullN r (ix t) sp : Int32) = r_1 := hw_1.symm
    subst hw_1
    have hP : va_P G.1 vwCl (wX G ad ho rn ln dr ro lt rf th sb ++ wR G (ad 1) kd (pPull r (ix t) sp) ++ wR G (ad 2) k1 r1 ++ wR G (ad 3) k2 r2 ++ wK (ad 4)) H := hP
    have hD : va_D A (wX G ad ho rn ln dr ro lt rf th sb ++ wR G (ad 1) kd (pPull r (ix t) sp) ++ wR G (ad 2) k1 r1 ++ wR G (ad 3) k2 r2 ++ wK (ad 4)) := hD
    refine W.widen (k := 4) (n := 28) (Nat.le_of_ble_eq_true rfl) (Nat.le_of_ble_eq_true rfl) ?_
    refine hret _ _ _ _ _ _ (pPullN r (ix t) sp) () dX0_ofRoom_72 ?_ hP hD hS (Nat.le_of_ble_eq_true rfl) (Nat.le_of_ble_eq_true rfl)
    exact ⟨hz_1, rfl⟩
set_option maxHeartbeats 4000000 in
set_option maxRecDepth 100000 in
theorem m_of_4 (l : Launch) (hl0 : l.stackTraces = false) (G : xG) (ad : Nat → Nat → Nat) (kd k1 k2 : Nat → Option Nat) (r r1 r2 : Rw) (ho rn ln dr : Int32) (ro lt rf th sb : Nat → Int32) (hr : Ok r) (hp : r 5 3 = 0) (hk : kOk (ad 4) kd r) (sp z0 z1 : Int32) : yCi l G yX0_ofRoom cX0_ofRoom 5 (some .int) ({ frames := 11, cells := 3, slots := 21, locals := 195 } : Room) [.ref (ad 0 0), .int 4, .int sp, .int z0, .int z1] (wX G ad ho rn ln dr ro lt rf th sb ++ wR G (ad 1) kd r ++ wR G (ad 2) k1 r1 ++ wR G (ad 3) k2 r2 ++ wK (ad 4)) (S := Unit) (SX := Unit) (fun v _ => eW (wBy sp.toInt 0 9) (eS (bB r) (-3) 0) = 0 ∧ v = pPullFN r sp) (fun _ => (wX G ad ho rn ln dr ro lt rf th sb ++ wR G (ad 1) kd (pPullF r sp) ++ wR G (ad 2) k1 r1 ++ wR G (ad 3) k2 r2 ++ wK (ad 4))) (fun n _ => n = eW (wBy sp.toInt 0 9) (eS (bB r) (-3) 0) ∧ eW (wBy sp.toInt 0 9) (eS (bB r) (-3) 0) ≠ 0) (fun _ => (wX G ad ho rn ln dr ro lt rf th sb ++ wR G (ad 1) kd r ++ wR G (ad 2) k1 r1 ++ wR G (ad 3) k2 r2 ++ wK (ad 4))) := by
  refine y_openi (by decide) (Nat.le_of_ble_eq_true rfl) (fun _ _ _ => rfl) ?_
  intro p e s m args below meth c A Q ls C0 hK hZ hP hD hA hl hret hthr
  obtain ⟨hx, hb, hml, hown, hts⟩ := id C0
  have hS : va_S A s.heap s.heap [] := va_S.rf
  have hP : va_P G.1 vwCl (wX G ad ho rn ln dr ro lt rf th sb ++ wR G (ad 1) kd r ++ wR G (ad 2) k1 r1 ++ wR G (ad 3) k2 r2 ++ wK (ad 4)) s.heap := hP
  have hD : va_D A (wX G ad ho rn ln dr ro lt rf th sb ++ wR G (ad 1) kd r ++ wR G (ad 2) k1 r1 ++ wR G (ad 3) k2 r2 ++ wK (ad 4)) := hD
  have hl : lv_has ls 5 [(0, .ref (ad 0 0)), (1, .int 4), (2, .int sp), (3, .int z0), (4, .int z1)] := hl
  have hr0 := hr.n
  have hN := hr.le
  refine lv_iload_n hx hb dX0_ofRoom_0 rfl (lv_at hl 1 rfl) ?_
  refine lv_tableIn (tgt := 73) hx hb dX0_ofRoom_1 (by decide) (by decide) rfl (by decide) ?_
  refine lv_aload_n hx hb dX0_ofRoom_73 rfl (lv_at hl 0 rfl) ?_
  refine lv_iload_n hx hb dX0_ofRoom_74 rfl (lv_at hl 2 rfl) ?_
  refine y_Vi (wN := fun u_1 => (wX G ad ho rn ln dr ro lt rf th sb ++ wR G (ad 1) kd (pPullF r sp) ++ wR G (ad 2) k1 r1 ++ wR G (ad 3) k2 r2 ++ wK (ad 4))) (wNx := fun u9 => (wX G ad ho rn ln dr ro lt rf th sb ++ wR G (ad 1) kd r ++ wR G (ad 2) k1 r1 ++ wR G (ad 3) k2 r2 ++ wK (ad 4))) ⟨C0, hK, hP, hD, hS, hA⟩ hZ 0 rfl (ci := 0) rfl rfl ((m_floorIt l hl0 G ad kd k1 k2 r r1 r2 ho rn ln dr ro lt rf th sb hr hp hk sp)) (cwV 1 hts (lw_V q746 q748 qs17 q86 q749) rfl rfl rfl (by decide +kernel) ⟨Nat.le_of_ble_eq_true rfl, Nat.le_of_ble_eq_true rfl⟩) [0, 1, 2, 3, 4, 5, 6, 7, 8, 9, 10, 11, 12, 13, 14, 15, 16, 17, 18, 19, 20, 21, 22, 23, 24, 25, 26, 27, 28, 29, 30] [1, 3, 5, 7, 9, 11, 13, 15, 17, 19, 21, 23, 25, 27, 29, 31, 33, 35, 37, 39, 41, 43, 45, 47, 49, 51, 53, 55, 57, 59, 61] [1, 3, 5, 7, 9, 11, 13, 15, 17, 19, 21, 23, 25, 27, 29, 31, 33, 35, 37, 39, 41, 43, 45, 47, 49, 51, 53, 55, 57, 59, 61, 63] rfl (fun _ => rfl) (fun _ _ _ => rfl) rfl rfl rfl hl.1 rfl (Nat.le_of_ble_eq_true rfl) dX0_ofRoom_75 ⟨(Nat.le_of_ble_eq_true rfl), (Nat.le_of_ble_eq_true rfl)⟩ (fun q9 u9 ee H locs hw_1 hP hD hS => ?_) (fun r_1 u_1 H locs hw_1 hP hD hS => ?_)
  · skip
    refine hthr _ _ _ _ _ _ _ q9 () ee ?_ hP hD hS (Nat.le_of_ble_eq_true rfl) (Nat.le_of_ble_eq_true rfl)
    exact hw_1
  · skip
    obtain ⟨hz_1, hw_1⟩ := hw_1
    have hw_1 : (pPullFN r sp : Int32) = r_1 := hw_1.symm
    subst hw_1
    have hP : va_P G.1 vwCl (wX G ad ho rn ln dr ro lt rf th sb ++ wR G (ad 1) kd (pPullF r sp) ++ wR G (ad 2) k1 r1 ++ wR G (ad 3) k2 r2 ++ wK (ad 4)) H := hP
    have hD : va_D A (wX G ad ho rn ln dr ro lt rf th sb ++ wR G (ad 1) kd (pPullF r sp) ++ wR G (ad 2) k1 r1 ++ wR G (ad 3) k2 r2 ++ wK (ad 4)) := hD
    refine W.widen (k := 3) (n := 21) (Nat.le_of_ble_eq_true rfl) (Nat.le_of_ble_eq_true rfl) ?_
    refine hret _ _ _ _ _ _ (pPullFN r sp) () dX0_ofRoom_78 ?_ hP hD hS (Nat.le_of_ble_eq_true rfl) (Nat.le_of_ble_eq_true rfl)
    exact ⟨hz_1, rfl⟩
set_option maxHeartbeats 4000000 in
set_option maxRecDepth 100000 in
theorem m_of_5 (l : Launch) (hl0 : l.stackTraces = false) (G : xG) (ad : Nat → Nat → Nat) (kd k1 k2 : Nat → Option Nat) (r r1 r2 : Rw) (ho rn ln dr : Int32) (ro lt rf th sb : Nat → Int32) (hr : Ok r) (hp : r 5 3 = 0) (hk : kOk (ad 4) kd r) (z0 z1 z2 : Int32) : yCi l G yX0_ofRoom cX0_ofRoom 5 (some .int) ({ frames := 9, cells := 1, slots := 7, locals := 151 } : Room) [.ref (ad 0 0), .int 5, .int z0, .int z1, .int z2] (wX G ad ho rn ln dr ro lt rf th sb ++ wR G (ad 1) kd r ++ wR G (ad 2) k1 r1 ++ wR G (ad 3) k2 r2 ++ wK (ad 4)) (S := Unit) (SX := Unit) (fun v _ => eS (!bB r) (-3) 0 = 0 ∧ v = nI (cn (pLyP (pLay r)) (mny r))) (fun _ => (wX G ad ho rn ln dr ro lt rf th sb ++ wR G (ad 1) kd (pLay r) ++ wR G (ad 2) k1 r1 ++ wR G (ad 3) k2 r2 ++ wK (ad 4))) (fun n _ => n = eS (!bB r) (-3) 0 ∧ eS (!bB r) (-3) 0 ≠ 0) (fun _ => (wX G ad ho rn ln dr ro lt rf th sb ++ wR G (ad 1) kd r ++ wR G (ad 2) k1 r1 ++ wR G (ad 3) k2 r2 ++ wK (ad 4))) := by
  refine y_openi (by decide) (Nat.le_of_ble_eq_true rfl) (fun _ _ _ => rfl) ?_
  intro p e s m args below meth c A Q ls C0 hK hZ hP hD hA hl hret hthr
  obtain ⟨hx, hb, hml, hown, hts⟩ := id C0
  have hS : va_S A s.heap s.heap [] := va_S.rf
  have hP : va_P G.1 vwCl (wX G ad ho rn ln dr ro lt rf th sb ++ wR G (ad 1) kd r ++ wR G (ad 2) k1 r1 ++ wR G (ad 3) k2 r2 ++ wK (ad 4)) s.heap := hP
  have hD : va_D A (wX G ad ho rn ln dr ro lt rf th sb ++ wR G (ad 1) kd r ++ wR G (ad 2) k1 r1 ++ wR G (ad 3) k2 r2 ++ wK (ad 4)) := hD
  have hl : lv_has ls 5 [(0, .ref (ad 0 0)), (1, .int 5), (2, .int z0), (3, .int z1), (4, .int z2)] := hl
  have hr0 := hr.n
  have hN := hr.le
  refine lv_iload_n hx hb dX0_ofRoom_0 rfl (lv_at hl 1 rfl) ?_
  refine lv_tableIn (tgt := 79) hx hb dX0_ofRoom_1 (by decide) (by decide) rfl (by decide) ?_
  refine lv_aload_n hx hb dX0_ofRoom_79 rfl (lv_at hl 0 rfl) ?_
  refine y_Vi (wN := fun u_1 => (wX G ad ho rn ln dr ro lt rf th sb ++ wR G (ad 1) kd (pLay r) ++ wR G (ad 2) k1 r1 ++ wR G (ad 3) k2 r2 ++ wK (ad 4))) (wNx := fun u9 => (wX G ad ho rn ln dr ro lt rf th sb ++ wR G (ad 1) kd r ++ wR G (ad 2) k1 r1 ++ wR G (ad 3) k2 r2 ++ wK (ad 4))) ⟨C0, hK, hP, hD, hS, hA⟩ hZ 0 rfl (ci := 0) rfl rfl ((m_layIt l hl0 G ad kd k1 k2 r r1 r2 ho rn ln dr ro lt rf th sb hr hp hk )) (cwV 0 hts (lw_V q751 q753 qs18 q86 q754) rfl rfl rfl (by decide +kernel) ⟨Nat.le_of_ble_eq_true rfl, Nat.le_of_ble_eq_true rfl⟩) [0, 1, 2, 3, 4, 5, 6, 7, 8, 9, 10, 11, 12, 13, 14, 15, 16, 17, 18, 19, 20, 21, 22, 23, 24, 25, 26, 27, 28, 29, 30] [1, 3, 5, 7, 9, 11, 13, 15, 17, 19, 21, 23, 25, 27, 29, 31, 33, 35, 37, 39, 41, 43, 45, 47, 49, 51, 53, 55, 57, 59, 61] [1, 3, 5, 7, 9, 11, 13, 15, 17, 19, 21, 23, 25, 27, 29, 31, 33, 35, 37, 39, 41, 43, 45, 47, 49, 51, 53, 55, 57, 59, 61, 63] rfl (fun _ => rfl) (fun _ _ _ => rfl) rfl rfl rfl hl.1 rfl (Nat.le_of_ble_eq_true rfl) dX0_ofRoom_80 ⟨(Nat.le_of_ble_eq_true rfl), (Nat.le_of_ble_eq_true rfl)⟩ (fun q9 u9 ee H locs hw_1 hP hD hS => ?_) (fun r_1 u_1 H locs hw_1 hP hD hS => ?_)
  · skip
    refine hthr _ _ _ _ _ _ _ q9 () ee ?_ hP hD hS (Nat.le_of_ble_eq_true rfl) (Nat.le_of_ble_eq_true rfl)
    exact hw_1
  · skip
    obtain ⟨hz_1, hw_1⟩ := hw_1
    have hw_1 : (nI (cn (pLyP (pLay r)) (mny r)) : Int32) = r_1 := hw_1.symm
    subst hw_1
    have hP : va_P G.1 vwCl (wX G ad ho rn ln dr ro lt rf th sb ++ wR G (ad 1) kd (pLay r) ++ wR G (ad 2) k1 r1 ++ wR G (ad 3) k2 r2 ++ wK (ad 4)) H := hP
    have hD : va_D A (wX G ad ho rn ln dr ro lt rf th sb ++ wR G (ad 1) kd (pLay r) ++ wR G (ad 2) k1 r1 ++ wR G (ad 3) k2 r2 ++ wK (ad 4)) := hD
    refine W.widen (k := 1) (n := 7) (Nat.le_of_ble_eq_true rfl) (Nat.le_of_ble_eq_true rfl) ?_
    refine hret _ _ _ _ _ _ (nI (cn (pLyP (pLay r)) (mny r))) () dX0_ofRoom_83 ?_ hP hD hS (Nat.le_of_ble_eq_true rfl) (Nat.le_of_ble_eq_true rfl)
    exact ⟨hz_1, rfl⟩
set_option maxHeartbeats 4000000 in
set_option maxRecDepth 100000 in
theorem m_of_6 (l : Launch) (hl0 : l.stackTraces = false) (G : xG) (ad : Nat → Nat → Nat) (kd k1 k2 : Nat → Option Nat) (r r1 r2 : Rw) (ho rn ln dr : Int32) (ro lt rf th sb : Nat → Int32) (hr : Ok r) (hp : r 5 3 = 0) (hk : kOk (ad 4) kd r) (t z0 z1 : Int32) : yCi l G yX0_ofRoom cX0_ofRoom 5 (some .int) ({ frames := 11, cells := 2, slots := 14, locals := 192 } : Room) [.ref (ad 0 0), .int 6, .int t, .int z0, .int z1] (wX G ad ho rn ln dr ro lt rf th sb ++ wR G (ad 1) kd r ++ wR G (ad 2) k1 r1 ++ wR G (ad 3) k2 r2 ++ wK (ad 4)) (S := Unit) (SX := Unit) (fun v _ => eS (tB r t) (-1) (eS (pHow r 1 (ix t)) (-3) 0) = 0 ∧ v = bI (pHeld (pSetUp r (ix t)) (ix t))) (fun _ => (wX G ad ho rn ln dr ro lt rf th sb ++ wR G (ad 1) kd (pSetUp r (ix t)) ++ wR G (ad 2) k1 r1 ++ wR G (ad 3) k2 r2 ++ wK (ad 4))) (fun n _ => n = eS (tB r t) (-1) (eS (pHow r 1 (ix t)) (-3) 0) ∧ eS (tB r t) (-1) (eS (pHow r 1 (ix t)) (-3) 0) ≠ 0) (fun _ => (wX G ad ho rn ln dr ro lt rf th sb ++ wR G (ad 1) kd r ++ wR G (ad 2) k1 r1 ++ wR G (ad 3) k2 r2 ++ wK (ad 4))) := by
  refine y_openi (by decide) (Nat.le_of_ble_eq_true rfl) (fun _ _ _ => rfl) ?_
  intro p e s m args below meth c A Q ls C0 hK hZ hP hD hA hl hret hthr
  obtain ⟨hx, hb, hml, hown, hts⟩ := id C0
  have hS : va_S A s.heap s.heap [] := va_S.rf
  have hP : va_P G.1 vwCl (wX G ad ho rn ln dr ro lt rf th sb ++ wR G (ad 1) kd r ++ wR G (ad 2) k1 r1 ++ wR G (ad 3) k2 r2 ++ wK (ad 4)) s.heap := hP
  have hD : va_D A (wX G ad ho rn ln dr ro lt rf th sb ++ wR G (ad 1) kd r ++ wR G (ad 2) k1 r1 ++ wR G (ad 3) k2 r2 ++ wK (ad 4)) := hD
  have hl : lv_has ls 5 [(0, .ref (ad 0 0)), (1, .int 6), (2, .int t), (3, .int z0), (4, .int z1)] := hl
  have hr0 := hr.n
  have hN := hr.le
  refine lv_iload_n hx hb dX0_ofRoom_0 rfl (lv_at hl 1 rfl) ?_
  refine lv_tableIn (tgt := 84) hx hb dX0_ofRoom_1 (by decide) (by decide) rfl (by decide) ?_
  refine lv_aload_n hx hb dX0_ofRoom_84 rfl (lv_at hl 0 rfl) ?_
  refine lv_iload_n hx hb dX0_ofRoom_85 rfl (lv_at hl 2 rfl) ?_
  refine y_Vi (wN := fun u_1 => (wX G ad ho rn ln dr ro lt rf th sb ++ wR G (ad 1) kd (pSetUp r (ix t)) ++ wR G (ad 2) k1 r1 ++ wR G (ad 3) k2 r2 ++ wK (ad 4))) (wNx := fun u9 => (wX G ad ho rn ln dr ro lt rf th sb ++ wR G (ad 1) kd r ++ wR G (ad 2) k1 r1 ++ wR G (ad 3) k2 r2 ++ wK (ad 4))) ⟨C0, hK, hP, hD, hS, hA⟩ hZ 0 rfl (ci := 0) rfl rfl ((m_setIt l hl0 G ad kd k1 k2 r r1 r2 ho rn ln dr ro lt rf th sb hr hp hk t)) (cwV 1 hts (lw_V q755 q757 qs19 q86 q758) rfl rfl rfl (by decide +kernel) ⟨Nat.le_of_ble_eq_true rfl, Nat.le_of_ble_eq_true rfl⟩) [0, 1, 2, 3, 4, 5, 6, 7, 8, 9, 10, 11, 12, 13, 14, 15, 16, 17, 18, 19, 20, 21, 22, 23, 24, 25, 26, 27, 28, 29, 30] [1, 3, 5, 7, 9, 11, 13, 15, 17, 19, 21, 23, 25, 27, 29, 31, 33, 35, 37, 39, 41, 43, 45, 47, 49, 51, 53, 55, 57, 59, 61] [1, 3, 5, 7, 9, 11, 13, 15, 17, 19, 21, 23, 25, 27, 29, 31, 33, 35, 37, 39, 41, 43, 45, 47, 49, 51, 53, 55, 57, 59, 61, 63] rfl (fun _ => rfl) (fun _ _ _ => rfl) rfl rfl rfl hl.1 rfl (Nat.le_of_ble_eq_true rfl) dX0_ofRoom_86 ⟨(Nat.le_of_ble_eq_true rfl), (Nat.le_of_ble_eq_true rfl)⟩ (fun q9 u9 ee H locs hw_1 hP hD hS => ?_) (fun r_1 u_1 H locs hw_1 hP hD hS => ?_)
  · skip
    refine hthr _ _ _ _ _ _ _ q9 () ee ?_ hP hD hS (Nat.le_of_ble_eq_true rfl) (Nat.le_of_ble_eq_true rfl)
    exact hw_1
  · skip
    obtain ⟨hz_1, hw_1⟩ := hw_1
    have hw_1 : (bI (pHeld (pSetUp r (ix t)) (ix t)) : Int32) = r_1 := hw_1.symm
    subst hw_1
    have hP : va_P G.1 vwCl (wX G ad ho rn ln dr ro lt rf th sb ++ wR G (ad 1) kd (pSetUp r (ix t)) ++ wR G (ad 2) k1 r1 ++ wR G (ad 3) k2 r2 ++ wK (ad 4)) H := hP
    have hD : va_D A (wX G ad ho rn ln dr ro lt rf th sb ++ wR G (ad 1) kd (pSetUp r (ix t)) ++ wR G (ad 2) k1 r1 ++ wR G (ad 3) k2 r2 ++ wK (ad 4)) := hD
    refine W.widen (k := 2) (n := 14) (Nat.le_of_ble_eq_true rfl) (Nat.le_of_ble_eq_true rfl) ?_
    refine hret _ _ _ _ _ _ (bI (pHeld (pSetUp r (ix t)) (ix t))) () dX0_ofRoom_89 ?_ hP hD hS (Nat.le_of_ble_eq_true rfl) (Nat.le_of_ble_eq_true rfl)
    exact ⟨hz_1, rfl⟩
set_option maxHeartbeats 4000000 in
set_option maxRecDepth 100000 in
theorem m_of_7 (l : Launch) (hl0 : l.stackTraces = false) (G : xG) (ad : Nat → Nat → Nat) (kd k1 k2 : Nat → Option Nat) (r r1 r2 : Rw) (ho rn ln dr : Int32) (ro lt rf th sb : Nat → Int32) (hr : Ok r) (hp : r 5 3 = 0) (hk : kOk (ad 4) kd r) (t kc fc : Int32) : yCi l G yX0_ofRoom cX0_ofRoom 5 (some .int) ({ frames := 11, cells := 4, slots := 28, locals := 195 } : Room) [.ref (ad 0 0), .int 7, .int t, .int kc, .int fc] (wX G ad ho rn ln dr ro lt rf th sb ++ wR G (ad 1) kd r ++ wR G (ad 2) k1 r1 ++ wR G (ad 3) k2 r2 ++ wK (ad 4)) (S := Unit) (SX := Unit) (fun v _ => eS (tB r t) (-1) (eS (inR kc 0 5) (-2) (eW (wBy fc.toInt 0 9) 0)) = 0 ∧ v = 10 * r 0 (ix t) + r 1 (ix t)) (fun _ => (wX G ad ho rn ln dr ro lt rf th sb ++ wR G (ad 1) (va_up kd (ix t) (some ((ad 4) (ix kc)))) (pTurn r (ix t) (ix kc) (ix fc)) ++ wR G (ad 2) k1 r1 ++ wR G (ad 3) k2 r2 ++ wK (ad 4))) (fun n _ => n = eS (tB r t) (-1) (eS (inR kc 0 5) (-2) (eW (wBy fc.toInt 0 9) 0)) ∧ eS (tB r t) (-1) (eS (inR kc 0 5) (-2) (eW (wBy fc.toInt 0 9) 0)) ≠ 0) (fun _ => (wX G ad ho rn ln dr ro lt rf th sb ++ wR G (ad 1) kd r ++ wR G (ad 2) k1 r1 ++ wR G (ad 3) k2 r2 ++ wK (ad 4))) := by
  refine y_openi (by decide) (Nat.le_of_ble_eq_true rfl) (fun _ _ _ => rfl) ?_
  intro p e s m args below meth c A Q ls C0 hK hZ hP hD hA hl hret hthr
  obtain ⟨hx, hb, hml, hown, hts⟩ := id C0
  have hS : va_S A s.heap s.heap [] := va_S.rf
  have hP : va_P G.1 vwCl (wX G ad ho rn ln dr ro lt rf th sb ++ wR G (ad 1) kd r ++ wR G (ad 2) k1 r1 ++ wR G (ad 3) k2 r2 ++ wK (ad 4)) s.heap := hP
  have hD : va_D A (wX G ad ho rn ln dr ro lt rf th sb ++ wR G (ad 1) kd r ++ wR G (ad 2) k1 r1 ++ wR G (ad 3) k2 r2 ++ wK (ad 4)) := hD
  have hl : lv_has ls 5 [(0, .ref (ad 0 0)), (1, .int 7), (2, .int t), (3, .int kc), (4, .int fc)] := hl
  have hr0 := hr.n
  have hN := hr.le
  refine lv_iload_n hx hb dX0_ofRoom_0 rfl (lv_at hl 1 rfl) ?_
  refine lv_tableIn (tgt := 90) hx hb dX0_ofRoom_1 (by decide) (by decide) rfl (by decide) ?_
  refine lv_aload_n hx hb dX0_ofRoom_90 rfl (lv_at hl 0 rfl) ?_
  refine lv_iload_n hx hb dX0_ofRoom_91 rfl (lv_at hl 2 rfl) ?_
  refine lv_iload_n hx hb dX0_ofRoom_92 rfl (lv_at hl 3 rfl) ?_
  refine lv_iload hx hb dX0_ofRoom_93 (lv_at hl 4 rfl) ?_
  refine y_Vi (wN := fun u_1 => (wX G ad ho rn ln dr ro lt rf th sb ++ wR G (ad 1) (va_up kd (ix t) (some ((ad 4) (ix kc)))) (pTurn r (ix t) (ix kc) (ix fc)) ++ wR G (ad 2) k1 r1 ++ wR G (ad 3) k2 r2 ++ wK (ad 4))) (wNx := fun u9 => (wX G ad ho rn ln dr ro lt rf th sb ++ wR G (ad 1) kd r ++ wR G (ad 2) k1 r1 ++ wR G (ad 3) k2 r2 ++ wK (ad 4))) ⟨C0, hK, hP, hD, hS, hA⟩ hZ 0 rfl (ci := 0) rfl rfl ((m_turnIt l hl0 G ad kd k1 k2 r r1 r2 ho rn ln dr ro lt rf th sb hr hp hk t kc fc)) (cwV 3 hts (lw_V q760 q762 qs20 q86 q763) rfl rfl rfl (by decide +kernel) ⟨Nat.le_of_ble_eq_true rfl, Nat.le_of_ble_eq_true rfl⟩) [0, 1, 2, 3, 4, 5, 6, 7, 8, 9, 10, 11, 12, 13, 14, 15, 16, 17, 18, 19, 20, 21, 22, 23, 24, 25, 26, 27, 28, 29, 30] [1, 3, 5, 7, 9, 11, 13, 15, 17, 19, 21, 23, 25, 27, 29, 31, 33, 35, 37, 39, 41, 43, 45, 47, 49, 51, 53, 55, 57, 59, 61] [1, 3, 5, 7, 9, 11, 13, 15, 17, 19, 21, 23, 25, 27, 29, 31, 33, 35, 37, 39, 41, 43, 45, 47, 49, 51, 53, 55, 57, 59, 61, 63] rfl (fun _ => rfl) (fun _ _ _ => rfl) rfl rfl rfl hl.1 rfl (Nat.le_of_ble_eq_true rfl) dX0_ofRoom_95 ⟨(Nat.le_of_ble_eq_true rfl), (Nat.le_of_ble_eq_true rfl)⟩ (fun q9 u9 ee H locs hw_1 hP hD hS => ?_) (fun r_1 u_1 H locs hw_1 hP hD hS => ?_)
  · skip
    refine hthr _ _ _ _ _ _ _ q9 () ee ?_ hP hD hS (Nat.le_of_ble_eq_true rfl) (Nat.le_of_ble_eq_true rfl)
    exact hw_1
  · skip
    obtain ⟨hz_1, hw_1⟩ := hw_1
    have hw_1 : (10 * r 0 (ix t) + r 1 (ix t) : Int32) = r_1 := hw_1.symm
    subst hw_1
    have hP : va_P G.1 vwCl (wX G ad ho rn ln dr ro lt rf th sb ++ wR G (ad 1) (va_up kd (ix t) (some ((ad 4) (ix kc)))) (pTurn r (ix t) (ix kc) (ix fc)) ++ wR G (ad 2) k1 r1 ++ wR G (ad 3) k2 r2 ++ wK (ad 4)) H := hP
    have hD : va_D A (wX G ad ho rn ln dr ro lt rf th sb ++ wR G (ad 1) (va_up kd (ix t) (some ((ad 4) (ix kc)))) (pTurn r (ix t) (ix kc) (ix fc)) ++ wR G (ad 2) k1 r1 ++ wR G (ad 3) k2 r2 ++ wK (ad 4)) := hD
    refine W.widen (k := 4) (n := 28) (Nat.le_of_ble_eq_true rfl) (Nat.le_of_ble_eq_true rfl) ?_
    refine hret _ _ _ _ _ _ (10 * r 0 (ix t) + r 1 (ix t)) () dX0_ofRoom_98 ?_ hP hD hS (Nat.le_of_ble_eq_true rfl) (Nat.le_of_ble_eq_true rfl)
    exact ⟨hz_1, rfl⟩
set_option maxHeartbeats 4000000 in
set_option maxRecDepth 100000 in
theorem m_of_8 (l : Launch) (hl0 : l.stackTraces = false) (G : xG) (ad : Nat → Nat → Nat) (kd k1 k2 : Nat → Option Nat) (r r1 r2 : Rw) (ho rn ln dr : Int32) (ro lt rf th sb : Nat → Int32) (hr : Ok r) (hp : r 5 3 = 0) (hk : kOk (ad 4) kd r) (mi z0 z1 : Int32) : yCi l G yX0_ofRoom cX0_ofRoom 5 (some .int) ({ frames := 10, cells := 3, slots := 21, locals := 175 } : Room) [.ref (ad 0 0), .int 8, .int mi, .int z0, .int z1] (wX G ad ho rn ln dr ro lt rf th sb ++ wR G (ad 1) kd r ++ wR G (ad 2) k1 r1 ++ wR G (ad 3) k2 r2 ++ wK (ad 4)) (S := Unit) (SX := Unit) (fun v _ => eW (wBy mi.toInt 1 60) (eS (decide (r 5 1 + mi ≤ 999)) (-6) 0) = 0 ∧ v = pStN (pMins r (ix mi))) (fun _ => (wX G ad ho rn ln dr ro lt rf th sb ++ wR G (ad 1) kd (pMins r (ix mi)) ++ wR G (ad 2) k1 r1 ++ wR G (ad 3) k2 r2 ++ wK (ad 4))) (fun n _ => n = eW (wBy mi.toInt 1 60) (eS (decide (r 5 1 + mi ≤ 999)) (-6) 0) ∧ eW (wBy mi.toInt 1 60) (eS (decide (r 5 1 + mi ≤ 999)) (-6) 0) ≠ 0) (fun _ => (wX G ad ho rn ln dr ro lt rf th sb ++ wR G (ad 1) kd r ++ wR G (ad 2) k1 r1 ++ wR G (ad 3) k2 r2 ++ wK (ad 4))) := by
  refine y_openi (by decide) (Nat.le_of_ble_eq_true rfl) (fun _ _ _ => rfl) ?_
  intro p e s m args below meth c A Q ls C0 hK hZ hP hD hA hl hret hthr
  obtain ⟨hx, hb, hml, hown, hts⟩ := id C0
  have hS : va_S A s.heap s.heap [] := va_S.rf
  have hP : va_P G.1 vwCl (wX G ad ho rn ln dr ro lt rf th sb ++ wR G (ad 1) kd r ++ wR G (ad 2) k1 r1 ++ wR G (ad 3) k2 r2 ++ wK (ad 4)) s.heap := hP
  have hD : va_D A (wX G ad ho rn ln dr ro lt rf th sb ++ wR G (ad 1) kd r ++ wR G (ad 2) k1 r1 ++ wR G (ad 3) k2 r2 ++ wK (ad 4)) := hD
  have hl : lv_has ls 5 [(0, .ref (ad 0 0)), (1, .int 8), (2, .int mi), (3, .int z0), (4, .int z1)] := hl
  have hr0 := hr.n
  have hN := hr.le
  refine lv_iload_n hx hb dX0_ofRoom_0 rfl (lv_at hl 1 rfl) ?_
  refine lv_tableOut (tgt := 99) hx hb dX0_ofRoom_1 (by decide) (by decide) ?_
  refine lv_aload_n hx hb dX0_ofRoom_99 rfl (lv_at hl 0 rfl) ?_
  refine lv_iload_n hx hb dX0_ofRoom_100 rfl (lv_at hl 2 rfl) ?_
  refine y_Vi (wN := fun u_1 => (wX G ad ho rn ln dr ro lt rf th sb ++ wR G (ad 1) kd (pMins r (ix mi)) ++ wR G (ad 2) k1 r1 ++ wR G (ad 3) k2 r2 ++ wK (ad 4))) (wNx := fun u9 => (wX G ad ho rn ln dr ro lt rf th sb ++ wR G (ad 1) kd r ++ wR G (ad 2) k1 r1 ++ wR G (ad 3) k2 r2 ++ wK (ad 4))) ⟨C0, hK, hP, hD, hS, hA⟩ hZ 0 rfl (ci := 0) rfl rfl ((m_minutesIt l hl0 G ad kd k1 k2 r r1 r2 ho rn ln dr ro lt rf th sb hr hp hk mi)) (cwV 1 hts (lw_V q765 q767 qs21 q86 q768) rfl rfl rfl (by decide +kernel) ⟨Nat.le_of_ble_eq_true rfl, Nat.le_of_ble_eq_true rfl⟩) [0, 1, 2, 3, 4, 5, 6, 7, 8, 9, 10, 11, 12, 13, 14, 15, 16, 17, 18, 19, 20, 21, 22, 23, 24, 25, 26, 27, 28, 29, 30] [1, 3, 5, 7, 9, 11, 13, 15, 17, 19, 21, 23, 25, 27, 29, 31, 33, 35, 37, 39, 41, 43, 45, 47, 49, 51, 53, 55, 57, 59, 61] [1, 3, 5, 7, 9, 11, 13, 15, 17, 19, 21, 23, 25, 27, 29, 31, 33, 35, 37, 39, 41, 43, 45, 47, 49, 51, 53, 55, 57, 59, 61, 63] rfl (fun _ => rfl) (fun _ _ _ => rfl) rfl rfl rfl hl.1 rfl (Nat.le_of_ble_eq_true rfl) dX0_ofRoom_101 ⟨(Nat.le_of_ble_eq_true rfl), (Nat.le_of_ble_eq_true rfl)⟩ (fun q9 u9 ee H locs hw_1 hP hD hS => ?_) (fun r_1 u_1 H locs hw_1 hP hD hS => ?_)
  · skip
    refine hthr _ _ _ _ _ _ _ q9 () ee ?_ hP hD hS (Nat.le_of_ble_eq_true rfl) (Nat.le_of_ble_eq_true rfl)
    exact hw_1
  · skip
    obtain ⟨hz_1, hw_1⟩ := hw_1
    have hw_1 : (pStN (pMins r (ix mi)) : Int32) = r_1 := hw_1.symm
    subst hw_1
    have hP : va_P G.1 vwCl (wX G ad ho rn ln dr ro lt rf th sb ++ wR G (ad 1) kd (pMins r (ix mi)) ++ wR G (ad 2) k1 r1 ++ wR G (ad 3) k2 r2 ++ wK (ad 4)) H := hP
    have hD : va_D A (wX G ad ho rn ln dr ro lt rf th sb ++ wR G (ad 1) kd (pMins r (ix mi)) ++ wR G (ad 2) k1 r1 ++ wR G (ad 3) k2 r2 ++ wK (ad 4)) := hD
    refine W.widen (k := 3) (n := 21) (Nat.le_of_ble_eq_true rfl) (Nat.le_of_ble_eq_true rfl) ?_
    refine hret _ _ _ _ _ _ (pStN (pMins r (ix mi))) () dX0_ofRoom_104 ?_ hP hD hS (Nat.le_of_ble_eq_true rfl) (Nat.le_of_ble_eq_true rfl)
    exact ⟨hz_1, rfl⟩
set_option maxHeartbeats 4000000 in
set_option maxRecDepth 100000 in
theorem m_of_9 (l : Launch) (hl0 : l.stackTraces = false) (G : xG) (ad : Nat → Nat → Nat) (kd k1 k2 : Nat → Option Nat) (r r1 r2 : Rw) (ho rn ln dr : Int32) (ro lt rf th sb : Nat → Int32) (hr : Ok r) (hp : r 5 3 = 0) (hk : kOk (ad 4) kd r) (t mi w : Int32) : yCi l G yX0_ofMinutes cX0_ofMinutes 5 (some .int) ({ frames := 11, cells := 4, slots := 28, locals := 198 } : Room) [.ref (ad 0 0), .int 9, .int t, .int mi, .int w] (wX G ad ho rn ln dr ro lt rf th sb ++ wR G (ad 1) kd r ++ wR G (ad 2) k1 r1 ++ wR G (ad 3) k2 r2 ++ wK (ad 4)) (S := ((Nat → Option Nat) × Rw)) (SX := Unit) (fun v u => eS (tB r t) (-1) (eW (wBy mi.toInt 0 99) (eS (inR w 0 2) (-2) 0)) = 0 ∧ v = pBeh r (ix t) (ix mi) w) (fun u => (wX G ad ho rn ln dr ro lt rf th sb ++ wR G (ad 1) kd r ++ wR G (ad 2) u.1 u.2 ++ wR G (ad 3) k2 r2 ++ wK (ad 4))) (fun n _ => n = eS (tB r t) (-1) (eW (wBy mi.toInt 0 99) (eS (inR w 0 2) (-2) 0)) ∧ eS (tB r t) (-1) (eW (wBy mi.toInt 0 99) (eS (inR w 0 2) (-2) 0)) ≠ 0) (fun _ => (wX G ad ho rn ln dr ro lt rf th sb ++ wR G (ad 1) kd r ++ wR G (ad 2) k1 r1 ++ wR G (ad 3) k2 r2 ++ wK (ad 4))) := by
  refine y_openi (by decide) (Nat.le_of_ble_eq_true rfl) (fun _ _ _ => rfl) ?_
  intro p e s m args below meth c A Q ls C0 hK hZ hP hD hA hl hret hthr
  obtain ⟨hx, hb, hml, hown, hts⟩ := id C0
  have hS : va_S A s.heap s.heap [] := va_S.rf
  have hP : va_P G.1 vwCl (wX G ad ho rn ln dr ro lt rf th sb ++ wR G (ad 1) kd r ++ wR G (ad 2) k1 r1 ++ wR G (ad 3) k2 r2 ++ wK (ad 4)) s.heap := hP
  have hD : va_D A (wX G ad ho rn ln dr ro lt rf th sb ++ wR G (ad 1) kd r ++ wR G (ad 2) k1 r1 ++ wR G (ad 3) k2 r2 ++ wK (ad 4)) := hD
  have hl : lv_has ls 5 [(0, .ref (ad 0 0)), (1, .int 9), (2, .int t), (3, .int mi), (4, .int w)] := hl
  have hr0 := hr.n
  have hN := hr.le
  refine lv_iload_n hx hb dX0_ofMinutes_0 rfl (lv_at hl 1 rfl) ?_
  refine lv_tableIn (tgt := 48) hx hb dX0_ofMinutes_1 (by decide) (by decide) rfl (by decide) ?_
  refine lv_aload_n hx hb dX0_ofMinutes_48 rfl (lv_at hl 0 rfl) ?_
  refine lv_iload_n hx hb dX0_ofMinutes_49 rfl (lv_at hl 2 rfl) ?_
  refine lv_iload_n hx hb dX0_ofMinutes_50 rfl (lv_at hl 3 rfl) ?_
  refine lv_iload hx hb dX0_ofMinutes_51 (lv_at hl 4 rfl) ?_
  refine y_Vi (wN := fun u_1 => (wX G ad ho rn ln dr ro lt rf th sb ++ wR G (ad 1) kd r ++ wR G (ad 2) u_1.1 u_1.2 ++ wR G (ad 3) k2 r2 ++ wK (ad 4))) (wNx := fun u9 => (wX G ad ho rn ln dr ro lt rf th sb ++ wR G (ad 1) kd r ++ wR G (ad 2) k1 r1 ++ wR G (ad 3) k2 r2 ++ wK (ad 4))) ⟨C0, hK, hP, hD, hS, hA⟩ hZ 0 rfl (ci := 0) rfl rfl ((m_behindTold l hl0 G ad kd k1 k2 r r1 r2 ho rn ln dr ro lt rf th sb hr hp hk t mi w)) (cwV 3 hts (lw_V q782 q784 qs23 q86 q785) rfl rfl rfl (by decide +kernel) ⟨Nat.le_of_ble_eq_true rfl, Nat.le_of_ble_eq_true rfl⟩) [0, 1, 2, 3, 4, 5, 6, 7, 8, 9, 10, 11, 12, 13, 14, 15, 16, 17, 18, 19, 20, 21, 22, 23, 24, 25, 26, 27, 28, 29, 30] [1, 3, 5, 7, 9, 11, 13, 15, 17, 19, 21, 23, 25, 27, 29, 31, 33, 35, 37, 39, 41, 43, 45, 47, 49, 51, 53, 55, 57, 59, 61] [1, 3, 5, 7, 9, 11, 13, 15, 17, 19, 21, 23, 25, 27, 29, 31, 33, 35, 37, 39, 41, 43, 45, 47, 49, 51, 53, 55, 57, 59, 61, 63] rfl (fun _ => rfl) (fun _ _ _ => rfl) rfl rfl rfl hl.1 rfl (Nat.le_of_ble_eq_true rfl) dX0_ofMinutes_53 ⟨(Nat.le_of_ble_eq_true rfl), (Nat.le_of_ble_eq_true rfl)⟩ (fun q9 u9 ee H locs hw_1 hP hD hS => ?_) (fun r_1 u_1 H locs hw_1 hP hD hS => ?_)
  · skip
    refine hthr _ _ _ _ _ _ _ q9 () ee ?_ hP hD hS (Nat.le_of_ble_eq_true rfl) (Nat.le_of_ble_eq_true rfl)
    exact hw_1
  · skip
    obtain ⟨hz_1, hw_1⟩ := hw_1
    have hw_1 : (pBeh r (ix t) (ix mi) w : Int32) = r_1 := hw_1.symm
    subst hw_1
    have hP : va_P G.1 vwCl (wX G ad ho rn ln dr ro lt rf th sb ++ wR G (ad 1) kd r ++ wR G (ad 2) u_1.1 u_1.2 ++ wR G (ad 3) k2 r2 ++ wK (ad 4)) H := hP
    have hD : va_D A (wX G ad ho rn ln dr ro lt rf th sb ++ wR G (ad 1) kd r ++ wR G (ad 2) u_1.1 u_1.2 ++ wR G (ad 3) k2 r2 ++ wK (ad 4)) := hD
    refine W.widen (k := 4) (n := 28) (Nat.le_of_ble_eq_true rfl) (Nat.le_of_ble_eq_true rfl) ?_
    refine hret _ _ _ _ _ _ (pBeh r (ix t) (ix mi) w) (u_1.1, u_1.2) dX0_ofMinutes_56 ?_ hP hD hS (Nat.le_of_ble_eq_true rfl) (Nat.le_of_ble_eq_true rfl)
    exact ⟨hz_1, rfl⟩
set_option maxHeartbeats 4000000 in
set_option maxRecDepth 100000 in
theorem m_of_10 (l : Launch) (hl0 : l.stackTraces = false) (G : xG) (ad : Nat → Nat → Nat) (kd k1 k2 : Nat → Option Nat) (r r1 r2 : Rw) (ho rn ln dr : Int32) (ro lt rf th sb : Nat → Int32) (hr : Ok r) (hp : r 5 3 = 0) (hk : kOk (ad 4) kd r) (t z0 z1 : Int32) : yCi l G yX0_ofMinutes cX0_ofMinutes 5 (some .int) ({ frames := 11, cells := 1, slots := 7, locals := 193 } : Room) [.ref (ad 0 0), .int 10, .int t, .int z0, .int z1] (wX G ad ho rn ln dr ro lt rf th sb ++ wR G (ad 1) kd r ++ wR G (ad 2) k1 r1 ++ wR G (ad 3) k2 r2 ++ wK (ad 4)) (S := ((Nat → Option Nat) × Rw)) (SX := Unit) (fun v u => eS (tB r t) (-1) 0 = 0 ∧ v = pFls r (ix t)) (fun u => (wX G ad ho rn ln dr ro lt rf th sb ++ wR G (ad 1) kd r ++ wR G (ad 2) u.1 u.2 ++ wR G (ad 3) k2 r2 ++ wK (ad 4))) (fun n _ => n = eS (tB r t) (-1) 0 ∧ eS (tB r t) (-1) 0 ≠ 0) (fun _ => (wX G ad ho rn ln dr ro lt rf th sb ++ wR G (ad 1) kd r ++ wR G (ad 2) k1 r1 ++ wR G (ad 3) k2 r2 ++ wK (ad 4))) := by
  refine y_openi (by decide) (Nat.le_of_ble_eq_true rfl) (fun _ _ _ => rfl) ?_
  intro p e s m args below meth c A Q ls C0 hK hZ hP hD hA hl hret hthr
  obtain ⟨hx, hb, hml, hown, hts⟩ := id C0
  have hS : va_S A s.heap s.heap [] := va_S.rf
  have hP : va_P G.1 vwCl (wX G ad ho rn ln dr ro lt rf th sb ++ wR G (ad 1) kd r ++ wR G (ad 2) k1 r1 ++ wR G (ad 3) k2 r2 ++ wK (ad 4)) s.heap := hP
  have hD : va_D A (wX G ad ho rn ln dr ro lt rf th sb ++ wR G (ad 1) kd r ++ wR G (ad 2) k1 r1 ++ wR G (ad 3) k2 r2 ++ wK (ad 4)) := hD
  have hl : lv_has ls 5 [(0, .ref (ad 0 0)), (1, .int 10), (2, .int t), (3, .int z0), (4, .int z1)] := hl
  have hr0 := hr.n
  have hN := hr.le
  refine lv_iload_n hx hb dX0_ofMinutes_0 rfl (lv_at hl 1 rfl) ?_
  refine lv_tableIn (tgt := 57) hx hb dX0_ofMinutes_1 (by decide) (by decide) rfl (by decide) ?_
  refine lv_aload_n hx hb dX0_ofMinutes_57 rfl (lv_at hl 0 rfl) ?_
  refine lv_iload_n hx hb dX0_ofMinutes_58 rfl (lv_at hl 2 rfl) ?_
  refine y_Vi (wN := fun u_1 => (wX G ad ho rn ln dr ro lt rf th sb ++ wR G (ad 1) kd r ++ wR G (ad 2) u_1.1 u_1.2 ++ wR G (ad 3) k2 r2 ++ wK (ad 4))) (wNx := fun u9 => (wX G ad ho rn ln dr ro lt rf th sb ++ wR G (ad 1) kd r ++ wR G (ad 2) k1 r1 ++ wR G (ad 3) k2 r2 ++ wK (ad 4))) ⟨C0, hK, hP, hD, hS, hA⟩ hZ 0 rfl (ci := 0) rfl rfl ((m_fallsTold l hl0 G ad kd k1 k2 r r1 r2 ho rn ln dr ro lt rf th sb hr hp hk t)) (cwV 1 hts (lw_V q799 q801 qs26 q86 q802) rfl rfl rfl (by decide +kernel) ⟨Nat.le_of_ble_eq_true rfl, Nat.le_of_ble_eq_true rfl⟩) [0, 1, 2, 3, 4, 5, 6, 7, 8, 9, 10, 11, 12, 13, 14, 15, 16, 17, 18, 19, 20, 21, 22, 23, 24, 25, 26, 27, 28, 29, 30] [1, 3, 5, 7, 9, 11, 13, 15, 17, 19, 21, 23, 25, 27, 29, 31, 33, 35, 37, 39, 41, 43, 45, 47, 49, 51, 53, 55, 57, 59, 61] [1, 3, 5, 7, 9, 11, 13, 15, 17, 19, 21, 23, 25, 27, 29, 31, 33, 35, 37, 39, 41, 43, 45, 47, 49, 51, 53, 55, 57, 59, 61, 63] rfl (fun _ => rfl) (fun _ _ _ => rfl) rfl rfl rfl hl.1 rfl (Nat.le_of_ble_eq_true rfl) dX0_ofMinutes_59 ⟨(Nat.le_of_ble_eq_true rfl), (Nat.le_of_ble_eq_true rfl)⟩ (fun q9 u9 ee H locs hw_1 hP hD hS => ?_) (fun r_1 u_1 H locs hw_1 hP hD hS => ?_)
  · skip
    refine hthr _ _ _ _ _ _ _ q9 () ee ?_ hP hD hS (Nat.le_of_ble_eq_true rfl) (Nat.le_of_ble_eq_true rfl)
    exact hw_1
  · skip
    obtain ⟨hz_1, hw_1⟩ := hw_1
    have hw_1 : (pFls r (ix t) : Int32) = r_1 := hw_1.symm
    subst hw_1
    have hP : va_P G.1 vwCl (wX G ad ho rn ln dr ro lt rf th sb ++ wR G (ad 1) kd r ++ wR G (ad 2) u_1.1 u_1.2 ++ wR G (ad 3) k2 r2 ++ wK (ad 4)) H := hP
    have hD : va_D A (wX G ad ho rn ln dr ro lt rf th sb ++ wR G (ad 1) kd r ++ wR G (ad 2) u_1.1 u_1.2 ++ wR G (ad 3) k2 r2 ++ wK (ad 4)) := hD
    refine W.widen (k := 1) (n := 7) (Nat.le_of_ble_eq_true rfl) (Nat.le_of_ble_eq_true rfl) ?_
    refine hret _ _ _ _ _ _ (pFls r (ix t)) (u_1.1, u_1.2) dX0_ofMinutes_62 ?_ hP hD hS (Nat.le_of_ble_eq_true rfl) (Nat.le_of_ble_eq_true rfl)
    exact ⟨hz_1, rfl⟩
set_option maxHeartbeats 4000000 in
set_option maxRecDepth 100000 in
theorem m_of_11 (l : Launch) (hl0 : l.stackTraces = false) (G : xG) (ad : Nat → Nat → Nat) (kd k1 k2 : Nat → Option Nat) (r r1 r2 : Rw) (ho rn ln dr : Int32) (ro lt rf th sb : Nat → Int32) (hr : Ok r) (hp : r 5 3 = 0) (hk : kOk (ad 4) kd r) (t z0 z1 : Int32) : yCi l G yX0_ofMinutes cX0_ofMinutes 5 (some .int) ({ frames := 9, cells := 1, slots := 7, locals := 149 } : Room) [.ref (ad 0 0), .int 11, .int t, .int z0, .int z1] (wX G ad ho rn ln dr ro lt rf th sb ++ wR G (ad 1) kd r ++ wR G (ad 2) k1 r1 ++ wR G (ad 3) k2 r2 ++ wK (ad 4)) (S := ((Nat → Option Nat) × Rw)) (SX := Unit) (fun v u => eS (inR t 0 1) (-2) 0 = 0 ∧ v = pFF r t) (fun u => (wX G ad ho rn ln dr ro lt rf th sb ++ wR G (ad 1) kd r ++ wR G (ad 2) u.1 u.2 ++ wR G (ad 3) k2 r2 ++ wK (ad 4))) (fun n _ => n = eS (inR t 0 1) (-2) 0 ∧ eS (inR t 0 1) (-2) 0 ≠ 0) (fun _ => (wX G ad ho rn ln dr ro lt rf th sb ++ wR G (ad 1) kd r ++ wR G (ad 2) k1 r1 ++ wR G (ad 3) k2 r2 ++ wK (ad 4))) := by
  refine y_openi (by decide) (Nat.le_of_ble_eq_true rfl) (fun _ _ _ => rfl) ?_
  intro p e s m args below meth c A Q ls C0 hK hZ hP hD hA hl hret hthr
  obtain ⟨hx, hb, hml, hown, hts⟩ := id C0
  have hS : va_S A s.heap s.heap [] := va_S.rf
  have hP : va_P G.1 vwCl (wX G ad ho rn ln dr ro lt rf th sb ++ wR G (ad 1) kd r ++ wR G (ad 2) k1 r1 ++ wR G (ad 3) k2 r2 ++ wK (ad 4)) s.heap := hP
  have hD : va_D A (wX G ad ho rn ln dr ro lt rf th sb ++ wR G (ad 1) kd r ++ wR G (ad 2) k1 r1 ++ wR G (ad 3) k2 r2 ++ wK (ad 4)) := hD
  have hl : lv_has ls 5 [(0, .ref (ad 0 0)), (1, .int 11), (2, .int t), (3, .int z0), (4, .int z1)] := hl
  have hr0 := hr.n
  have hN := hr.le
  refine lv_iload_n hx hb dX0_ofMinutes_0 rfl (lv_at hl 1 rfl) ?_
  refine lv_tableIn (tgt := 63) hx hb dX0_ofMinutes_1 (by decide) (by decide) rfl (by decide) ?_
  refine lv_iload_n hx hb dX0_ofMinutes_63 rfl (lv_at hl 2 rfl) ?_
  refine y_Sv (wN := fun _ => (wX G ad ho rn ln dr ro lt rf th sb ++ wR G (ad 1) kd r ++ wR G (ad 2) k1 r1 ++ wR G (ad 3) k2 r2 ++ wK (ad 4))) (wNx := fun u9 => (wX G ad ho rn ln dr ro lt rf th sb ++ wR G (ad 1) kd r ++ wR G (ad 2) k1 r1 ++ wR G (ad 3) k2 r2 ++ wK (ad 4))) ⟨C0, hK, hP, hD, hS, hA⟩ hZ ((m_mustBeBit l hl0 G t)) (va_cwS 1 hts (lw_S q808 q809 q86 q810) rfl rfl rfl (by decide +kernel) ⟨Nat.le_of_ble_eq_true rfl, Nat.le_of_ble_eq_true rfl⟩) [] [0, 2, 4, 6, 8, 10, 12, 14, 16, 18, 20, 22, 24, 26, 28, 30, 32, 34, 36, 38, 40, 42, 44, 46, 48, 50, 52, 54, 56, 58, 60] [0, 2, 4, 6, 8, 10, 12, 14, 16, 18, 20, 22, 24, 26, 28, 30, 32, 34, 36, 38, 40, 42, 44, 46, 48, 50, 52, 54, 56, 58, 60, 1] rfl (fun _ => rfl) (fun _ _ _ => rfl) rfl rfl rfl hl.1 rfl (Nat.le_of_ble_eq_true rfl) dX0_ofMinutes_64 ⟨(Nat.le_of_ble_eq_true rfl), (Nat.le_of_ble_eq_true rfl)⟩ (fun q9 u9 ee H locs hw_1 hP hD hS => ?_) (fun u_1 H locs hw_1 hP hD hS => ?_)
  · skip
    refine hthr _ _ _ _ _ _ _ q9 () ee ?_ hP hD hS (Nat.le_of_ble_eq_true rfl) (Nat.le_of_ble_eq_true rfl)
    obtain ⟨h8, h9⟩ := hw_1
    have e9 : eS (inR t 0 1) (-2) 0 = ee.2.1 := by rw [eS_f h8]; exact h9.symm
    exact ⟨e9.symm, by rw [e9, h9]; decide⟩
  · skip
    refine W.widen (k := 1) (n := 7) (Nat.le_of_ble_eq_true rfl) (Nat.le_of_ble_eq_true rfl) ?_
    refine lv_aload_n hx hb dX0_ofMinutes_67 rfl (lv_at hl 0 rfl) ?_
    refine lv_iload_n hx hb dX0_ofMinutes_68 rfl (lv_at hl 2 rfl) ?_
    refine x_Vi (wN := fun u_2 => (wX G ad ho rn ln dr ro lt rf th sb ++ wR G (ad 1) kd r ++ wR G (ad 2) u_2.1 u_2.2 ++ wR G (ad 3) k2 r2 ++ wK (ad 4))) ⟨C0, hK, hP, hD, hS, hA⟩ 0 rfl (ci := 0) rfl rfl ((m_firstFall l G ad kd k1 k2 r r1 r2 ho rn ln dr ro lt rf th sb hr hp hk t)) (cwV 1 hts (lw_V q811 q813 qs28 q86 q814) rfl rfl rfl (by decide +kernel) ⟨Nat.le_of_ble_eq_true rfl, Nat.le_of_ble_eq_true rfl⟩) [0, 1, 2, 3, 4, 5, 6, 7, 8, 9, 10, 11, 12, 13, 14, 15, 16, 17, 18, 19, 20, 21, 22, 23, 24, 25, 26, 27, 28, 29, 30] [1, 3, 5, 7, 9, 11, 13, 15, 17, 19, 21, 23, 25, 27, 29, 31, 33, 35, 37, 39, 41, 43, 45, 47, 49, 51, 53, 55, 57, 59, 61] rfl (fun _ => rfl) rfl rfl hl.1 rfl (Nat.le_of_ble_eq_true rfl) dX0_ofMinutes_69 ⟨(Nat.le_of_ble_eq_true rfl), (Nat.le_of_ble_eq_true rfl)⟩ (fun r_2 u_2 H locs hw_2 hP hD hS => ?_)
    have hw_2 : (pFF r t : Int32) = r_2 := hw_2.symm
    subst hw_2
    have hP : va_P G.1 vwCl (wX G ad ho rn ln dr ro lt rf th sb ++ wR G (ad 1) kd r ++ wR G (ad 2) u_2.1 u_2.2 ++ wR G (ad 3) k2 r2 ++ wK (ad 4)) H := hP
    have hD : va_D A (wX G ad ho rn ln dr ro lt rf th sb ++ wR G (ad 1) kd r ++ wR G (ad 2) u_2.1 u_2.2 ++ wR G (ad 3) k2 r2 ++ wK (ad 4)) := hD
    refine hret _ _ _ _ _ _ (pFF r t) (u_2.1, u_2.2) dX0_ofMinutes_72 ?_ hP hD hS (Nat.le_of_ble_eq_true rfl) (Nat.le_of_ble_eq_true rfl)
    refine ⟨by rw [eS_t hw_1], ?_⟩
    exact rfl
set_option maxHeartbeats 4000000 in
set_option maxRecDepth 100000 in
theorem m_of_12 (l : Launch) (hl0 : l.stackTraces = false) (G : xG) (ad : Nat → Nat → Nat) (kd k1 k2 : Nat → Option Nat) (r r1 r2 : Rw) (ho rn ln dr : Int32) (ro lt rf th sb : Nat → Int32) (hr : Ok r) (hp : r 5 3 = 0) (hk : kOk (ad 4) kd r) (z0 z1 z2 : Int32) : yCi l G yX0_ofMinutes cX0_ofMinutes 5 (some .int) ({ frames := 7, cells := 0, slots := 0, locals := 168 } : Room) [.ref (ad 0 0), .int 12, .int z0, .int z1, .int z2] (wX G ad ho rn ln dr ro lt rf th sb ++ wR G (ad 1) kd r ++ wR G (ad 2) k1 r1 ++ wR G (ad 3) k2 r2 ++ wK (ad 4)) (S := ((Nat → Option Nat) × Rw)) (SX := Unit) (fun v u => (0 : Int32) = 0 ∧ v = pSF r) (fun u => (wX G ad ho rn ln dr ro lt rf th sb ++ wR G (ad 1) kd r ++ wR G (ad 2) u.1 u.2 ++ wR G (ad 3) k2 r2 ++ wK (ad 4))) (fun n _ => n = (0 : Int32) ∧ (0 : Int32) ≠ 0) (fun _ => (wX G ad ho rn ln dr ro lt rf th sb ++ wR G (ad 1) kd r ++ wR G (ad 2) k1 r1 ++ wR G (ad 3) k2 r2 ++ wK (ad 4))) := by
  refine y_openi (by decide) (Nat.le_of_ble_eq_true rfl) (fun _ _ _ => rfl) ?_
  intro p e s m args below meth c A Q ls C0 hK hZ hP hD hA hl hret hthr
  obtain ⟨hx, hb, hml, hown, hts⟩ := id C0
  have hS : va_S A s.heap s.heap [] := va_S.rf
  have hP : va_P G.1 vwCl (wX G ad ho rn ln dr ro lt rf th sb ++ wR G (ad 1) kd r ++ wR G (ad 2) k1 r1 ++ wR G (ad 3) k2 r2 ++ wK (ad 4)) s.heap := hP
  have hD : va_D A (wX G ad ho rn ln dr ro lt rf th sb ++ wR G (ad 1) kd r ++ wR G (ad 2) k1 r1 ++ wR G (ad 3) k2 r2 ++ wK (ad 4)) := hD
  have hl : lv_has ls 5 [(0, .ref (ad 0 0)), (1, .int 12), (2, .int z0), (3, .int z1), (4, .int z2)] := hl
  have hr0 := hr.n
  have hN := hr.le
  refine lv_iload_n hx hb dX0_ofMinutes_0 rfl (lv_at hl 1 rfl) ?_
  refine lv_tableIn (tgt := 73) hx hb dX0_ofMinutes_1 (by decide) (by decide) rfl (by decide) ?_
  refine lv_aload_n hx hb dX0_ofMinutes_73 rfl (lv_at hl 0 rfl) ?_
  refine x_Vi (wN := fun u_1 => (wX G ad ho rn ln dr ro lt rf th sb ++ wR G (ad 1) kd r ++ wR G (ad 2) u_1.1 u_1.2 ++ wR G (ad 3) k2 r2 ++ wK (ad 4))) ⟨C0, hK, hP, hD, hS, hA⟩ 0 rfl (ci := 0) rfl rfl ((m_standFor l G ad kd k1 k2 r r1 r2 ho rn ln dr ro lt rf th sb hr hp hk )) (cwV 0 hts (lw_V q817 q819 qs29 q86 q820) rfl rfl rfl (by decide +kernel) ⟨Nat.le_of_ble_eq_true rfl, Nat.le_of_ble_eq_true rfl⟩) [0, 1, 2, 3, 4, 5, 6, 7, 8, 9, 10, 11, 12, 13, 14, 15, 16, 17, 18, 19, 20, 21, 22, 23, 24, 25, 26, 27, 28, 29, 30] [1, 3, 5, 7, 9, 11, 13, 15, 17, 19, 21, 23, 25, 27, 29, 31, 33, 35, 37, 39, 41, 43, 45, 47, 49, 51, 53, 55, 57, 59, 61] rfl (fun _ => rfl) rfl rfl hl.1 rfl (Nat.le_of_ble_eq_true rfl) dX0_ofMinutes_74 ⟨(Nat.le_of_ble_eq_true rfl), (Nat.le_of_ble_eq_true rfl)⟩ (fun r_1 u_1 H locs hw_1 hP hD hS => ?_)
  have hw_1 : (pSF r : Int32) = r_1 := hw_1.symm
  subst hw_1
  have hP : va_P G.1 vwCl (wX G ad ho rn ln dr ro lt rf th sb ++ wR G (ad 1) kd r ++ wR G (ad 2) u_1.1 u_1.2 ++ wR G (ad 3) k2 r2 ++ wK (ad 4)) H := hP
  have hD : va_D A (wX G ad ho rn ln dr ro lt rf th sb ++ wR G (ad 1) kd r ++ wR G (ad 2) u_1.1 u_1.2 ++ wR G (ad 3) k2 r2 ++ wK (ad 4)) := hD
  refine hret _ _ _ _ _ _ (pSF r) (u_1.1, u_1.2) dX0_ofMinutes_77 ?_ hP hD hS (Nat.le_of_ble_eq_true rfl) (Nat.le_of_ble_eq_true rfl)
  refine ⟨rfl, ?_⟩
  exact rfl
set_option maxHeartbeats 4000000 in
set_option maxRecDepth 100000 in
theorem m_of_13 (l : Launch) (hl0 : l.stackTraces = false) (G : xG) (ad : Nat → Nat → Nat) (kd k1 k2 : Nat → Option Nat) (r r1 r2 : Rw) (ho rn ln dr : Int32) (ro lt rf th sb : Nat → Int32) (hr : Ok r) (hp : r 5 3 = 0) (hk : kOk (ad 4) kd r) (t w z0 : Int32) : yCi l G yX0_ofMinutes cX0_ofMinutes 5 (some .int) ({ frames := 11, cells := 2, slots := 14, locals := 193 } : Room) [.ref (ad 0 0), .int 13, .int t, .int w, .int z0] (wX G ad ho rn ln dr ro lt rf th sb ++ wR G (ad 1) kd r ++ wR G (ad 2) k1 r1 ++ wR G (ad 3) k2 r2 ++ wK (ad 4)) (S := Unit) (SX := Unit) (fun v _ => eS (tB r t) (-1) (eS (inR w 0 2) (-2) 0) = 0 ∧ v = pTow r (ix t) w) (fun _ => (wX G ad ho rn ln dr ro lt rf th sb ++ wR G (ad 1) kd r ++ wR G (ad 2) k1 r1 ++ wR G (ad 3) k2 r2 ++ wK (ad 4))) (fun n _ => n = eS (tB r t) (-1) (eS (inR w 0 2) (-2) 0) ∧ eS (tB r t) (-1) (eS (inR w 0 2) (-2) 0) ≠ 0) (fun _ => (wX G ad ho rn ln dr ro lt rf th sb ++ wR G (ad 1) kd r ++ wR G (ad 2) k1 r1 ++ wR G (ad 3) k2 r2 ++ wK (ad 4))) := by
  refine y_openi (by decide) (Nat.le_of_ble_eq_true rfl) (fun _ _ _ => rfl) ?_
  intro p e s m args below meth c A Q ls C0 hK hZ hP hD hA hl hret hthr
  obtain ⟨hx, hb, hml, hown, hts⟩ := id C0
  have hS : va_S A s.heap s.heap [] := va_S.rf
  have hP : va_P G.1 vwCl (wX G ad ho rn ln dr ro lt rf th sb ++ wR G (ad 1) kd r ++ wR G (ad 2) k1 r1 ++ wR G (ad 3) k2 r2 ++ wK (ad 4)) s.heap := hP
  have hD : va_D A (wX G ad ho rn ln dr ro lt rf th sb ++ wR G (ad 1) kd r ++ wR G (ad 2) k1 r1 ++ wR G (ad 3) k2 r2 ++ wK (ad 4)) := hD
  have hl : lv_has ls 5 [(0, .ref (ad 0 0)), (1, .int 13), (2, .int t), (3, .int w), (4, .int z0)] := hl
  have hr0 := hr.n
  have hN := hr.le
  refine lv_iload_n hx hb dX0_ofMinutes_0 rfl (lv_at hl 1 rfl) ?_
  refine lv_tableIn (tgt := 78) hx hb dX0_ofMinutes_1 (by decide) (by decide) rfl (by decide) ?_
  refine lv_aload_n hx hb dX0_ofMinutes_78 rfl (lv_at hl 0 rfl) ?_
  refine lv_iload_n hx hb dX0_ofMinutes_79 rfl (lv_at hl 2 rfl) ?_
  refine lv_iload_n hx hb dX0_ofMinutes_80 rfl (lv_at hl 3 rfl) ?_
  refine y_Vi (wN := fun _ => (wX G ad ho rn ln dr ro lt rf th sb ++ wR G (ad 1) kd r ++ wR G (ad 2) k1 r1 ++ wR G (ad 3) k2 r2 ++ wK (ad 4))) (wNx := fun u9 => (wX G ad ho rn ln dr ro lt rf th sb ++ wR G (ad 1) kd r ++ wR G (ad 2) k1 r1 ++ wR G (ad 3) k2 r2 ++ wK (ad 4))) ⟨C0, hK, hP, hD, hS, hA⟩ hZ 0 rfl (ci := 0) rfl rfl ((m_towerTold l hl0 G ad kd k1 k2 r r1 r2 ho rn ln dr ro lt rf th sb hr hp hk t w)) (cwV 2 hts (lw_V q821 q823 qs30 q86 q824) rfl rfl rfl (by decide +kernel) ⟨Nat.le_of_ble_eq_true rfl, Nat.le_of_ble_eq_true rfl⟩) [0, 1, 2, 3, 4, 5, 6, 7, 8, 9, 10, 11, 12, 13, 14, 15, 16, 17, 18, 19, 20, 21, 22, 23, 24, 25, 26, 27, 28, 29, 30] [1, 3, 5, 7, 9, 11, 13, 15, 17, 19, 21, 23, 25, 27, 29, 31, 33, 35, 37, 39, 41, 43, 45, 47, 49, 51, 53, 55, 57, 59, 61] [1, 3, 5, 7, 9, 11, 13, 15, 17, 19, 21, 23, 25, 27, 29, 31, 33, 35, 37, 39, 41, 43, 45, 47, 49, 51, 53, 55, 57, 59, 61, 63] rfl (fun _ => rfl) (fun _ _ _ => rfl) rfl rfl rfl hl.1 rfl (Nat.le_of_ble_eq_true rfl) dX0_ofMinutes_81 ⟨(Nat.le_of_ble_eq_true rfl), (Nat.le_of_ble_eq_true rfl)⟩ (fun q9 u9 ee H locs hw_1 hP hD hS => ?_) (fun r_1 u_1 H locs hw_1 hP hD hS => ?_)
  · skip
    refine hthr _ _ _ _ _ _ _ q9 () ee ?_ hP hD hS (Nat.le_of_ble_eq_true rfl) (Nat.le_of_ble_eq_true rfl)
    exact hw_1
  · skip
    obtain ⟨hz_1, hw_1⟩ := hw_1
    have hw_1 : (pTow r (ix t) w : Int32) = r_1 := hw_1.symm
    subst hw_1
    refine W.widen (k := 2) (n := 14) (Nat.le_of_ble_eq_true rfl) (Nat.le_of_ble_eq_true rfl) ?_
    refine hret _ _ _ _ _ _ (pTow r (ix t) w) () dX0_ofMinutes_84 ?_ hP hD hS (Nat.le_of_ble_eq_true rfl) (Nat.le_of_ble_eq_true rfl)
    exact ⟨hz_1, rfl⟩
set_option maxHeartbeats 4000000 in
set_option maxRecDepth 100000 in
theorem m_of_14 (l : Launch) (hl0 : l.stackTraces = false) (G : xG) (ad : Nat → Nat → Nat) (kd k1 k2 : Nat → Option Nat) (r r1 r2 : Rw) (ho rn ln dr : Int32) (ro lt rf th sb : Nat → Int32) (hr : Ok r) (hp : r 5 3 = 0) (hk : kOk (ad 4) kd r) (t z0 z1 : Int32) : yCi l G yX0_ofMinutes cX0_ofMinutes 5 (some .int) ({ frames := 11, cells := 2, slots := 14, locals := 192 } : Room) [.ref (ad 0 0), .int 14, .int t, .int z0, .int z1] (wX G ad ho rn ln dr ro lt rf th sb ++ wR G (ad 1) kd r ++ wR G (ad 2) k1 r1 ++ wR G (ad 3) k2 r2 ++ wK (ad 4)) (S := ((Nat → Option Nat) × Rw)) (SX := Unit) (fun v u => eS (tB r t) (-1) (eS (pSt r (ix t)) (-3) 0) = 0 ∧ v = pSlow r (ix t)) (fun u => (wX G ad ho rn ln dr ro lt rf th sb ++ wR G (ad 1) kd r ++ wR G (ad 2) u.1 u.2 ++ wR G (ad 3) k2 r2 ++ wK (ad 4))) (fun n _ => n = eS (tB r t) (-1) (eS (pSt r (ix t)) (-3) 0) ∧ eS (tB r t) (-1) (eS (pSt r (ix t)) (-3) 0) ≠ 0) (fun _ => (wX G ad ho rn ln dr ro lt rf th sb ++ wR G (ad 1) kd r ++ wR G (ad 2) k1 r1 ++ wR G (ad 3) k2 r2 ++ wK (ad 4))) := by
  refine y_openi (by decide) (Nat.le_of_ble_eq_true rfl) (fun _ _ _ => rfl) ?_
  intro p e s m args below meth c A Q ls C0 hK hZ hP hD hA hl hret hthr
  obtain ⟨hx, hb, hml, hown, hts⟩ := id C0
  have hS : va_S A s.heap s.heap [] := va_S.rf
  have hP : va_P G.1 vwCl (wX G ad ho rn ln dr ro lt rf th sb ++ wR G (ad 1) kd r ++ wR G (ad 2) k1 r1 ++ wR G (ad 3) k2 r2 ++ wK (ad 4)) s.heap := hP
  have hD : va_D A (wX G ad ho rn ln dr ro lt rf th sb ++ wR G (ad 1) kd r ++ wR G (ad 2) k1 r1 ++ wR G (ad 3) k2 r2 ++ wK (ad 4)) := hD
  have hl : lv_has ls 5 [(0, .ref (ad 0 0)), (1, .int 14), (2, .int t), (3, .int z0), (4, .int z1)] := hl
  have hr0 := hr.n
  have hN := hr.le
  refine lv_iload_n hx hb dX0_ofMinutes_0 rfl (lv_at hl 1 rfl) ?_
  refine lv_tableIn (tgt := 85) hx hb dX0_ofMinutes_1 (by decide) (by decide) rfl (by decide) ?_
  refine lv_aload_n hx hb dX0_ofMinutes_85 rfl (lv_at hl 0 rfl) ?_
  refine lv_iload_n hx hb dX0_ofMinutes_86 rfl (lv_at hl 2 rfl) ?_
  refine y_Vi (wN := fun u_1 => (wX G ad ho rn ln dr ro lt rf th sb ++ wR G (ad 1) kd r ++ wR G (ad 2) u_1.1 u_1.2 ++ wR G (ad 3) k2 r2 ++ wK (ad 4))) (wNx := fun u9 => (wX G ad ho rn ln dr ro lt rf th sb ++ wR G (ad 1) kd r ++ wR G (ad 2) k1 r1 ++ wR G (ad 3) k2 r2 ++ wK (ad 4))) ⟨C0, hK, hP, hD, hS, hA⟩ hZ 0 rfl (ci := 0) rfl rfl ((m_slowestTold l hl0 G ad kd k1 k2 r r1 r2 ho rn ln dr ro lt rf th sb hr hp hk t)) (cwV 1 hts (lw_V q837 q839 qs31 q86 q840) rfl rfl rfl (by decide +kernel) ⟨Nat.le_of_ble_eq_true rfl, Nat.le_of_ble_eq_true rfl⟩) [0, 1, 2, 3, 4, 5, 6, 7, 8, 9, 10, 11, 12, 13, 14, 15, 16, 17, 18, 19, 20, 21, 22, 23, 24, 25, 26, 27, 28, 29, 30] [1, 3, 5, 7, 9, 11, 13, 15, 17, 19, 21, 23, 25, 27, 29, 31, 33, 35, 37, 39, 41, 43, 45, 47, 49, 51, 53, 55, 57, 59, 61] [1, 3, 5, 7, 9, 11, 13, 15, 17, 19, 21, 23, 25, 27, 29, 31, 33, 35, 37, 39, 41, 43, 45, 47, 49, 51, 53, 55, 57, 59, 61, 63] rfl (fun _ => rfl) (fun _ _ _ => rfl) rfl rfl rfl hl.1 rfl (Nat.le_of_ble_eq_true rfl) dX0_ofMinutes_87 ⟨(Nat.le_of_ble_eq_true rfl), (Nat.le_of_ble_eq_true rfl)⟩ (fun q9 u9 ee H locs hw_1 hP hD hS => ?_) (fun r_1 u_1 H locs hw_1 hP hD hS => ?_)
  · skip
    refine hthr _ _ _ _ _ _ _ q9 () ee ?_ hP hD hS (Nat.le_of_ble_eq_true rfl) (Nat.le_of_ble_eq_true rfl)
    exact hw_1
  · skip
    obtain ⟨hz_1, hw_1⟩ := hw_1
    have hw_1 : (pSlow r (ix t) : Int32) = r_1 := hw_1.symm
    subst hw_1
    have hP : va_P G.1 vwCl (wX G ad ho rn ln dr ro lt rf th sb ++ wR G (ad 1) kd r ++ wR G (ad 2) u_1.1 u_1.2 ++ wR G (ad 3) k2 r2 ++ wK (ad 4)) H := hP
    have hD : va_D A (wX G ad ho rn ln dr ro lt rf th sb ++ wR G (ad 1) kd r ++ wR G (ad 2) u_1.1 u_1.2 ++ wR G (ad 3) k2 r2 ++ wK (ad 4)) := hD
    refine W.widen (k := 2) (n := 14) (Nat.le_of_ble_eq_true rfl) (Nat.le_of_ble_eq_true rfl) ?_
    refine hret _ _ _ _ _ _ (pSlow r (ix t)) (u_1.1, u_1.2) dX0_ofMinutes_90 ?_ hP hD hS (Nat.le_of_ble_eq_true rfl) (Nat.le_of_ble_eq_true rfl)
    exact ⟨hz_1, rfl⟩
set_option maxHeartbeats 4000000 in
set_option maxRecDepth 100000 in
theorem m_of_15 (l : Launch) (hl0 : l.stackTraces = false) (G : xG) (ad : Nat → Nat → Nat) (kd k1 k2 : Nat → Option Nat) (r r1 r2 : Rw) (ho rn ln dr : Int32) (ro lt rf th sb : Nat → Int32) (hr : Ok r) (hp : r 5 3 = 0) (hk : kOk (ad 4) kd r) (t sp z0 : Int32) : yCi l G yX0_ofMinutes cX0_ofMinutes 5 (some .int) ({ frames := 11, cells := 4, slots := 28, locals := 196 } : Room) [.ref (ad 0 0), .int 15, .int t, .int sp, .int z0] (wX G ad ho rn ln dr ro lt rf th sb ++ wR G (ad 1) kd r ++ wR G (ad 2) k1 r1 ++ wR G (ad 3) k2 r2 ++ wK (ad 4)) (S := ((Nat → Option Nat) × Rw)) (SX := Unit) (fun v u => eS (tB r t) (-1) (eW (wBy sp.toInt 0 9) (eS (pSt r (ix t)) (-3) 0)) = 0 ∧ v = pFB r (ix t) sp) (fun u => (wX G ad ho rn ln dr ro lt rf th sb ++ wR G (ad 1) kd r ++ wR G (ad 2) u.1 u.2 ++ wR G (ad 3) k2 r2 ++ wK (ad 4))) (fun n _ => n = eS (tB r t) (-1) (eW (wBy sp.toInt 0 9) (eS (pSt r (ix t)) (-3) 0)) ∧ eS (tB r t) (-1) (eW (wBy sp.toInt 0 9) (eS (pSt r (ix t)) (-3) 0)) ≠ 0) (fun _ => (wX G ad ho rn ln dr ro lt rf th sb ++ wR G (ad 1) kd r ++ wR G (ad 2) k1 r1 ++ wR G (ad 3) k2 r2 ++ wK (ad 4))) := by
  refine y_openi (by decide) (Nat.le_of_ble_eq_true rfl) (fun _ _ _ => rfl) ?_
  intro p e s m args below meth c A Q ls C0 hK hZ hP hD hA hl hret hthr
  obtain ⟨hx, hb, hml, hown, hts⟩ := id C0
  have hS : va_S A s.heap s.heap [] := va_S.rf
  have hP : va_P G.1 vwCl (wX G ad ho rn ln dr ro lt rf th sb ++ wR G (ad 1) kd r ++ wR G (ad 2) k1 r1 ++ wR G (ad 3) k2 r2 ++ wK (ad 4)) s.heap := hP
  have hD : va_D A (wX G ad ho rn ln dr ro lt rf th sb ++ wR G (ad 1) kd r ++ wR G (ad 2) k1 r1 ++ wR G (ad 3) k2 r2 ++ wK (ad 4)) := hD
  have hl : lv_has ls 5 [(0, .ref (ad 0 0)), (1, .int 15), (2, .int t), (3, .int sp), (4, .int z0)] := hl
  have hr0 := hr.n
  have hN := hr.le
  refine lv_iload_n hx hb dX0_ofMinutes_0 rfl (lv_at hl 1 rfl) ?_
  refine lv_tableIn (tgt := 91) hx hb dX0_ofMinutes_1 (by decide) (by decide) rfl (by decide) ?_
  refine lv_aload_n hx hb dX0_ofMinutes_91 rfl (lv_at hl 0 rfl) ?_
  refine lv_iload_n hx hb dX0_ofMinutes_92 rfl (lv_at hl 2 rfl) ?_
  refine lv_iload_n hx hb dX0_ofMinutes_93 rfl (lv_at hl 3 rfl) ?_
  refine y_Vi (wN := fun u_1 => (wX G ad ho rn ln dr ro lt rf th sb ++ wR G (ad 1) kd r ++ wR G (ad 2) u_1.1 u_1.2 ++ wR G (ad 3) k2 r2 ++ wK (ad 4))) (wNx := fun u9 => (wX G ad ho rn ln dr ro lt rf th sb ++ wR G (ad 1) kd r ++ wR G (ad 2) k1 r1 ++ wR G (ad 3) k2 r2 ++ wK (ad 4))) ⟨C0, hK, hP, hD, hS, hA⟩ hZ 0 rfl (ci := 0) rfl rfl ((m_onceTold l hl0 G ad kd k1 k2 r r1 r2 ho rn ln dr ro lt rf th sb hr hp hk t sp)) (cwV 2 hts (lw_V q845 q847 qs33 q86 q848) rfl rfl rfl (by decide +kernel) ⟨Nat.le_of_ble_eq_true rfl, Nat.le_of_ble_eq_true rfl⟩) [0, 1, 2, 3, 4, 5, 6, 7, 8, 9, 10, 11, 12, 13, 14, 15, 16, 17, 18, 19, 20, 21, 22, 23, 24, 25, 26, 27, 28, 29, 30] [1, 3, 5, 7, 9, 11, 13, 15, 17, 19, 21, 23, 25, 27, 29, 31, 33, 35, 37, 39, 41, 43, 45, 47, 49, 51, 53, 55, 57, 59, 61] [1, 3, 5, 7, 9, 11, 13, 15, 17, 19, 21, 23, 25, 27, 29, 31, 33, 35, 37, 39, 41, 43, 45, 47, 49, 51, 53, 55, 57, 59, 61, 63] rfl (fun _ => rfl) (fun _ _ _ => rfl) rfl rfl rfl hl.1 rfl (Nat.le_of_ble_eq_true rfl) dX0_ofMinutes_94 ⟨(Nat.le_of_ble_eq_true rfl), (Nat.le_of_ble_eq_true rfl)⟩ (fun q9 u9 ee H locs hw_1 hP hD hS => ?_) (fun r_1 u_1 H locs hw_1 hP hD hS => ?_)
  · skip
    refine hthr _ _ _ _ _ _ _ q9 () ee ?_ hP hD hS (Nat.le_of_ble_eq_true rfl) (Nat.le_of_ble_eq_true rfl)
    exact hw_1
  · skip
    obtain ⟨hz_1, hw_1⟩ := hw_1
    have hw_1 : (pFB r (ix t) sp : Int32) = r_1 := hw_1.symm
    subst hw_1
    have hP : va_P G.1 vwCl (wX G ad ho rn ln dr ro lt rf th sb ++ wR G (ad 1) kd r ++ wR G (ad 2) u_1.1 u_1.2 ++ wR G (ad 3) k2 r2 ++ wK (ad 4)) H := hP
    have hD : va_D A (wX G ad ho rn ln dr ro lt rf th sb ++ wR G (ad 1) kd r ++ wR G (ad 2) u_1.1 u_1.2 ++ wR G (ad 3) k2 r2 ++ wK (ad 4)) := hD
    refine W.widen (k := 4) (n := 28) (Nat.le_of_ble_eq_true rfl) (Nat.le_of_ble_eq_true rfl) ?_
    refine hret _ _ _ _ _ _ (pFB r (ix t) sp) (u_1.1, u_1.2) dX0_ofMinutes_97 ?_ hP hD hS (Nat.le_of_ble_eq_true rfl) (Nat.le_of_ble_eq_true rfl)
    exact ⟨hz_1, rfl⟩
set_option maxHeartbeats 4000000 in
set_option maxRecDepth 100000 in
theorem m_of_16 (l : Launch) (hl0 : l.stackTraces = false) (G : xG) (ad : Nat → Nat → Nat) (kd k1 k2 : Nat → Option Nat) (r r1 r2 : Rw) (ho rn ln dr : Int32) (ro lt rf th sb : Nat → Int32) (hr : Ok r) (hp : r 5 3 = 0) (hk : kOk (ad 4) kd r) (t sp mi : Int32) : yCi l G yX0_ofMinutes cX0_ofMinutes 5 (some .int) ({ frames := 11, cells := 4, slots := 28, locals := 203 } : Room) [.ref (ad 0 0), .int 16, .int t, .int sp, .int mi] (wX G ad ho rn ln dr ro lt rf th sb ++ wR G (ad 1) kd r ++ wR G (ad 2) k1 r1 ++ wR G (ad 3) k2 r2 ++ wK (ad 4)) (S := ((Nat → Option Nat) × Rw)) (SX := Unit) (fun v u => eS (tB r t) (-1) (eS (decide (¬ sp < 0 ∧ ¬ mi < 0)) (-4) (eS (decide (sp ≤ 9 ∧ mi ≤ 99)) (-6) (eS (pSt r (ix t)) (-3) 0))) = 0 ∧ v = pFL r (ix t) sp (ix mi)) (fun u => (wX G ad ho rn ln dr ro lt rf th sb ++ wR G (ad 1) kd r ++ wR G (ad 2) u.1 u.2 ++ wR G (ad 3) k2 r2 ++ wK (ad 4))) (fun n _ => n = eS (tB r t) (-1) (eS (decide (¬ sp < 0 ∧ ¬ mi < 0)) (-4) (eS (decide (sp ≤ 9 ∧ mi ≤ 99)) (-6) (eS (pSt r (ix t)) (-3) 0))) ∧ eS (tB r t) (-1) (eS (decide (¬ sp < 0 ∧ ¬ mi < 0)) (-4) (eS (decide (sp ≤ 9 ∧ mi ≤ 99)) (-6) (eS (pSt r (ix t)) (-3) 0))) ≠ 0) (fun _ => (wX G ad ho rn ln dr ro lt rf th sb ++ wR G (ad 1) kd r ++ wR G (ad 2) k1 r1 ++ wR G (ad 3) k2 r2 ++ wK (ad 4))) := by
  refine y_openi (by decide) (Nat.le_of_ble_eq_true rfl) (fun _ _ _ => rfl) ?_
  intro p e s m args below meth c A Q ls C0 hK hZ hP hD hA hl hret hthr
  obtain ⟨hx, hb, hml, hown, hts⟩ := id C0
  have hS : va_S A s.heap s.heap [] := va_S.rf
  have hP : va_P G.1 vwCl (wX G ad ho rn ln dr ro lt rf th sb ++ wR G (ad 1) kd r ++ wR G (ad 2) k1 r1 ++ wR G (ad 3) k2 r2 ++ wK (ad 4)) s.heap := hP
  have hD : va_D A (wX G ad ho rn ln dr ro lt rf th sb ++ wR G (ad 1) kd r ++ wR G (ad 2) k1 r1 ++ wR G (ad 3) k2 r2 ++ wK (ad 4)) := hD
  have hl : lv_has ls 5 [(0, .ref (ad 0 0)), (1, .int 16), (2, .int t), (3, .int sp), (4, .int mi)] := hl
  have hr0 := hr.n
  have hN := hr.le
  refine lv_iload_n hx hb dX0_ofMinutes_0 rfl (lv_at hl 1 rfl) ?_
  refine lv_tableIn (tgt := 98) hx hb dX0_ofMinutes_1 (by decide) (by decide) rfl (by decide) ?_
  refine lv_aload_n hx hb dX0_ofMinutes_98 rfl (lv_at hl 0 rfl) ?_
  refine lv_iload_n hx hb dX0_ofMinutes_99 rfl (lv_at hl 2 rfl) ?_
  refine lv_iload_n hx hb dX0_ofMinutes_100 rfl (lv_at hl 3 rfl) ?_
  refine lv_iload hx hb dX0_ofMinutes_101 (lv_at hl 4 rfl) ?_
  refine y_Vi (wN := fun u_1 => (wX G ad ho rn ln dr ro lt rf th sb ++ wR G (ad 1) kd r ++ wR G (ad 2) u_1.1 u_1.2 ++ wR G (ad 3) k2 r2 ++ wK (ad 4))) (wNx := fun u9 => (wX G ad ho rn ln dr ro lt rf th sb ++ wR G (ad 1) kd r ++ wR G (ad 2) k1 r1 ++ wR G (ad 3) k2 r2 ++ wK (ad 4))) ⟨C0, hK, hP, hD, hS, hA⟩ hZ 0 rfl (ci := 0) rfl rfl ((m_laterTold l hl0 G ad kd k1 k2 r r1 r2 ho rn ln dr ro lt rf th sb hr hp hk t sp mi)) (cwV 3 hts (lw_V q853 q855 qs35 q86 q856) rfl rfl rfl (by decide +kernel) ⟨Nat.le_of_ble_eq_true rfl, Nat.le_of_ble_eq_true rfl⟩) [0, 1, 2, 3, 4, 5, 6, 7, 8, 9, 10, 11, 12, 13, 14, 15, 16, 17, 18, 19, 20, 21, 22, 23, 24, 25, 26, 27, 28, 29, 30] [1, 3, 5, 7, 9, 11, 13, 15, 17, 19, 21, 23, 25, 27, 29, 31, 33, 35, 37, 39, 41, 43, 45, 47, 49, 51, 53, 55, 57, 59, 61] [1, 3, 5, 7, 9, 11, 13, 15, 17, 19, 21, 23, 25, 27, 29, 31, 33, 35, 37, 39, 41, 43, 45, 47, 49, 51, 53, 55, 57, 59, 61, 63] rfl (fun _ => rfl) (fun _ _ _ => rfl) rfl rfl rfl hl.1 rfl (Nat.le_of_ble_eq_true rfl) dX0_ofMinutes_103 ⟨(Nat.le_of_ble_eq_true rfl), (Nat.le_of_ble_eq_true rfl)⟩ (fun q9 u9 ee H locs hw_1 hP hD hS => ?_) (fun r_1 u_1 H locs hw_1 hP hD hS => ?_)
  · skip
    refine hthr _ _ _ _ _ _ _ q9 () ee ?_ hP hD hS (Nat.le_of_ble_eq_true rfl) (Nat.le_of_ble_eq_true rfl)
    exact hw_1
  · skip
    obtain ⟨hz_1, hw_1⟩ := hw_1
    have hw_1 : (pFL r (ix t) sp (ix mi) : Int32) = r_1 := hw_1.symm
    subst hw_1
    have hP : va_P G.1 vwCl (wX G ad ho rn ln dr ro lt rf th sb ++ wR G (ad 1) kd r ++ wR G (ad 2) u_1.1 u_1.2 ++ wR G (ad 3) k2 r2 ++ wK (ad 4)) H := hP
    have hD : va_D A (wX G ad ho rn ln dr ro lt rf th sb ++ wR G (ad 1) kd r ++ wR G (ad 2) u_1.1 u_1.2 ++ wR G (ad 3) k2 r2 ++ wK (ad 4)) := hD
    refine W.widen (k := 4) (n := 28) (Nat.le_of_ble_eq_true rfl) (Nat.le_of_ble_eq_true rfl) ?_
    refine hret _ _ _ _ _ _ (pFL r (ix t) sp (ix mi)) (u_1.1, u_1.2) dX0_ofMinutes_106 ?_ hP hD hS (Nat.le_of_ble_eq_true rfl) (Nat.le_of_ble_eq_true rfl)
    exact ⟨hz_1, rfl⟩
set_option maxHeartbeats 4000000 in
set_option maxRecDepth 100000 in
theorem m_of_17 (l : Launch) (hl0 : l.stackTraces = false) (G : xG) (ad : Nat → Nat → Nat) (kd k1 k2 : Nat → Option Nat) (r r1 r2 : Rw) (ho rn ln dr : Int32) (ro lt rf th sb : Nat → Int32) (hr : Ok r) (hp : r 5 3 = 0) (hk : kOk (ad 4) kd r) (t mi w : Int32) : yCi l G yX0_ofMinutes cX0_ofMinutes 5 (some .int) ({ frames := 11, cells := 4, slots := 28, locals := 208 } : Room) [.ref (ad 0 0), .int 17, .int t, .int mi, .int w] (wX G ad ho rn ln dr ro lt rf th sb ++ wR G (ad 1) kd r ++ wR G (ad 2) k1 r1 ++ wR G (ad 3) k2 r2 ++ wK (ad 4)) (S := ((Nat → Option Nat) × Rw)) (SX := Unit) (fun v u => eS (tB r t) (-1) (eW (wBy mi.toInt 0 30) (eS (inR w 0 1) (-2) 0)) = 0 ∧ v = pMost r (ix t) (ix mi) w) (fun u => (wX G ad ho rn ln dr ro lt rf th sb ++ wR G (ad 1) kd r ++ wR G (ad 2) u.1 u.2 ++ wR G (ad 3) k2 r2 ++ wK (ad 4))) (fun n _ => n = eS (tB r t) (-1) (eW (wBy mi.toInt 0 30) (eS (inR w 0 1) (-2) 0)) ∧ eS (tB r t) (-1) (eW (wBy mi.toInt 0 30) (eS (inR w 0 1) (-2) 0)) ≠ 0) (fun _ => (wX G ad ho rn ln dr ro lt rf th sb ++ wR G (ad 1) kd r ++ wR G (ad 2) k1 r1 ++ wR G (ad 3) k2 r2 ++ wK (ad 4))) := by
  refine y_openi (by decide) (Nat.le_of_ble_eq_true rfl) (fun _ _ _ => rfl) ?_
  intro p e s m args below meth c A Q ls C0 hK hZ hP hD hA hl hret hthr
  obtain ⟨hx, hb, hml, hown, hts⟩ := id C0
  have hS : va_S A s.heap s.heap [] := va_S.rf
  have hP : va_P G.1 vwCl (wX G ad ho rn ln dr ro lt rf th sb ++ wR G (ad 1) kd r ++ wR G (ad 2) k1 r1 ++ wR G (ad 3) k2 r2 ++ wK (ad 4)) s.heap := hP
  have hD : va_D A (wX G ad ho rn ln dr ro lt rf th sb ++ wR G (ad 1) kd r ++ wR G (ad 2) k1 r1 ++ wR G (ad 3) k2 r2 ++ wK (ad 4)) := hD
  have hl : lv_has ls 5 [(0, .ref (ad 0 0)), (1, .int 17), (2, .int t), (3, .int mi), (4, .int w)] := hl
  have hr0 := hr.n
  have hN := hr.le
  refine lv_iload_n hx hb dX0_ofMinutes_0 rfl (lv_at hl 1 rfl) ?_
  refine lv_tableOut (tgt := 107) hx hb dX0_ofMinutes_1 (by decide) (by decide) ?_
  refine lv_aload_n hx hb dX0_ofMinutes_107 rfl (lv_at hl 0 rfl) ?_
  refine lv_iload_n hx hb dX0_ofMinutes_108 rfl (lv_at hl 2 rfl) ?_
  refine lv_iload_n hx hb dX0_ofMinutes_109 rfl (lv_at hl 3 rfl) ?_
  refine lv_iload hx hb dX0_ofMinutes_110 (lv_at hl 4 rfl) ?_
  refine y_Vi (wN := fun u_1 => (wX G ad ho rn ln dr ro lt rf th sb ++ wR G (ad 1) kd r ++ wR G (ad 2) u_1.1 u_1.2 ++ wR G (ad 3) k2 r2 ++ wK (ad 4))) (wNx := fun u9 => (wX G ad ho rn ln dr ro lt rf th sb ++ wR G (ad 1) kd r ++ wR G (ad 2) k1 r1 ++ wR G (ad 3) k2 r2 ++ wK (ad 4))) ⟨C0, hK, hP, hD, hS, hA⟩ hZ 0 rfl (ci := 0) rfl rfl ((m_mostTold l hl0 G ad kd k1 k2 r r1 r2 ho rn ln dr ro lt rf th sb hr hp hk t mi w)) (cwV 3 hts (lw_V q861 q863 qs37 q86 q864) rfl rfl rfl (by decide +kernel) ⟨Nat.le_of_ble_eq_true rfl, Nat.le_of_ble_eq_true rfl⟩) [0, 1, 2, 3, 4, 5, 6, 7, 8, 9, 10, 11, 12, 13, 14, 15, 16, 17, 18, 19, 20, 21, 22, 23, 24, 25, 26, 27, 28, 29, 30] [1, 3, 5, 7, 9, 11, 13, 15, 17, 19, 21, 23, 25, 27, 29, 31, 33, 35, 37, 39, 41, 43, 45, 47, 49, 51, 53, 55, 57, 59, 61] [1, 3, 5, 7, 9, 11, 13, 15, 17, 19, 21, 23, 25, 27, 29, 31, 33, 35, 37, 39, 41, 43, 45, 47, 49, 51, 53, 55, 57, 59, 61, 63] rfl (fun _ => rfl) (fun _ _ _ => rfl) rfl rfl rfl hl.1 rfl (Nat.le_of_ble_eq_true rfl) dX0_ofMinutes_112 ⟨(Nat.le_of_ble_eq_true rfl), (Nat.le_of_ble_eq_true rfl)⟩ (fun q9 u9 ee H locs hw_1 hP hD hS => ?_) (fun r_1 u_1 H locs hw_1 hP hD hS => ?_)
  · skip
    refine hthr _ _ _ _ _ _ _ q9 () ee ?_ hP hD hS (Nat.le_of_ble_eq_true rfl) (Nat.le_of_ble_eq_true rfl)
    exact hw_1
  · skip
    obtain ⟨hz_1, hw_1⟩ := hw_1
    have hw_1 : (pMost r (ix t) (ix mi) w : Int32) = r_1 := hw_1.symm
    subst hw_1
    have hP : va_P G.1 vwCl (wX G ad ho rn ln dr ro lt rf th sb ++ wR G (ad 1) kd r ++ wR G (ad 2) u_1.1 u_1.2 ++ wR G (ad 3) k2 r2 ++ wK (ad 4)) H := hP
    have hD : va_D A (wX G ad ho rn ln dr ro lt rf th sb ++ wR G (ad 1) kd r ++ wR G (ad 2) u_1.1 u_1.2 ++ wR G (ad 3) k2 r2 ++ wK (ad 4)) := hD
    refine W.widen (k := 4) (n := 28) (Nat.le_of_ble_eq_true rfl) (Nat.le_of_ble_eq_true rfl) ?_
    refine hret _ _ _ _ _ _ (pMost r (ix t) (ix mi) w) (u_1.1, u_1.2) dX0_ofMinutes_115 ?_ hP hD hS (Nat.le_of_ble_eq_true rfl) (Nat.le_of_ble_eq_true rfl)
    exact ⟨hz_1, rfl⟩
set_option maxHeartbeats 4000000 in
set_option maxRecDepth 100000 in
theorem m_of_18 (l : Launch) (hl0 : l.stackTraces = false) (G : xG) (ad : Nat → Nat → Nat) (kd k1 k2 : Nat → Option Nat) (r r1 r2 : Rw) (ho rn ln dr : Int32) (ro lt rf th sb : Nat → Int32) (hr : Ok r) (hp : r 5 3 = 0) (hk : kOk (ad 4) kd r) (mi z0 z1 z2 z3 : Int32) : yCi l G yX0_ofRest cX0_ofRest 7 (some .int) ({ frames := 10, cells := 2, slots := 14, locals := 174 } : Room) [.ref (ad 0 0), .int 18, .int mi, .int z0, .int z1, .int z2, .int z3] (wX G ad ho rn ln dr ro lt rf th sb ++ wR G (ad 1) kd r ++ wR G (ad 2) k1 r1 ++ wR G (ad 3) k2 r2 ++ wK (ad 4)) (S := ((Nat → Option Nat) × Rw)) (SX := Unit) (fun v u => eW (wBy mi.toInt 0 99) 0 = 0 ∧ v = (pKy r (ix mi) (mny r)).1) (fun u => (wX G ad ho rn ln dr ro lt rf th sb ++ wR G (ad 1) kd r ++ wR G (ad 2) u.1 u.2 ++ wR G (ad 3) k2 r2 ++ wK (ad 4))) (fun n _ => n = eW (wBy mi.toInt 0 99) 0 ∧ eW (wBy mi.toInt 0 99) 0 ≠ 0) (fun _ => (wX G ad ho rn ln dr ro lt rf th sb ++ wR G (ad 1) kd r ++ wR G (ad 2) k1 r1 ++ wR G (ad 3) k2 r2 ++ wK (ad 4))) := by
  refine y_openi (by decide) (Nat.le_of_ble_eq_true rfl) (fun _ _ _ => rfl) ?_
  intro p e s m args below meth c A Q ls C0 hK hZ hP hD hA hl hret hthr
  obtain ⟨hx, hb, hml, hown, hts⟩ := id C0
  have hS : va_S A s.heap s.heap [] := va_S.rf
  have hP : va_P G.1 vwCl (wX G ad ho rn ln dr ro lt rf th sb ++ wR G (ad 1) kd r ++ wR G (ad 2) k1 r1 ++ wR G (ad 3) k2 r2 ++ wK (ad 4)) s.heap := hP
  have hD : va_D A (wX G ad ho rn ln dr ro lt rf th sb ++ wR G (ad 1) kd r ++ wR G (ad 2) k1 r1 ++ wR G (ad 3) k2 r2 ++ wK (ad 4)) := hD
  have hl : lv_has ls 7 [(0, .ref (ad 0 0)), (1, .int 18), (2, .int mi), (3, .int z0), (4, .int z1), (5, .int z2), (6, .int z3)] := hl
  have hr0 := hr.n
  have hN := hr.le
  refine lv_iload_n hx hb dX0_ofRest_0 rfl (lv_at hl 1 rfl) ?_
  refine lv_tableIn (tgt := 44) hx hb dX0_ofRest_1 (by decide) (by decide) rfl (by decide) ?_
  refine lv_iload_n hx hb dX0_ofRest_44 rfl (lv_at hl 2 rfl) ?_
  refine y_Sv (wN := fun _ => (wX G ad ho rn ln dr ro lt rf th sb ++ wR G (ad 1) kd r ++ wR G (ad 2) k1 r1 ++ wR G (ad 3) k2 r2 ++ wK (ad 4))) (wNx := fun u9 => (wX G ad ho rn ln dr ro lt rf th sb ++ wR G (ad 1) kd r ++ wR G (ad 2) k1 r1 ++ wR G (ad 3) k2 r2 ++ wK (ad 4))) ⟨C0, hK, hP, hD, hS, hA⟩ hZ ((m_mustBeMinutes l hl0 G mi)) (va_cwS 1 hts (lw_S q786 q787 q86 q788) rfl rfl rfl (by decide +kernel) ⟨Nat.le_of_ble_eq_true rfl, Nat.le_of_ble_eq_true rfl⟩) [] [0, 2, 4, 6, 8, 10, 12, 14, 16, 18, 20, 22, 24, 26, 28, 30, 32, 34, 36, 38, 40, 42, 44, 46, 48, 50, 52, 54, 56, 58, 60] [0, 2, 4, 6, 8, 10, 12, 14, 16, 18, 20, 22, 24, 26, 28, 30, 32, 34, 36, 38, 40, 42, 44, 46, 48, 50, 52, 54, 56, 58, 60, 1] rfl (fun _ => rfl) (fun _ _ _ => rfl) rfl rfl rfl hl.1 rfl (Nat.le_of_ble_eq_true rfl) dX0_ofRest_45 ⟨(Nat.le_of_ble_eq_true rfl), (Nat.le_of_ble_eq_true rfl)⟩ (fun q9 u9 ee H locs hw_1 hP hD hS => ?_) (fun u_1 H locs hw_1 hP hD hS => ?_)
  · skip
    refine hthr _ _ _ _ _ _ _ q9 () ee ?_ hP hD hS (Nat.le_of_ble_eq_true rfl) (Nat.le_of_ble_eq_true rfl)
    obtain ⟨h8, h9⟩ := hw_1
    have e9 : eW (wBy mi.toInt 0 99) 0 = ee.2.1 := by rw [eW_n h9]; exact h8.symm
    exact ⟨e9.symm, by rw [e9, h8]; exact h9⟩
  · skip
    refine W.widen (k := 2) (n := 14) (Nat.le_of_ble_eq_true rfl) (Nat.le_of_ble_eq_true rfl) ?_
    obtain ⟨hj_mi, et_mi⟩ := wB_ix (n := 99) (by omega) hw_1
    rw [et_mi] at hl
    refine lv_aload_n hx hb dX0_ofRest_48 rfl (lv_at hl 0 rfl) ?_
    refine lv_iload_n hx hb dX0_ofRest_49 rfl (lv_at hl 2 rfl) ?_
    refine x_Vi (wN := fun u_2 => (wX G ad ho rn ln dr ro lt rf th sb ++ wR G (ad 1) kd r ++ wR G (ad 2) u_2.1 u_2.2 ++ wR G (ad 3) k2 r2 ++ wK (ad 4))) ⟨C0, hK, hP, hD, hS, hA⟩ 0 rfl (ci := 0) rfl rfl ((m_keyOf l G ad kd k1 k2 r r1 r2 ho rn ln dr ro lt rf th sb hr hp hk (ix mi) (by omega))) (cwV 1 hts (lw_V q879 q881 qs41 q86 q882) rfl rfl rfl (by decide +kernel) ⟨Nat.le_of_ble_eq_true rfl, Nat.le_of_ble_eq_true rfl⟩) [0, 1, 2, 3, 4, 5, 6, 7, 8, 9, 10, 11, 12, 13, 14, 15, 16, 17, 18, 19, 20, 21, 22, 23, 24, 25, 26, 27, 28, 29, 30] [1, 3, 5, 7, 9, 11, 13, 15, 17, 19, 21, 23, 25, 27, 29, 31, 33, 35, 37, 39, 41, 43, 45, 47, 49, 51, 53, 55, 57, 59, 61] rfl (fun _ => rfl) rfl rfl hl.1 rfl (Nat.le_of_ble_eq_true rfl) dX0_ofRest_50 ⟨(Nat.le_of_ble_eq_true rfl), (Nat.le_of_ble_eq_true rfl)⟩ (fun r_2 u_2 H locs hw_2 hP hD hS => ?_)
    have hw_2 : ((pKy r (ix mi) (mny r)).1 : Int32) = r_2 := hw_2.symm
    subst hw_2
    have hP : va_P G.1 vwCl (wX G ad ho rn ln dr ro lt rf th sb ++ wR G (ad 1) kd r ++ wR G (ad 2) u_2.1 u_2.2 ++ wR G (ad 3) k2 r2 ++ wK (ad 4)) H := hP
    have hD : va_D A (wX G ad ho rn ln dr ro lt rf th sb ++ wR G (ad 1) kd r ++ wR G (ad 2) u_2.1 u_2.2 ++ wR G (ad 3) k2 r2 ++ wK (ad 4)) := hD
    refine hret _ _ _ _ _ _ ((pKy r (ix mi) (mny r)).1) (u_2.1, u_2.2) dX0_ofRest_53 ?_ hP hD hS (Nat.le_of_ble_eq_true rfl) (Nat.le_of_ble_eq_true rfl)
    refine ⟨by rw [eW_0 hw_1], ?_⟩
    exact rfl
set_option maxHeartbeats 4000000 in
set_option maxRecDepth 100000 in
theorem m_of_19 (l : Launch) (hl0 : l.stackTraces = false) (G : xG) (ad : Nat → Nat → Nat) (kd k1 k2 : Nat → Option Nat) (r r1 r2 : Rw) (ho rn ln dr : Int32) (ro lt rf th sb : Nat → Int32) (hr : Ok r) (hp : r 5 3 = 0) (hk : kOk (ad 4) kd r) (mi z0 z1 z2 z3 : Int32) : yCi l G yX0_ofRest cX0_ofRest 7 (some .int) ({ frames := 10, cells := 2, slots := 14, locals := 174 } : Room) [.ref (ad 0 0), .int 19, .int mi, .int z0, .int z1, .int z2, .int z3] (wX G ad ho rn ln dr ro lt rf th sb ++ wR G (ad 1) kd r ++ wR G (ad 2) k1 r1 ++ wR G (ad 3) k2 r2 ++ wK (ad 4)) (S := ((Nat → Option Nat) × Rw)) (SX := Unit) (fun v u => eW (wBy mi.toInt 0 99) 0 = 0 ∧ v = nI (pProp r (ix mi))) (fun u => (wX G ad ho rn ln dr ro lt rf th sb ++ wR G (ad 1) kd r ++ wR G (ad 2) u.1 u.2 ++ wR G (ad 3) k2 r2 ++ wK (ad 4))) (fun n _ => n = eW (wBy mi.toInt 0 99) 0 ∧ eW (wBy mi.toInt 0 99) 0 ≠ 0) (fun _ => (wX G ad ho rn ln dr ro lt rf th sb ++ wR G (ad 1) kd r ++ wR G (ad 2) k1 r1 ++ wR G (ad 3) k2 r2 ++ wK (ad 4))) := by
  refine y_openi (by decide) (Nat.le_of_ble_eq_true rfl) (fun _ _ _ => rfl) ?_
  intro p e s m args below meth c A Q ls C0 hK hZ hP hD hA hl hret hthr
  obtain ⟨hx, hb, hml, hown, hts⟩ := id C0
  have hS : va_S A s.heap s.heap [] := va_S.rf
  have hP : va_P G.1 vwCl (wX G ad ho rn ln dr ro lt rf th sb ++ wR G (ad 1) kd r ++ wR G (ad 2) k1 r1 ++ wR G (ad 3) k2 r2 ++ wK (ad 4)) s.heap := hP
  have hD : va_D A (wX G ad ho rn ln dr ro lt rf th sb ++ wR G (ad 1) kd r ++ wR G (ad 2) k1 r1 ++ wR G (ad 3) k2 r2 ++ wK (ad 4)) := hD
  have hl : lv_has ls 7 [(0, .ref (ad 0 0)), (1, .int 19), (2, .int mi), (3, .int z0), (4, .int z1), (5, .int z2), (6, .int z3)] := hl
  have hr0 := hr.n
  have hN := hr.le
  refine lv_iload_n hx hb dX0_ofRest_0 rfl (lv_at hl 1 rfl) ?_
  refine lv_tableIn (tgt := 54) hx hb dX0_ofRest_1 (by decide) (by decide) rfl (by decide) ?_
  refine lv_iload_n hx hb dX0_ofRest_54 rfl (lv_at hl 2 rfl) ?_
  refine y_Sv (wN := fun _ => (wX G ad ho rn ln dr ro lt rf th sb ++ wR G (ad 1) kd r ++ wR G (ad 2) k1 r1 ++ wR G (ad 3) k2 r2 ++ wK (ad 4))) (wNx := fun u9 => (wX G ad ho rn ln dr ro lt rf th sb ++ wR G (ad 1) kd r ++ wR G (ad 2) k1 r1 ++ wR G (ad 3) k2 r2 ++ wK (ad 4))) ⟨C0, hK, hP, hD, hS, hA⟩ hZ ((m_mustBeMinutes l hl0 G mi)) (va_cwS 1 hts (lw_S q786 q787 q86 q788) rfl rfl rfl (by decide +kernel) ⟨Nat.le_of_ble_eq_true rfl, Nat.le_of_ble_eq_true rfl⟩) [] [0, 2, 4, 6, 8, 10, 12, 14, 16, 18, 20, 22, 24, 26, 28, 30, 32, 34, 36, 38, 40, 42, 44, 46, 48, 50, 52, 54, 56, 58, 60] [0, 2, 4, 6, 8, 10, 12, 14, 16, 18, 20, 22, 24, 26, 28, 30, 32, 34, 36, 38, 40, 42, 44, 46, 48, 50, 52, 54, 56, 58, 60, 1] rfl (fun _ => rfl) (fun _ _ _ => rfl) rfl rfl rfl hl.1 rfl (Nat.le_of_ble_eq_true rfl) dX0_ofRest_55 ⟨(Nat.le_of_ble_eq_true rfl), (Nat.le_of_ble_eq_true rfl)⟩ (fun q9 u9 ee H locs hw_1 hP hD hS => ?_) (fun u_1 H locs hw_1 hP hD hS => ?_)
  · skip
    refine hthr _ _ _ _ _ _ _ q9 () ee ?_ hP hD hS (Nat.le_of_ble_eq_true rfl) (Nat.le_of_ble_eq_true rfl)
    obtain ⟨h8, h9⟩ := hw_1
    have e9 : eW (wBy mi.toInt 0 99) 0 = ee.2.1 := by rw [eW_n h9]; exact h8.symm
    exact ⟨e9.symm, by rw [e9, h8]; exact h9⟩
  · skip
    refine W.widen (k := 2) (n := 14) (Nat.le_of_ble_eq_true rfl) (Nat.le_of_ble_eq_true rfl) ?_
    obtain ⟨hj_mi, et_mi⟩ := wB_ix (n := 99) (by omega) hw_1
    rw [et_mi] at hl
    refine lv_aload_n hx hb dX0_ofRest_58 rfl (lv_at hl 0 rfl) ?_
    refine lv_iload_n hx hb dX0_ofRest_59 rfl (lv_at hl 2 rfl) ?_
    refine x_Vi (wN := fun u_2 => (wX G ad ho rn ln dr ro lt rf th sb ++ wR G (ad 1) kd r ++ wR G (ad 2) u_2.1 u_2.2 ++ wR G (ad 3) k2 r2 ++ wK (ad 4))) ⟨C0, hK, hP, hD, hS, hA⟩ 0 rfl (ci := 0) rfl rfl ((m_fewestProps l G ad kd k1 k2 r r1 r2 ho rn ln dr ro lt rf th sb hr hp hk (ix mi) (by omega))) (cwV 1 hts (lw_V q886 q888 qs42 q86 q889) rfl rfl rfl (by decide +kernel) ⟨Nat.le_of_ble_eq_true rfl, Nat.le_of_ble_eq_true rfl⟩) [0, 1, 2, 3, 4, 5, 6, 7, 8, 9, 10, 11, 12, 13, 14, 15, 16, 17, 18, 19, 20, 21, 22, 23, 24, 25, 26, 27, 28, 29, 30] [1, 3, 5, 7, 9, 11, 13, 15, 17, 19, 21, 23, 25, 27, 29, 31, 33, 35, 37, 39, 41, 43, 45, 47, 49, 51, 53, 55, 57, 59, 61] rfl (fun _ => rfl) rfl rfl hl.1 rfl (Nat.le_of_ble_eq_true rfl) dX0_ofRest_60 ⟨(Nat.le_of_ble_eq_true rfl), (Nat.le_of_ble_eq_true rfl)⟩ (fun r_2 u_2 H locs hw_2 hP hD hS => ?_)
    have hw_2 : (nI (pProp r (ix mi)) : Int32) = r_2 := hw_2.symm
    subst hw_2
    have hP : va_P G.1 vwCl (wX G ad ho rn ln dr ro lt rf th sb ++ wR G (ad 1) kd r ++ wR G (ad 2) u_2.1 u_2.2 ++ wR G (ad 3) k2 r2 ++ wK (ad 4)) H := hP
    have hD : va_D A (wX G ad ho rn ln dr ro lt rf th sb ++ wR G (ad 1) kd r ++ wR G (ad 2) u_2.1 u_2.2 ++ wR G (ad 3) k2 r2 ++ wK (ad 4)) := hD
    refine hret _ _ _ _ _ _ (nI (pProp r (ix mi))) (u_2.1, u_2.2) dX0_ofRest_63 ?_ hP hD hS (Nat.le_of_ble_eq_true rfl) (Nat.le_of_ble_eq_true rfl)
    refine ⟨by rw [eW_0 hw_1], ?_⟩
    exact rfl
set_option maxHeartbeats 4000000 in
set_option maxRecDepth 100000 in
theorem m_of_20 (l : Launch) (hl0 : l.stackTraces = false) (G : xG) (ad : Nat → Nat → Nat) (kd k1 k2 : Nat → Option Nat) (r r1 r2 : Rw) (ho rn ln dr : Int32) (ro lt rf th sb : Nat → Int32) (hr : Ok r) (hp : r 5 3 = 0) (hk : kOk (ad 4) kd r) (x1 x2 x3 sp w : Int32) : yCi l G yX0_ofRest cX0_ofRest 7 (some .int) ({ frames := 11, cells := 7, slots := 49, locals := 208 } : Room) [.ref (ad 0 0), .int 20, .int x1, .int x2, .int x3, .int sp, .int w] (wX G ad ho rn ln dr ro lt rf th sb ++ wR G (ad 1) kd r ++ wR G (ad 2) k1 r1 ++ wR G (ad 3) k2 r2 ++ wK (ad 4)) (S := ((Nat → Option Nat) × Rw)) (SX := Unit) (fun v u => eS (tB r x1) (-1) (eS (tB r x2) (-1) (eS (tB r x3) (-1) (eS (decide (x1 ≠ x2 ∧ x1 ≠ x3 ∧ x2 ≠ x3)) (-1) (eW (wBy sp.toInt 0 9) (eS (inR w 0 1) (-2) 0))))) = 0 ∧ v = pOrd r (x3f x1 x2 x3) sp w) (fun u => (wX G ad ho rn ln dr ro lt rf (upd (upd (upd th 0 x1) 1 x2) 2 x3) sb ++ wR G (ad 1) kd r ++ wR G (ad 2) u.1 u.2 ++ wR G (ad 3) k2 r2 ++ wK (ad 4))) (fun n _ => n = eS (tB r x1) (-1) (eS (tB r x2) (-1) (eS (tB r x3) (-1) (eS (decide (x1 ≠ x2 ∧ x1 ≠ x3 ∧ x2 ≠ x3)) (-1) (eW (wBy sp.toInt 0 9) (eS (inR w 0 1) (-2) 0))))) ∧ eS (tB r x1) (-1) (eS (tB r x2) (-1) (eS (tB r x3) (-1) (eS (decide (x1 ≠ x2 ∧ x1 ≠ x3 ∧ x2 ≠ x3)) (-1) (eW (wBy sp.toInt 0 9) (eS (inR w 0 1) (-2) 0))))) ≠ 0) (fun _ => (wX G ad ho rn ln dr ro lt rf th sb ++ wR G (ad 1) kd r ++ wR G (ad 2) k1 r1 ++ wR G (ad 3) k2 r2 ++ wK (ad 4))) := by
  refine y_openi (by decide) (Nat.le_of_ble_eq_true rfl) (fun _ _ _ => rfl) ?_
  intro p e s m args below meth c A Q ls C0 hK hZ hP hD hA hl hret hthr
  obtain ⟨hx, hb, hml, hown, hts⟩ := id C0
  have hS : va_S A s.heap s.heap [] := va_S.rf
  have hP : va_P G.1 vwCl (wX G ad ho rn ln dr ro lt rf th sb ++ wR G (ad 1) kd r ++ wR G (ad 2) k1 r1 ++ wR G (ad 3) k2 r2 ++ wK (ad 4)) s.heap := hP
  have hD : va_D A (wX G ad ho rn ln dr ro lt rf th sb ++ wR G (ad 1) kd r ++ wR G (ad 2) k1 r1 ++ wR G (ad 3) k2 r2 ++ wK (ad 4)) := hD
  have hl : lv_has ls 7 [(0, .ref (ad 0 0)), (1, .int 20), (2, .int x1), (3, .int x2), (4, .int x3), (5, .int sp), (6, .int w)] := hl
  have hr0 := hr.n
  have hN := hr.le
  refine lv_iload_n hx hb dX0_ofRest_0 rfl (lv_at hl 1 rfl) ?_
  refine lv_tableIn (tgt := 64) hx hb dX0_ofRest_1 (by decide) (by decide) rfl (by decide) ?_
  refine lv_aload_n hx hb dX0_ofRest_64 rfl (lv_at hl 0 rfl) ?_
  refine lv_iload_n hx hb dX0_ofRest_65 rfl (lv_at hl 2 rfl) ?_
  refine lv_iload_n hx hb dX0_ofRest_66 rfl (lv_at hl 3 rfl) ?_
  refine lv_iload hx hb dX0_ofRest_67 (lv_at hl 4 rfl) ?_
  refine lv_iload hx hb dX0_ofRest_69 (lv_at hl 5 rfl) ?_
  refine lv_iload hx hb dX0_ofRest_71 (lv_at hl 6 rfl) ?_
  refine y_Vi (wN := fun u_1 => (wX G ad ho rn ln dr ro lt rf (upd (upd (upd th 0 x1) 1 x2) 2 x3) sb ++ wR G (ad 1) kd r ++ wR G (ad 2) u_1.1 u_1.2 ++ wR G (ad 3) k2 r2 ++ wK (ad 4))) (wNx := fun u9 => (wX G ad ho rn ln dr ro lt rf th sb ++ wR G (ad 1) kd r ++ wR G (ad 2) k1 r1 ++ wR G (ad 3) k2 r2 ++ wK (ad 4))) ⟨C0, hK, hP, hD, hS, hA⟩ hZ 0 rfl (ci := 0) rfl rfl ((m_orderTold l hl0 G ad kd k1 k2 r r1 r2 ho rn ln dr ro lt rf th sb hr hp hk x1 x2 x3 sp w)) (cwV 5 hts (lw_V q890 q892 qs43 q86 q893) rfl rfl rfl (by decide +kernel) ⟨Nat.le_of_ble_eq_true rfl, Nat.le_of_ble_eq_true rfl⟩) [0, 1, 2, 3, 4, 5, 6, 7, 8, 9, 10, 11, 12, 13, 14, 15, 16, 17, 18, 19, 20, 21, 22, 23, 24, 25, 26, 27, 28, 29, 30] [1, 3, 5, 7, 9, 11, 13, 15, 17, 19, 21, 23, 25, 27, 29, 31, 33, 35, 37, 39, 41, 43, 45, 47, 49, 51, 53, 55, 57, 59, 61] [1, 3, 5, 7, 9, 11, 13, 15, 17, 19, 21, 23, 25, 27, 29, 31, 33, 35, 37, 39, 41, 43, 45, 47, 49, 51, 53, 55, 57, 59, 61, 63] rfl (fun _ => rfl) (fun _ _ _ => rfl) rfl rfl rfl hl.1 rfl (Nat.le_of_ble_eq_true rfl) dX0_ofRest_73 ⟨(Nat.le_of_ble_eq_true rfl), (Nat.le_of_ble_eq_true rfl)⟩ (fun q9 u9 ee H locs hw_1 hP hD hS => ?_) (fun r_1 u_1 H locs hw_1 hP hD hS => ?_)
  · skip
    refine hthr _ _ _ _ _ _ _ q9 () ee ?_ hP hD hS (Nat.le_of_ble_eq_true rfl) (Nat.le_of_ble_eq_true rfl)
    exact hw_1
  · skip
    obtain ⟨hz_1, hw_1⟩ := hw_1
    have hw_1 : (pOrd r (x3f x1 x2 x3) sp w : Int32) = r_1 := hw_1.symm
    subst hw_1
    have hP : va_P G.1 vwCl (wX G ad ho rn ln dr ro lt rf (upd (upd (upd th 0 x1) 1 x2) 2 x3) sb ++ wR G (ad 1) kd r ++ wR G (ad 2) u_1.1 u_1.2 ++ wR G (ad 3) k2 r2 ++ wK (ad 4)) H := hP
    have hD : va_D A (wX G ad ho rn ln dr ro lt rf (upd (upd (upd th 0 x1) 1 x2) 2 x3) sb ++ wR G (ad 1) kd r ++ wR G (ad 2) u_1.1 u_1.2 ++ wR G (ad 3) k2 r2 ++ wK (ad 4)) := hD
    refine W.widen (k := 7) (n := 49) (Nat.le_of_ble_eq_true rfl) (Nat.le_of_ble_eq_true rfl) ?_
    refine hret _ _ _ _ _ _ (pOrd r (x3f x1 x2 x3) sp w) (u_1.1, u_1.2) dX0_ofRest_76 ?_ hP hD hS (Nat.le_of_ble_eq_true rfl) (Nat.le_of_ble_eq_true rfl)
    exact ⟨hz_1, rfl⟩
set_option maxHeartbeats 4000000 in
set_option maxRecDepth 100000 in
theorem m_of_21 (l : Launch) (hl0 : l.stackTraces = false) (G : xG) (ad : Nat → Nat → Nat) (kd k1 k2 : Nat → Option Nat) (r r1 r2 : Rw) (ho rn ln dr : Int32) (ro lt rf th sb : Nat → Int32) (hr : Ok r) (hp : r 5 3 = 0) (hk : kOk (ad 4) kd r) (sp z0 z1 z2 z3 : Int32) : yCi l G yX0_ofRest cX0_ofRest 7 (some .int) ({ frames := 11, cells := 2, slots := 14, locals := 195 } : Room) [.ref (ad 0 0), .int 21, .int sp, .int z0, .int z1, .int z2, .int z3] (wX G ad ho rn ln dr ro lt rf th sb ++ wR G (ad 1) kd r ++ wR G (ad 2) k1 r1 ++ wR G (ad 3) k2 r2 ++ wK (ad 4)) (S := ((Nat → Option Nat) × Rw)) (SX := Unit) (fun v u => eW (wBy sp.toInt 0 9) 0 = 0 ∧ v = pFlo r sp) (fun u => (wX G ad ho rn ln dr ro lt rf th sb ++ wR G (ad 1) kd r ++ wR G (ad 2) u.1 u.2 ++ wR G (ad 3) k2 r2 ++ wK (ad 4))) (fun n _ => n = eW (wBy sp.toInt 0 9) 0 ∧ eW (wBy sp.toInt 0 9) 0 ≠ 0) (fun _ => (wX G ad ho rn ln dr ro lt rf th sb ++ wR G (ad 1) kd r ++ wR G (ad 2) k1 r1 ++ wR G (ad 3) k2 r2 ++ wK (ad 4))) := by
  refine y_openi (by decide) (Nat.le_of_ble_eq_true rfl) (fun _ _ _ => rfl) ?_
  intro p e s m args below meth c A Q ls C0 hK hZ hP hD hA hl hret hthr
  obtain ⟨hx, hb, hml, hown, hts⟩ := id C0
  have hS : va_S A s.heap s.heap [] := va_S.rf
  have hP : va_P G.1 vwCl (wX G ad ho rn ln dr ro lt rf th sb ++ wR G (ad 1) kd r ++ wR G (ad 2) k1 r1 ++ wR G (ad 3) k2 r2 ++ wK (ad 4)) s.heap := hP
  have hD : va_D A (wX G ad ho rn ln dr ro lt rf th sb ++ wR G (ad 1) kd r ++ wR G (ad 2) k1 r1 ++ wR G (ad 3) k2 r2 ++ wK (ad 4)) := hD
  have hl : lv_has ls 7 [(0, .ref (ad 0 0)), (1, .int 21), (2, .int sp), (3, .int z0), (4, .int z1), (5, .int z2), (6, .int z3)] := hl
  have hr0 := hr.n
  have hN := hr.le
  refine lv_iload_n hx hb dX0_ofRest_0 rfl (lv_at hl 1 rfl) ?_
  refine lv_tableIn (tgt := 77) hx hb dX0_ofRest_1 (by decide) (by decide) rfl (by decide) ?_
  refine lv_aload_n hx hb dX0_ofRest_77 rfl (lv_at hl 0 rfl) ?_
  refine lv_iload_n hx hb dX0_ofRest_78 rfl (lv_at hl 2 rfl) ?_
  refine y_Vi (wN := fun u_1 => (wX G ad ho rn ln dr ro lt rf th sb ++ wR G (ad 1) kd r ++ wR G (ad 2) u_1.1 u_1.2 ++ wR G (ad 3) k2 r2 ++ wK (ad 4))) (wNx := fun u9 => (wX G ad ho rn ln dr ro lt rf th sb ++ wR G (ad 1) kd r ++ wR G (ad 2) k1 r1 ++ wR G (ad 3) k2 r2 ++ wK (ad 4))) ⟨C0, hK, hP, hD, hS, hA⟩ hZ 0 rfl (ci := 0) rfl rfl ((m_floorTold l hl0 G ad kd k1 k2 r r1 r2 ho rn ln dr ro lt rf th sb hr hp hk sp)) (cwV 1 hts (lw_V q906 q908 qs46 q86 q909) rfl rfl rfl (by decide +kernel) ⟨Nat.le_of_ble_eq_true rfl, Nat.le_of_ble_eq_true rfl⟩) [0, 1, 2, 3, 4, 5, 6, 7, 8, 9, 10, 11, 12, 13, 14, 15, 16, 17, 18, 19, 20, 21, 22, 23, 24, 25, 26, 27, 28, 29, 30] [1, 3, 5, 7, 9, 11, 13, 15, 17, 19, 21, 23, 25, 27, 29, 31, 33, 35, 37, 39, 41, 43, 45, 47, 49, 51, 53, 55, 57, 59, 61] [1, 3, 5, 7, 9, 11, 13, 15, 17, 19, 21, 23, 25, 27, 29, 31, 33, 35, 37, 39, 41, 43, 45, 47, 49, 51, 53, 55, 57, 59, 61, 63] rfl (fun _ => rfl) (fun _ _ _ => rfl) rfl rfl rfl hl.1 rfl (Nat.le_of_ble_eq_true rfl) dX0_ofRest_79 ⟨(Nat.le_of_ble_eq_true rfl), (Nat.le_of_ble_eq_true rfl)⟩ (fun q9 u9 ee H locs hw_1 hP hD hS => ?_) (fun r_1 u_1 H locs hw_1 hP hD hS => ?_)
  · skip
    refine hthr _ _ _ _ _ _ _ q9 () ee ?_ hP hD hS (Nat.le_of_ble_eq_true rfl) (Nat.le_of_ble_eq_true rfl)
    exact hw_1
  · skip
    obtain ⟨hz_1, hw_1⟩ := hw_1
    have hw_1 : (pFlo r sp : Int32) = r_1 := hw_1.symm
    subst hw_1
    have hP : va_P G.1 vwCl (wX G ad ho rn ln dr ro lt rf th sb ++ wR G (ad 1) kd r ++ wR G (ad 2) u_1.1 u_1.2 ++ wR G (ad 3) k2 r2 ++ wK (ad 4)) H := hP
    have hD : va_D A (wX G ad ho rn ln dr ro lt rf th sb ++ wR G (ad 1) kd r ++ wR G (ad 2) u_1.1 u_1.2 ++ wR G (ad 3) k2 r2 ++ wK (ad 4)) := hD
    refine W.widen (k := 2) (n := 14) (Nat.le_of_ble_eq_true rfl) (Nat.le_of_ble_eq_true rfl) ?_
    refine hret _ _ _ _ _ _ (pFlo r sp) (u_1.1, u_1.2) dX0_ofRest_82 ?_ hP hD hS (Nat.le_of_ble_eq_true rfl) (Nat.le_of_ble_eq_true rfl)
    exact ⟨hz_1, rfl⟩
set_option maxHeartbeats 4000000 in
set_option maxRecDepth 100000 in
theorem m_of_22 (l : Launch) (hl0 : l.stackTraces = false) (G : xG) (ad : Nat → Nat → Nat) (kd k1 k2 : Nat → Option Nat) (r r1 r2 : Rw) (ho rn ln dr : Int32) (ro lt rf th sb : Nat → Int32) (hr : Ok r) (hp : r 5 3 = 0) (hk : kOk (ad 4) kd r) (w z0 z1 z2 z3 : Int32) : yCi l G yX0_ofRest cX0_ofRest 7 (some .int) ({ frames := 10, cells := 1, slots := 7, locals := 170 } : Room) [.ref (ad 0 0), .int 22, .int w, .int z0, .int z1, .int z2, .int z3] (wX G ad ho rn ln dr ro lt rf th sb ++ wR G (ad 1) kd r ++ wR G (ad 2) k1 r1 ++ wR G (ad 3) k2 r2 ++ wK (ad 4)) (S := Unit) (SX := Unit) (fun v _ => eS (inR w 0 1) (-2) 0 = 0 ∧ v = pWat r w) (fun _ => (wX G ad ho rn ln dr ro lt rf th sb ++ wR G (ad 1) kd r ++ wR G (ad 2) k1 r1 ++ wR G (ad 3) k2 r2 ++ wK (ad 4))) (fun n _ => n = eS (inR w 0 1) (-2) 0 ∧ eS (inR w 0 1) (-2) 0 ≠ 0) (fun _ => (wX G ad ho rn ln dr ro lt rf th sb ++ wR G (ad 1) kd r ++ wR G (ad 2) k1 r1 ++ wR G (ad 3) k2 r2 ++ wK (ad 4))) := by
  refine y_openi (by decide) (Nat.le_of_ble_eq_true rfl) (fun _ _ _ => rfl) ?_
  intro p e s m args below meth c A Q ls C0 hK hZ hP hD hA hl hret hthr
  obtain ⟨hx, hb, hml, hown, hts⟩ := id C0
  have hS : va_S A s.heap s.heap [] := va_S.rf
  have hP : va_P G.1 vwCl (wX G ad ho rn ln dr ro lt rf th sb ++ wR G (ad 1) kd r ++ wR G (ad 2) k1 r1 ++ wR G (ad 3) k2 r2 ++ wK (ad 4)) s.heap := hP
  have hD : va_D A (wX G ad ho rn ln dr ro lt rf th sb ++ wR G (ad 1) kd r ++ wR G (ad 2) k1 r1 ++ wR G (ad 3) k2 r2 ++ wK (ad 4)) := hD
  have hl : lv_has ls 7 [(0, .ref (ad 0 0)), (1, .int 22), (2, .int w), (3, .int z0), (4, .int z1), (5, .int z2), (6, .int z3)] := hl
  have hr0 := hr.n
  have hN := hr.le
  refine lv_iload_n hx hb dX0_ofRest_0 rfl (lv_at hl 1 rfl) ?_
  refine lv_tableIn (tgt := 83) hx hb dX0_ofRest_1 (by decide) (by decide) rfl (by decide) ?_
  refine lv_aload_n hx hb dX0_ofRest_83 rfl (lv_at hl 0 rfl) ?_
  refine lv_iload_n hx hb dX0_ofRest_84 rfl (lv_at hl 2 rfl) ?_
  refine y_Vi (wN := fun _ => (wX G ad ho rn ln dr ro lt rf th sb ++ wR G (ad 1) kd r ++ wR G (ad 2) k1 r1 ++ wR G (ad 3) k2 r2 ++ wK (ad 4))) (wNx := fun u9 => (wX G ad ho rn ln dr ro lt rf th sb ++ wR G (ad 1) kd r ++ wR G (ad 2) k1 r1 ++ wR G (ad 3) k2 r2 ++ wK (ad 4))) ⟨C0, hK, hP, hD, hS, hA⟩ hZ 0 rfl (ci := 0) rfl rfl ((m_watchedTold l hl0 G ad kd k1 k2 r r1 r2 ho rn ln dr ro lt rf th sb hr hp hk w)) (cwV 1 hts (lw_V q910 q912 qs47 q86 q913) rfl rfl rfl (by decide +kernel) ⟨Nat.le_of_ble_eq_true rfl, Nat.le_of_ble_eq_true rfl⟩) [0, 1, 2, 3, 4, 5, 6, 7, 8, 9, 10, 11, 12, 13, 14, 15, 16, 17, 18, 19, 20, 21, 22, 23, 24, 25, 26, 27, 28, 29, 30] [1, 3, 5, 7, 9, 11, 13, 15, 17, 19, 21, 23, 25, 27, 29, 31, 33, 35, 37, 39, 41, 43, 45, 47, 49, 51, 53, 55, 57, 59, 61] [1, 3, 5, 7, 9, 11, 13, 15, 17, 19, 21, 23, 25, 27, 29, 31, 33, 35, 37, 39, 41, 43, 45, 47, 49, 51, 53, 55, 57, 59, 61, 63] rfl (fun _ => rfl) (fun _ _ _ => rfl) rfl rfl rfl hl.1 rfl (Nat.le_of_ble_eq_true rfl) dX0_ofRest_85 ⟨(Nat.le_of_ble_eq_true rfl), (Nat.le_of_ble_eq_true rfl)⟩ (fun q9 u9 ee H locs hw_1 hP hD hS => ?_) (fun r_1 u_1 H locs hw_1 hP hD hS => ?_)
  · skip
    refine hthr _ _ _ _ _ _ _ q9 () ee ?_ hP hD hS (Nat.le_of_ble_eq_true rfl) (Nat.le_of_ble_eq_true rfl)
    exact hw_1
  · skip
    obtain ⟨hz_1, hw_1⟩ := hw_1
    have hw_1 : (pWat r w : Int32) = r_1 := hw_1.symm
    subst hw_1
    refine W.widen (k := 1) (n := 7) (Nat.le_of_ble_eq_true rfl) (Nat.le_of_ble_eq_true rfl) ?_
    refine hret _ _ _ _ _ _ (pWat r w) () dX0_ofRest_88 ?_ hP hD hS (Nat.le_of_ble_eq_true rfl) (Nat.le_of_ble_eq_true rfl)
    exact ⟨hz_1, rfl⟩
set_option maxHeartbeats 4000000 in
set_option maxRecDepth 100000 in
theorem m_of_23 (l : Launch) (hl0 : l.stackTraces = false) (G : xG) (ad : Nat → Nat → Nat) (kd k1 k2 : Nat → Option Nat) (r r1 r2 : Rw) (ho rn ln dr : Int32) (ro lt rf th sb : Nat → Int32) (hr : Ok r) (hp : r 5 3 = 0) (hk : kOk (ad 4) kd r) (t z0 z1 z2 z3 : Int32) : yCi l G yX0_ofRest cX0_ofRest 7 (some .int) ({ frames := 9, cells := 1, slots := 7, locals := 149 } : Room) [.ref (ad 0 0), .int 23, .int t, .int z0, .int z1, .int z2, .int z3] (wX G ad ho rn ln dr ro lt rf th sb ++ wR G (ad 1) kd r ++ wR G (ad 2) k1 r1 ++ wR G (ad 3) k2 r2 ++ wK (ad 4)) (S := ((Nat → Option Nat) × Rw)) (SX := Unit) (fun v u => eS (inR t 0 1) (-2) 0 = 0 ∧ v = pReb r t) (fun u => (wX G ad ho rn ln dr ro lt rf th sb ++ wR G (ad 1) kd r ++ wR G (ad 2) u.1 u.2 ++ wR G (ad 3) k2 r2 ++ wK (ad 4))) (fun n _ => n = eS (inR t 0 1) (-2) 0 ∧ eS (inR t 0 1) (-2) 0 ≠ 0) (fun _ => (wX G ad ho rn ln dr ro lt rf th sb ++ wR G (ad 1) kd r ++ wR G (ad 2) k1 r1 ++ wR G (ad 3) k2 r2 ++ wK (ad 4))) := by
  refine y_openi (by decide) (Nat.le_of_ble_eq_true rfl) (fun _ _ _ => rfl) ?_
  intro p e s m args below meth c A Q ls C0 hK hZ hP hD hA hl hret hthr
  obtain ⟨hx, hb, hml, hown, hts⟩ := id C0
  have hS : va_S A s.heap s.heap [] := va_S.rf
  have hP : va_P G.1 vwCl (wX G ad ho rn ln dr ro lt rf th sb ++ wR G (ad 1) kd r ++ wR G (ad 2) k1 r1 ++ wR G (ad 3) k2 r2 ++ wK (ad 4)) s.heap := hP
  have hD : va_D A (wX G ad ho rn ln dr ro lt rf th sb ++ wR G (ad 1) kd r ++ wR G (ad 2) k1 r1 ++ wR G (ad 3) k2 r2 ++ wK (ad 4)) := hD
  have hl : lv_has ls 7 [(0, .ref (ad 0 0)), (1, .int 23), (2, .int t), (3, .int z0), (4, .int z1), (5, .int z2), (6, .int z3)] := hl
  have hr0 := hr.n
  have hN := hr.le
  refine lv_iload_n hx hb dX0_ofRest_0 rfl (lv_at hl 1 rfl) ?_
  refine lv_tableIn (tgt := 89) hx hb dX0_ofRest_1 (by decide) (by decide) rfl (by decide) ?_
  refine lv_iload_n hx hb dX0_ofRest_89 rfl (lv_at hl 2 rfl) ?_
  refine y_Sv (wN := fun _ => (wX G ad ho rn ln dr ro lt rf th sb ++ wR G (ad 1) kd r ++ wR G (ad 2) k1 r1 ++ wR G (ad 3) k2 r2 ++ wK (ad 4))) (wNx := fun u9 => (wX G ad ho rn ln dr ro lt rf th sb ++ wR G (ad 1) kd r ++ wR G (ad 2) k1 r1 ++ wR G (ad 3) k2 r2 ++ wK (ad 4))) ⟨C0, hK, hP, hD, hS, hA⟩ hZ ((m_mustBeBit l hl0 G t)) (va_cwS 1 hts (lw_S q808 q809 q86 q810) rfl rfl rfl (by decide +kernel) ⟨Nat.le_of_ble_eq_true rfl, Nat.le_of_ble_eq_true rfl⟩) [] [0, 2, 4, 6, 8, 10, 12, 14, 16, 18, 20, 22, 24, 26, 28, 30, 32, 34, 36, 38, 40, 42, 44, 46, 48, 50, 52, 54, 56, 58, 60] [0, 2, 4, 6, 8, 10, 12, 14, 16, 18, 20, 22, 24, 26, 28, 30, 32, 34, 36, 38, 40, 42, 44, 46, 48, 50, 52, 54, 56, 58, 60, 1] rfl (fun _ => rfl) (fun _ _ _ => rfl) rfl rfl rfl hl.1 rfl (Nat.le_of_ble_eq_true rfl) dX0_ofRest_90 ⟨(Nat.le_of_ble_eq_true rfl), (Nat.le_of_ble_eq_true rfl)⟩ (fun q9 u9 ee H locs hw_1 hP hD hS => ?_) (fun u_1 H locs hw_1 hP hD hS => ?_)
  · skip
    refine hthr _ _ _ _ _ _ _ q9 () ee ?_ hP hD hS (Nat.le_of_ble_eq_true rfl) (Nat.le_of_ble_eq_true rfl)
    obtain ⟨h8, h9⟩ := hw_1
    have e9 : eS (inR t 0 1) (-2) 0 = ee.2.1 := by rw [eS_f h8]; exact h9.symm
    exact ⟨e9.symm, by rw [e9, h9]; decide⟩
  · skip
    refine W.widen (k := 1) (n := 7) (Nat.le_of_ble_eq_true rfl) (Nat.le_of_ble_eq_true rfl) ?_
    refine lv_aload_n hx hb dX0_ofRest_93 rfl (lv_at hl 0 rfl) ?_
    refine lv_iload_n hx hb dX0_ofRest_94 rfl (lv_at hl 2 rfl) ?_
    refine x_Vi (wN := fun u_2 => (wX G ad ho rn ln dr ro lt rf th sb ++ wR G (ad 1) kd r ++ wR G (ad 2) u_2.1 u_2.2 ++ wR G (ad 3) k2 r2 ++ wK (ad 4))) ⟨C0, hK, hP, hD, hS, hA⟩ 0 rfl (ci := 0) rfl rfl ((m_rebuilt l G ad kd k1 k2 r r1 r2 ho rn ln dr ro lt rf th sb hr hp hk t)) (cwV 1 hts (lw_V q937 q939 qs50 q86 q940) rfl rfl rfl (by decide +kernel) ⟨Nat.le_of_ble_eq_true rfl, Nat.le_of_ble_eq_true rfl⟩) [0, 1, 2, 3, 4, 5, 6, 7, 8, 9, 10, 11, 12, 13, 14, 15, 16, 17, 18, 19, 20, 21, 22, 23, 24, 25, 26, 27, 28, 29, 30] [1, 3, 5, 7, 9, 11, 13, 15, 17, 19, 21, 23, 25, 27, 29, 31, 33, 35, 37, 39, 41, 43, 45, 47, 49, 51, 53, 55, 57, 59, 61] rfl (fun _ => rfl) rfl rfl hl.1 rfl (Nat.le_of_ble_eq_true rfl) dX0_ofRest_95 ⟨(Nat.le_of_ble_eq_true rfl), (Nat.le_of_ble_eq_true rfl)⟩ (fun r_2 u_2 H locs hw_2 hP hD hS => ?_)
    have hw_2 : (pReb r t : Int32) = r_2 := hw_2.symm
    subst hw_2
    have hP : va_P G.1 vwCl (wX G ad ho rn ln dr ro lt rf th sb ++ wR G (ad 1) kd r ++ wR G (ad 2) u_2.1 u_2.2 ++ wR G (ad 3) k2 r2 ++ wK (ad 4)) H := hP
    have hD : va_D A (wX G ad ho rn ln dr ro lt rf th sb ++ wR G (ad 1) kd r ++ wR G (ad 2) u_2.1 u_2.2 ++ wR G (ad 3) k2 r2 ++ wK (ad 4)) := hD
    refine hret _ _ _ _ _ _ (pReb r t) (u_2.1, u_2.2) dX0_ofRest_98 ?_ hP hD hS (Nat.le_of_ble_eq_true rfl) (Nat.le_of_ble_eq_true rfl)
    refine ⟨by rw [eS_t hw_1], ?_⟩
    exact rfl
set_option maxHeartbeats 4000000 in
set_option maxRecDepth 100000 in
theorem m_of_24 (l : Launch) (hl0 : l.stackTraces = false) (G : xG) (ad : Nat → Nat → Nat) (kd k1 k2 : Nat → Option Nat) (r r1 r2 : Rw) (ho rn ln dr : Int32) (ro lt rf th sb : Nat → Int32) (hr : Ok r) (hp : r 5 3 = 0) (hk : kOk (ad 4) kd r) (t t2 mi z0 z1 : Int32) : yCi l G yX0_ofRest cX0_ofRest 7 (some .int) ({ frames := 11, cells := 5, slots := 35, locals := 197 } : Room) [.ref (ad 0 0), .int 24, .int t, .int t2, .int mi, .int z0, .int z1] (wX G ad ho rn ln dr ro lt rf th sb ++ wR G (ad 1) kd r ++ wR G (ad 2) k1 r1 ++ wR G (ad 3) k2 r2 ++ wK (ad 4)) (S := (((Nat → Option Nat) × Rw) × (Nat → Int32))) (SX := Unit) (fun v u => eS (tB r t) (-1) (eS (tB r t2) (-1) (eS (decide (t ≠ t2)) (-1) (eW (wBy mi.toInt 0 99) 0))) = 0 ∧ v = pTwo r (ix t) (ix t2) (ix mi)) (fun u => (wX G ad ho rn ln dr ro lt rf th u.2 ++ wR G (ad 1) kd r ++ wR G (ad 2) u.1.1 u.1.2 ++ wR G (ad 3) k2 r2 ++ wK (ad 4))) (fun n _ => n = eS (tB r t) (-1) (eS (tB r t2) (-1) (eS (decide (t ≠ t2)) (-1) (eW (wBy mi.toInt 0 99) 0))) ∧ eS (tB r t) (-1) (eS (tB r t2) (-1) (eS (decide (t ≠ t2)) (-1) (eW (wBy mi.toInt 0 99) 0))) ≠ 0) (fun _ => (wX G ad ho rn ln dr ro lt rf th sb ++ wR G (ad 1) kd r ++ wR G (ad 2) k1 r1 ++ wR G (ad 3) k2 r2 ++ wK (ad 4))) := by
  refine y_openi (by decide) (Nat.le_of_ble_eq_true rfl) (fun _ _ _ => rfl) ?_
  intro p e s m args below meth c A Q ls C0 hK hZ hP hD hA hl hret hthr
  obtain ⟨hx, hb, hml, hown, hts⟩ := id C0
  have hS : va_S A s.heap s.heap [] := va_S.rf
  have hP : va_P G.1 vwCl (wX G ad ho rn ln dr ro lt rf th sb ++ wR G (ad 1) kd r ++ wR G (ad 2) k1 r1 ++ wR G (ad 3) k2 r2 ++ wK (ad 4)) s.heap := hP
  have hD : va_D A (wX G ad ho rn ln dr ro lt rf th sb ++ wR G (ad 1) kd r ++ wR G (ad 2) k1 r1 ++ wR G (ad 3) k2 r2 ++ wK (ad 4)) := hD
  have hl : lv_has ls 7 [(0, .ref (ad 0 0)), (1, .int 24), (2, .int t), (3, .int t2), (4, .int mi), (5, .int z0), (6, .int z1)] := hl
  have hr0 := hr.n
  have hN := hr.le
  refine lv_iload_n hx hb dX0_ofRest_0 rfl (lv_at hl 1 rfl) ?_
  refine lv_tableIn (tgt := 99) hx hb dX0_ofRest_1 (by decide) (by decide) rfl (by decide) ?_
  refine lv_aload_n hx hb dX0_ofRest_99 rfl (lv_at hl 0 rfl) ?_
  refine lv_iload_n hx hb dX0_ofRest_100 rfl (lv_at hl 2 rfl) ?_
  refine lv_iload_n hx hb dX0_ofRest_101 rfl (lv_at hl 3 rfl) ?_
  refine lv_iload hx hb dX0_ofRest_102 (lv_at hl 4 rfl) ?_
  refine y_Vi (wN := fun u_1 => (wX G ad ho rn ln dr ro lt rf th u_1.2 ++ wR G (ad 1) kd r ++ wR G (ad 2) u_1.1.1 u_1.1.2 ++ wR G (ad 3) k2 r2 ++ wK (ad 4))) (wNx := fun u9 => (wX G ad ho rn ln dr ro lt rf th sb ++ wR G (ad 1) kd r ++ wR G (ad 2) k1 r1 ++ wR G (ad 3) k2 r2 ++ wK (ad 4))) ⟨C0, hK, hP, hD, hS, hA⟩ hZ 0 rfl (ci := 0) rfl rfl ((m_twoTold l hl0 G ad kd k1 k2 r r1 r2 ho rn ln dr ro lt rf th sb hr hp hk t t2 mi)) (cwV 3 hts (lw_V q946 q948 qs52 q86 q949) rfl rfl rfl (by decide +kernel) ⟨Nat.le_of_ble_eq_true rfl, Nat.le_of_ble_eq_true rfl⟩) [0, 1, 2, 3, 4, 5, 6, 7, 8, 9, 10, 11, 12, 13, 14, 15, 16, 17, 18, 19, 20, 21, 22, 23, 24, 25, 26, 27, 28, 29, 30] [1, 3, 5, 7, 9, 11, 13, 15, 17, 19, 21, 23, 25, 27, 29, 31, 33, 35, 37, 39, 41, 43, 45, 47, 49, 51, 53, 55, 57, 59, 61] [1, 3, 5, 7, 9, 11, 13, 15, 17, 19, 21, 23, 25, 27, 29, 31, 33, 35, 37, 39, 41, 43, 45, 47, 49, 51, 53, 55, 57, 59, 61, 63] rfl (fun _ => rfl) (fun _ _ _ => rfl) rfl rfl rfl hl.1 rfl (Nat.le_of_ble_eq_true rfl) dX0_ofRest_104 ⟨(Nat.le_of_ble_eq_true rfl), (Nat.le_of_ble_eq_true rfl)⟩ (fun q9 u9 ee H locs hw_1 hP hD hS => ?_) (fun r_1 u_1 H locs hw_1 hP hD hS => ?_)
  · skip
    refine hthr _ _ _ _ _ _ _ q9 () ee ?_ hP hD hS (Nat.le_of_ble_eq_true rfl) (Nat.le_of_ble_eq_true rfl)
    exact hw_1
  · skip
    obtain ⟨hz_1, hw_1⟩ := hw_1
    have hw_1 : (pTwo r (ix t) (ix t2) (ix mi) : Int32) = r_1 := hw_1.symm
    subst hw_1
    have hP : va_P G.1 vwCl (wX G ad ho rn ln dr ro lt rf th u_1.2 ++ wR G (ad 1) kd r ++ wR G (ad 2) u_1.1.1 u_1.1.2 ++ wR G (ad 3) k2 r2 ++ wK (ad 4)) H := hP
    have hD : va_D A (wX G ad ho rn ln dr ro lt rf th u_1.2 ++ wR G (ad 1) kd r ++ wR G (ad 2) u_1.1.1 u_1.1.2 ++ wR G (ad 3) k2 r2 ++ wK (ad 4)) := hD
    refine W.widen (k := 5) (n := 35) (Nat.le_of_ble_eq_true rfl) (Nat.le_of_ble_eq_true rfl) ?_
    refine hret _ _ _ _ _ _ (pTwo r (ix t) (ix t2) (ix mi)) ((u_1.1.1, u_1.1.2), u_1.2) dX0_ofRest_107 ?_ hP hD hS (Nat.le_of_ble_eq_true rfl) (Nat.le_of_ble_eq_true rfl)
    exact ⟨hz_1, rfl⟩
set_option maxHeartbeats 4000000 in
set_option maxRecDepth 100000 in
theorem m_of_25 (l : Launch) (hl0 : l.stackTraces = false) (G : xG) (ad : Nat → Nat → Nat) (kd k1 k2 : Nat → Option Nat) (r r1 r2 : Rw) (ho rn ln dr : Int32) (ro lt rf th sb : Nat → Int32) (hr : Ok r) (hp : r 5 3 = 0) (hk : kOk (ad 4) kd r) (t w z0 : Int32) : yCi l G yX0_ofLast cX0_ofLast 6 (some .int) ({ frames := 11, cells := 13, slots := 121, locals := 193 } : Room) [.ref (ad 0 0), .int 25, .int t, .int w, .int z0] (wX G ad ho rn ln dr ro lt rf th sb ++ wR G (ad 1) kd r ++ wR G (ad 2) k1 r1 ++ wR G (ad 3) k2 r2 ++ wK (ad 4)) (S := ((Nat → Option Nat) × Rw)) (SX := Unit) (fun v u => eS (tB r t) (-1) (eS (inR w 0 1) (-2) (eS (decide (rn = nI (mny r))) (-3) 0)) = 0 ∧ v = pFits r ro (ix t) w) (fun u => (wX G ad ho rn ln dr ro lt rf th sb ++ wR G (ad 1) kd r ++ wR G (ad 2) u.1 u.2 ++ wR G (ad 3) k2 r2 ++ wK (ad 4))) (fun n _ => n = eS (tB r t) (-1) (eS (inR w 0 1) (-2) (eS (decide (rn = nI (mny r))) (-3) 0)) ∧ eS (tB r t) (-1) (eS (inR w 0 1) (-2) (eS (decide (rn = nI (mny r))) (-3) 0)) ≠ 0) (fun _ => (wX G ad ho rn ln dr ro lt rf th sb ++ wR G (ad 1) kd r ++ wR G (ad 2) k1 r1 ++ wR G (ad 3) k2 r2 ++ wK (ad 4))) := by
  refine y_openi (by decide) (Nat.le_of_ble_eq_true rfl) (fun _ _ _ => rfl) ?_
  intro p e s m args below meth c A Q ls C0 hK hZ hP hD hA hl hret hthr
  obtain ⟨hx, hb, hml, hown, hts⟩ := id C0
  have hS : va_S A s.heap s.heap [] := va_S.rf
  have hP : va_P G.1 vwCl (wX G ad ho rn ln dr ro lt rf th sb ++ wR G (ad 1) kd r ++ wR G (ad 2) k1 r1 ++ wR G (ad 3) k2 r2 ++ wK (ad 4)) s.heap := hP
  have hD : va_D A (wX G ad ho rn ln dr ro lt rf th sb ++ wR G (ad 1) kd r ++ wR G (ad 2) k1 r1 ++ wR G (ad 3) k2 r2 ++ wK (ad 4)) := hD
  have hl : lv_has ls 6 [(0, .ref (ad 0 0)), (1, .int 25), (2, .int t), (3, .int w), (4, .int z0)] := hl
  have hr0 := hr.n
  have hN := hr.le
  refine lv_iload_n hx hb dX0_ofLast_0 rfl (lv_at hl 1 rfl) ?_
  refine lv_tableIn (tgt := 40) hx hb dX0_ofLast_1 (by decide) (by decide) rfl (by decide) ?_
  refine lv_aload_n hx hb dX0_ofLast_40 rfl (lv_at hl 0 rfl) ?_
  refine lv_iload_n hx hb dX0_ofLast_41 rfl (lv_at hl 2 rfl) ?_
  refine lv_iload_n hx hb dX0_ofLast_42 rfl (lv_at hl 3 rfl) ?_
  refine y_Vi (wN := fun u_1 => (wX G ad ho rn ln dr ro lt rf th sb ++ wR G (ad 1) kd r ++ wR G (ad 2) u_1.1 u_1.2 ++ wR G (ad 3) k2 r2 ++ wK (ad 4))) (wNx := fun u9 => (wX G ad ho rn ln dr ro lt rf th sb ++ wR G (ad 1) kd r ++ wR G (ad 2) k1 r1 ++ wR G (ad 3) k2 r2 ++ wK (ad 4))) ⟨C0, hK, hP, hD, hS, hA⟩ hZ 0 rfl (ci := 0) rfl rfl ((m_whatTold l hl0 G ad kd k1 k2 r r1 r2 ho rn ln dr ro lt rf th sb hr hp hk t w)) (cwV 2 hts (lw_V q958 q960 qs55 q86 q961) rfl rfl rfl (by decide +kernel) ⟨Nat.le_of_ble_eq_true rfl, Nat.le_of_ble_eq_true rfl⟩) [0, 1, 2, 3, 4, 5, 6, 7, 8, 9, 10, 11, 12, 13, 14, 15, 16, 17, 18, 19, 20, 21, 22, 23, 24, 25, 26, 27, 28, 29, 30] [1, 3, 5, 7, 9, 11, 13, 15, 17, 19, 21, 23, 25, 27, 29, 31, 33, 35, 37, 39, 41, 43, 45, 47, 49, 51, 53, 55, 57, 59, 61] [1, 3, 5, 7, 9, 11, 13, 15, 17, 19, 21, 23, 25, 27, 29, 31, 33, 35, 37, 39, 41, 43, 45, 47, 49, 51, 53, 55, 57, 59, 61, 63] rfl (fun _ => rfl) (fun _ _ _ => rfl) rfl rfl rfl hl.1 rfl (Nat.le_of_ble_eq_true rfl) dX0_ofLast_43 ⟨(Nat.le_of_ble_eq_true rfl), (Nat.le_of_ble_eq_true rfl)⟩ (fun q9 u9 ee H locs hw_1 hP hD hS => ?_) (fun r_1 u_1 H locs hw_1 hP hD hS => ?_)
  · skip
    refine hthr _ _ _ _ _ _ _ q9 () ee ?_ hP hD hS (Nat.le_of_ble_eq_true rfl) (Nat.le_of_ble_eq_true rfl)
    exact hw_1
  · skip
    obtain ⟨hz_1, hw_1⟩ := hw_1
    have hw_1 : (pFits r ro (ix t) w : Int32) = r_1 := hw_1.symm
    subst hw_1
    have hP : va_P G.1 vwCl (wX G ad ho rn ln dr ro lt rf th sb ++ wR G (ad 1) kd r ++ wR G (ad 2) u_1.1 u_1.2 ++ wR G (ad 3) k2 r2 ++ wK (ad 4)) H := hP
    have hD : va_D A (wX G ad ho rn ln dr ro lt rf th sb ++ wR G (ad 1) kd r ++ wR G (ad 2) u_1.1 u_1.2 ++ wR G (ad 3) k2 r2 ++ wK (ad 4)) := hD
    refine W.widen (k := 13) (n := 121) (Nat.le_of_ble_eq_true rfl) (Nat.le_of_ble_eq_true rfl) ?_
    refine hret _ _ _ _ _ _ (pFits r ro (ix t) w) (u_1.1, u_1.2) dX0_ofLast_46 ?_ hP hD hS (Nat.le_of_ble_eq_true rfl) (Nat.le_of_ble_eq_true rfl)
    exact ⟨hz_1, rfl⟩
set_option maxHeartbeats 4000000 in
set_option maxRecDepth 100000 in
theorem m_of_26 (l : Launch) (hl0 : l.stackTraces = false) (G : xG) (ad : Nat → Nat → Nat) (kd k1 k2 : Nat → Option Nat) (r r1 r2 : Rw) (ho rn ln dr : Int32) (ro lt rf th sb : Nat → Int32) (hr : Ok r) (hp : r 5 3 = 0) (hk : kOk (ad 4) kd r) (mi z0 z1 : Int32) (jn : Nat) (hjn : rn = nI jn) (hjm : jn ≤ 16) : yCi l G yX0_ofLast cX0_ofLast 6 (some .int) ({ frames := 9, cells := 3, slots := 21, locals := 154 } : Room) [.ref (ad 0 0), .int 26, .int mi, .int z0, .int z1] (wX G ad ho rn ln dr ro lt rf th sb ++ wR G (ad 1) kd r ++ wR G (ad 2) k1 r1 ++ wR G (ad 3) k2 r2 ++ wK (ad 4)) (S := Unit) (SX := Unit) (fun v _ => eW (wBy mi.toInt 0 99) (eS (decide (jn < 16)) (-6) 0) = 0 ∧ v = nI (jn + 1)) (fun _ => (wX G ad ho (nI (jn + 1)) ln dr (upd ro jn mi) lt rf th sb ++ wR G (ad 1) kd r ++ wR G (ad 2) k1 r1 ++ wR G (ad 3) k2 r2 ++ wK (ad 4))) (fun n _ => n = eW (wBy mi.toInt 0 99) (eS (decide (jn < 16)) (-6) 0) ∧ eW (wBy mi.toInt 0 99) (eS (decide (jn < 16)) (-6) 0) ≠ 0) (fun _ => (wX G ad ho rn ln dr ro lt rf th sb ++ wR G (ad 1) kd r ++ wR G (ad 2) k1 r1 ++ wR G (ad 3) k2 r2 ++ wK (ad 4))) := by
  refine y_openi (by decide) (Nat.le_of_ble_eq_true rfl) (fun _ _ _ => rfl) ?_
  intro p e s m args below meth c A Q ls C0 hK hZ hP hD hA hl hret hthr
  obtain ⟨hx, hb, hml, hown, hts⟩ := id C0
  have hS : va_S A s.heap s.heap [] := va_S.rf
  have hP : va_P G.1 vwCl (wX G ad ho rn ln dr ro lt rf th sb ++ wR G (ad 1) kd r ++ wR G (ad 2) k1 r1 ++ wR G (ad 3) k2 r2 ++ wK (ad 4)) s.heap := hP
  have hD : va_D A (wX G ad ho rn ln dr ro lt rf th sb ++ wR G (ad 1) kd r ++ wR G (ad 2) k1 r1 ++ wR G (ad 3) k2 r2 ++ wK (ad 4)) := hD
  have hl : lv_has ls 6 [(0, .ref (ad 0 0)), (1, .int 26), (2, .int mi), (3, .int z0), (4, .int z1)] := hl
  have hr0 := hr.n
  have hN := hr.le
  refine lv_iload_n hx hb dX0_ofLast_0 rfl (lv_at hl 1 rfl) ?_
  refine lv_tableIn (tgt := 47) hx hb dX0_ofLast_1 (by decide) (by decide) rfl (by decide) ?_
  refine lv_iload_n hx hb dX0_ofLast_47 rfl (lv_at hl 2 rfl) ?_
  refine lv_i2l (v := mi.toInt64) hx hb dX0_ofLast_48 rfl ?_
  refine lv_lconst (v := 0) hx hb dX0_ofLast_49 (by decide) ?_
  refine lv_ldc2 (v := 99) hx hb hown (hts _ q789) dX0_ofLast_50 ?_
  refine y_Sv (wN := fun _ => (wX G ad ho rn ln dr ro lt rf th sb ++ wR G (ad 1) kd r ++ wR G (ad 2) k1 r1 ++ wR G (ad 3) k2 r2 ++ wK (ad 4))) (wNx := fun u9 => (wX G ad ho rn ln dr ro lt rf th sb ++ wR G (ad 1) kd r ++ wR G (ad 2) k1 r1 ++ wR G (ad 3) k2 r2 ++ wK (ad 4))) ⟨C0, hK, hP, hD, hS, hA⟩ hZ ((m_within l hl0 G mi.toInt64 0 99)) (va_cwS 3 hts (lw_S q283 q284 q86 q285) rfl rfl rfl (by decide +kernel) ⟨Nat.le_of_ble_eq_true rfl, Nat.le_of_ble_eq_true rfl⟩) [] [0, 2, 4, 6, 8, 10, 12, 14, 16, 18, 20, 22, 24, 26, 28, 30, 32, 34, 36, 38, 40, 42, 44, 46, 48, 50, 52, 54, 56, 58, 60] [0, 2, 4, 6, 8, 10, 12, 14, 16, 18, 20, 22, 24, 26, 28, 30, 32, 34, 36, 38, 40, 42, 44, 46, 48, 50, 52, 54, 56, 58, 60, 1] rfl (fun _ => rfl) (fun _ _ _ => rfl) rfl rfl rfl hl.1 rfl (Nat.le_of_ble_eq_true rfl) dX0_ofLast_53 ⟨(Nat.le_of_ble_eq_true rfl), (Nat.le_of_ble_eq_true rfl)⟩ (fun q9 u9 ee H locs hw_1 hP hD hS => ?_) (fun u_1 H locs hw_1 hP hD hS => ?_)
  · skip
    refine hthr _ _ _ _ _ _ _ q9 () ee ?_ hP hD hS (Nat.le_of_ble_eq_true rfl) (Nat.le_of_ble_eq_true rfl)
    obtain ⟨h8, h9⟩ := hw_1
    rw [i2l_toInt] at h8 h9
    have h8 : ee.2.1 = wBy _ 0 99 := h8
    have h9 : wBy _ 0 99 ≠ 0 := h9
    have e9 : eW (wBy mi.toInt 0 99) (eS (decide (jn < 16)) (-6) 0) = ee.2.1 := by rw [eW_n h9]; exact h8.symm
    exact ⟨e9.symm, by rw [e9, h8]; exact h9⟩
  · skip
    refine W.widen (k := 2) (n := 14) (Nat.le_of_ble_eq_true rfl) (Nat.le_of_ble_eq_true rfl) ?_
    rw [i2l_toInt] at hw_1
    have hw_1 : wBy _ 0 99 = 0 := hw_1
    obtain ⟨hj_mi, et_mi⟩ := wB_ix (n := 99) (by omega) hw_1
    rw [et_mi] at hl
    refine lv_aload_n hx hb dX0_ofLast_56 rfl (lv_at hl 0 rfl) ?_
    refine va_get (D := G.1) (ci := 0) (v := .int rn) (C := RX0) (T := TX0) (N := 13) hx hb hts in_X0 hown hK.1 hP 0 rfl rfl 6 (by decide) (hts _ q227) (fun _ h9 => h9) rfl dX0_ofLast_57 ?_
    rw [show (rn : Int32) = nI jn from hjn]
    refine lv_bipush (v := 16) hx hb dX0_ofLast_60 (by decide) ?_
    refine lv_icmp_ge (tgt := 69) hx hb dX0_ofLast_62 (by decide) (fun c_2 => ?_) (fun c_2 => ?_)
    · skip
      have g_2 := (nI_leI (by omega) (by omega)).mp (show nI jn ≥ nI 16 from c_2)
      refine lv_iconst (v := 0) hx hb dX0_ofLast_69 (by decide) ?_
      have eb_70 : (0 : Int32) = bI (decide (jn < 16)) := bI_F (decide_eq_false (by omega))
      rw [eb_70]
      have ef_70 : (decide (jn < 16)) = false := bI_0.mp eb_70.symm
      refine lv_bipush (v := (-6)) hx hb dX0_ofLast_70 (by decide) ?_
      refine y_Sv (wN := fun _ => (wX G ad ho rn ln dr ro lt rf th sb ++ wR G (ad 1) kd r ++ wR G (ad 2) k1 r1 ++ wR G (ad 3) k2 r2 ++ wK (ad 4))) (wNx := fun u9 => (wX G ad ho rn ln dr ro lt rf th sb ++ wR G (ad 1) kd r ++ wR G (ad 2) k1 r1 ++ wR G (ad 3) k2 r2 ++ wK (ad 4))) ⟨C0, hK, hP, hD, hS, hA⟩ hZ ((m_must l hl0 G (decide (jn < 16)) (-6))) (va_cwS 2 hts (lw_S q286 q287 q86 q288) rfl rfl rfl (by decide +kernel) ⟨Nat.le_of_ble_eq_true rfl, Nat.le_of_ble_eq_true rfl⟩) [] [0, 2, 4, 6, 8, 10, 12, 14, 16, 18, 20, 22, 24, 26, 28, 30, 32, 34, 36, 38, 40, 42, 44, 46, 48, 50, 52, 54, 56, 58, 60] [0, 2, 4, 6, 8, 10, 12, 14, 16, 18, 20, 22, 24, 26, 28, 30, 32, 34, 36, 38, 40, 42, 44, 46, 48, 50, 52, 54, 56, 58, 60, 1] rfl (fun _ => rfl) (fun _ _ _ => rfl) rfl rfl rfl hl.1 rfl (Nat.le_of_ble_eq_true rfl) dX0_ofLast_72 ⟨(Nat.le_of_ble_eq_true rfl), (Nat.le_of_ble_eq_true rfl)⟩ (fun q9 u9 ee H locs hw_3 hP hD hS => ?_) (fun u_3 H locs hw_3 hP hD hS => ?_)
      · skip
        refine hthr _ _ _ _ _ _ _ q9 () ee ?_ hP hD hS (Nat.le_of_ble_eq_true rfl) (Nat.le_of_ble_eq_true rfl)
        obtain ⟨h8, h9⟩ := hw_3
        have e9 : eW (wBy mi.toInt 0 99) (eS (decide (jn < 16)) (-6) 0) = ee.2.1 := by rw [eW_0 hw_1, eS_f h8]; exact h9.symm
        exact ⟨e9.symm, by rw [e9, h9]; decide⟩
      · skip
        refine W.widen (k := 3) (n := 21) (Nat.le_of_ble_eq_true rfl) (Nat.le_of_ble_eq_true rfl) ?_
        exact absurd hw_3 (by rw [ef_70]; decide)
    · skip
      have g_2 := mt (nI_leI (by omega) (by omega)).mpr (show ¬ (nI jn ≥ nI 16) from c_2)
      refine lv_iconst (v := 1) hx hb dX0_ofLast_65 (by decide) ?_
      refine lv_goto (tgt := 70) hx hb dX0_ofLast_66 (by decide) ?_
      have eb_70 : (1 : Int32) = bI (decide (jn < 16)) := bI_T (decide_eq_true (by omega))
      rw [eb_70]
      refine lv_bipush (v := (-6)) hx hb dX0_ofLast_70 (by decide) ?_
      refine y_Sv (wN := fun _ => (wX G ad ho rn ln dr ro lt rf th sb ++ wR G (ad 1) kd r ++ wR G (ad 2) k1 r1 ++ wR G (ad 3) k2 r2 ++ wK (ad 4))) (wNx := fun u9 => (wX G ad ho rn ln dr ro lt rf th sb ++ wR G (ad 1) kd r ++ wR G (ad 2) k1 r1 ++ wR G (ad 3) k2 r2 ++ wK (ad 4))) ⟨C0, hK, hP, hD, hS, hA⟩ hZ ((m_must l hl0 G (decide (jn < 16)) (-6))) (va_cwS 2 hts (lw_S q286 q287 q86 q288) rfl rfl rfl (by decide +kernel) ⟨Nat.le_of_ble_eq_true rfl, Nat.le_of_ble_eq_true rfl⟩) [] [0, 2, 4, 6, 8, 10, 12, 14, 16, 18, 20, 22, 24, 26, 28, 30, 32, 34, 36, 38, 40, 42, 44, 46, 48, 50, 52, 54, 56, 58, 60] [0, 2, 4, 6, 8, 10, 12, 14, 16, 18, 20, 22, 24, 26, 28, 30, 32, 34, 36, 38, 40, 42, 44, 46, 48, 50, 52, 54, 56, 58, 60, 1] rfl (fun _ => rfl) (fun _ _ _ => rfl) rfl rfl rfl hl.1 rfl (Nat.le_of_ble_eq_true rfl) dX0_ofLast_72 ⟨(Nat.le_of_ble_eq_true rfl), (Nat.le_of_ble_eq_true rfl)⟩ (fun q9 u9 ee H locs hw_4 hP hD hS => ?_) (fun u_4 H locs hw_4 hP hD hS => ?_)
      · skip
        refine hthr _ _ _ _ _ _ _ q9 () ee ?_ hP hD hS (Nat.le_of_ble_eq_true rfl) (Nat.le_of_ble_eq_true rfl)
        obtain ⟨h8, h9⟩ := hw_4
        have e9 : eW (wBy mi.toInt 0 99) (eS (decide (jn < 16)) (-6) 0) = ee.2.1 := by rw [eW_0 hw_1, eS_f h8]; exact h9.symm
        exact ⟨e9.symm, by rw [e9, h9]; decide⟩
      · skip
        refine W.widen (k := 3) (n := 21) (Nat.le_of_ble_eq_true rfl) (Nat.le_of_ble_eq_true rfl) ?_
        have hjl := of_decide_eq_true hw_4
        refine lv_aload_n hx hb dX0_ofLast_75 rfl (lv_at hl 0 rfl) ?_
        refine va_get (D := G.1) (ci := 0) (v := .ref (ad 0 2)) (C := RX0) (T := TX0) (N := 13) hx hb hts in_X0 hown hK.1 hP 0 rfl rfl 5 (by decide) (hts _ q226) (fun _ h9 => h9) rfl dX0_ofLast_76 ?_
        refine lv_aload_n hx hb dX0_ofLast_79 rfl (lv_at hl 0 rfl) ?_
        refine va_get (D := G.1) (ci := 0) (v := .int rn) (C := RX0) (T := TX0) (N := 13) hx hb hts in_X0 hown hK.1 hP 0 rfl rfl 6 (by decide) (hts _ q227) (fun _ h9 => h9) rfl dX0_ofLast_80 ?_
        rw [show (rn : Int32) = nI jn from hjn]
        refine lv_iload_n hx hb dX0_ofLast_83 rfl (lv_at hl 2 rfl) ?_
        refine lv_i2b (v := nI (ix mi)) hx hb dX0_ofLast_84 (i2b_k _ (by omega)) ?_
        refine x_bastn (k := jn) hx hb hK.1 hP hD hS 2 1 rfl rfl (by omega) (by decide) (nar_b _ (by omega)) (g := upd ro jn (nI (ix mi))) rfl dX0_ofLast_85 (fun H locs hP hD hS => ?_)
        have hP : va_P G.1 vwCl (wX G ad ho rn ln dr (upd ro jn (nI (ix mi))) lt rf th sb ++ wR G (ad 1) kd r ++ wR G (ad 2) k1 r1 ++ wR G (ad 3) k2 r2 ++ wK (ad 4)) H := hP
        have hD : va_D A (wX G ad ho rn ln dr (upd ro jn (nI (ix mi))) lt rf th sb ++ wR G (ad 1) kd r ++ wR G (ad 2) k1 r1 ++ wR G (ad 3) k2 r2 ++ wK (ad 4)) := hD
        refine lv_aload_n hx hb dX0_ofLast_86 rfl (lv_at hl 0 rfl) ?_
        refine lv_dup hx hb dX0_ofLast_87 rfl ?_
        refine va_get (D := G.1) (ci := 0) (v := .int rn) (C := RX0) (T := TX0) (N := 13) hx hb hts in_X0 hown hK.1 hP 0 rfl rfl 6 (by decide) (hts _ q227) (fun _ h9 => h9) rfl dX0_ofLast_88 ?_
        rw [show (rn : Int32) = nI jn from hjn]
        refine lv_iconst (v := 1) hx hb dX0_ofLast_91 (by decide) ?_
        refine x_iadd hx hb dX0_ofLast_92 (v := nI (jn + 1)) (nI_1 _) ?_
        refine va_put (D := G.1) (ci := 0) (v := .int (nI (jn + 1))) (ty := .int) (C := RX0) (T := TX0) (N := 13) hx hb hts in_X0 tyX0 tyX0_ok nmX0 hown hK.1 hP hD hS 0 rfl rfl 6 (by decide) (hts _ q227) (fun _ h9 => h9) rfl (by decide +kernel) rfl rfl (Nat.le_of_ble_eq_true rfl) dX0_ofLast_93 (fun H locs hP hD hS => ?_)
        have hP : va_P G.1 vwCl (wX G ad ho (nI (jn + 1)) ln dr (upd ro jn (nI (ix mi))) lt rf th sb ++ wR G (ad 1) kd r ++ wR G (ad 2) k1 r1 ++ wR G (ad 3) k2 r2 ++ wK (ad 4)) H := hP
        have hD : va_D A (wX G ad ho (nI (jn + 1)) ln dr (upd ro jn (nI (ix mi))) lt rf th sb ++ wR G (ad 1) kd r ++ wR G (ad 2) k1 r1 ++ wR G (ad 3) k2 r2 ++ wK (ad 4)) := hD
        refine lv_aload_n hx hb dX0_ofLast_96 rfl (lv_at hl 0 rfl) ?_
        refine va_get (D := G.1) (ci := 0) (v := .int (nI (jn + 1))) (C := RX0) (T := TX0) (N := 13) hx hb hts in_X0 hown hK.1 hP 0 rfl rfl 6 (by decide) (hts _ q227) (fun _ h9 => h9) rfl dX0_ofLast_97 ?_
        rw [← et_mi] at hP hD
        refine hret _ _ _ _ _ _ (nI (jn + 1)) () dX0_ofLast_100 ?_ hP hD hS (Nat.le_of_ble_eq_true rfl) (Nat.le_of_ble_eq_true rfl)
        refine ⟨by rw [eW_0 hw_1, eS_t hw_4], rfl⟩
set_option maxHeartbeats 4000000 in
set_option maxRecDepth 100000 in
theorem m_of_27 (l : Launch) (hl0 : l.stackTraces = false) (G : xG) (ad : Nat → Nat → Nat) (kd k1 k2 : Nat → Option Nat) (r r1 r2 : Rw) (ho rn ln dr : Int32) (ro lt rf th sb : Nat → Int32) (hr : Ok r) (hp : r 5 3 = 0) (hk : kOk (ad 4) kd r) (z0 z1 z2 : Int32) (jn : Nat) (hjn : rn = nI jn) (hjm : jn ≤ 16) : yCi l G yX0_ofLast cX0_ofLast 6 (some .int) ({ frames := 7, cells := 0, slots := 0, locals := 156 } : Room) [.ref (ad 0 0), .int 27, .int z0, .int z1, .int z2] (wX G ad ho rn ln dr ro lt rf th sb ++ wR G (ad 1) kd r ++ wR G (ad 2) k1 r1 ++ wR G (ad 3) k2 r2 ++ wK (ad 4)) (S := ((Nat → Option Nat) × Rw)) (SX := Unit) (fun v u => (0 : Int32) = 0 ∧ v = jdN r ro jn) (fun u => (wX G ad ho 0 ln dr ro lt rf th sb ++ wR G (ad 1) kd r ++ wR G (ad 2) u.1 u.2 ++ wR G (ad 3) k2 r2 ++ wK (ad 4))) (fun n _ => n = (0 : Int32) ∧ (0 : Int32) ≠ 0) (fun _ => (wX G ad ho rn ln dr ro lt rf th sb ++ wR G (ad 1) kd r ++ wR G (ad 2) k1 r1 ++ wR G (ad 3) k2 r2 ++ wK (ad 4))) := by
  refine y_openi (by decide) (Nat.le_of_ble_eq_true rfl) (fun _ _ _ => rfl) ?_
  intro p e s m args below meth c A Q ls C0 hK hZ hP hD hA hl hret hthr
  obtain ⟨hx, hb, hml, hown, hts⟩ := id C0
  have hS : va_S A s.heap s.heap [] := va_S.rf
  have hP : va_P G.1 vwCl (wX G ad ho rn ln dr ro lt rf th sb ++ wR G (ad 1) kd r ++ wR G (ad 2) k1 r1 ++ wR G (ad 3) k2 r2 ++ wK (ad 4)) s.heap := hP
  have hD : va_D A (wX G ad ho rn ln dr ro lt rf th sb ++ wR G (ad 1) kd r ++ wR G (ad 2) k1 r1 ++ wR G (ad 3) k2 r2 ++ wK (ad 4)) := hD
  have hl : lv_has ls 6 [(0, .ref (ad 0 0)), (1, .int 27), (2, .int z0), (3, .int z1), (4, .int z2)] := hl
  have hr0 := hr.n
  have hN := hr.le
  refine lv_iload_n hx hb dX0_ofLast_0 rfl (lv_at hl 1 rfl) ?_
  refine lv_tableIn (tgt := 101) hx hb dX0_ofLast_1 (by decide) (by decide) rfl (by decide) ?_
  refine lv_aload_n hx hb dX0_ofLast_101 rfl (lv_at hl 0 rfl) ?_
  refine x_Vi (wN := fun u_1 => (wX G ad ho 0 ln dr ro lt rf th sb ++ wR G (ad 1) kd r ++ wR G (ad 2) u_1.1 u_1.2 ++ wR G (ad 3) k2 r2 ++ wK (ad 4))) ⟨C0, hK, hP, hD, hS, hA⟩ 0 rfl (ci := 0) rfl rfl ((m_judgeRow l G ad kd k1 k2 r r1 r2 ho rn ln dr ro lt rf th sb hr hp hk jn hjn (by omega))) (cwV 0 hts (lw_V q970 q972 qs58 q86 q973) rfl rfl rfl (by decide +kernel) ⟨Nat.le_of_ble_eq_true rfl, Nat.le_of_ble_eq_true rfl⟩) [0, 1, 2, 3, 4, 5, 6, 7, 8, 9, 10, 11, 12, 13, 14, 15, 16, 17, 18, 19, 20, 21, 22, 23, 24, 25, 26, 27, 28, 29, 30] [1, 3, 5, 7, 9, 11, 13, 15, 17, 19, 21, 23, 25, 27, 29, 31, 33, 35, 37, 39, 41, 43, 45, 47, 49, 51, 53, 55, 57, 59, 61] rfl (fun _ => rfl) rfl rfl hl.1 rfl (Nat.le_of_ble_eq_true rfl) dX0_ofLast_102 ⟨(Nat.le_of_ble_eq_true rfl), (Nat.le_of_ble_eq_true rfl)⟩ (fun r_1 u_1 H locs hw_1 hP hD hS => ?_)
  have hw_1 : (jdN r ro jn : Int32) = r_1 := hw_1.symm
  subst hw_1
  have hP : va_P G.1 vwCl (wX G ad ho 0 ln dr ro lt rf th sb ++ wR G (ad 1) kd r ++ wR G (ad 2) u_1.1 u_1.2 ++ wR G (ad 3) k2 r2 ++ wK (ad 4)) H := hP
  have hD : va_D A (wX G ad ho 0 ln dr ro lt rf th sb ++ wR G (ad 1) kd r ++ wR G (ad 2) u_1.1 u_1.2 ++ wR G (ad 3) k2 r2 ++ wK (ad 4)) := hD
  refine hret _ _ _ _ _ _ (jdN r ro jn) (u_1.1, u_1.2) dX0_ofLast_105 ?_ hP hD hS (Nat.le_of_ble_eq_true rfl) (Nat.le_of_ble_eq_true rfl)
  refine ⟨rfl, ?_⟩
  exact rfl
set_option maxHeartbeats 4000000 in
set_option maxRecDepth 100000 in
theorem m_of_28 (l : Launch) (hl0 : l.stackTraces = false) (G : xG) (ad : Nat → Nat → Nat) (kd k1 k2 : Nat → Option Nat) (r r1 r2 : Rw) (ho rn ln dr : Int32) (ro lt rf th sb : Nat → Int32) (hr : Ok r) (hp : r 5 3 = 0) (hk : kOk (ad 4) kd r) (z0 z1 z2 : Int32) : yCi l G yX0_ofLast cX0_ofLast 6 (some .int) ({ frames := 0, cells := 0, slots := 0, locals := 0 } : Room) [.ref (ad 0 0), .int 28, .int z0, .int z1, .int z2] (wX G ad ho rn ln dr ro lt rf th sb ++ wR G (ad 1) kd r ++ wR G (ad 2) k1 r1 ++ wR G (ad 3) k2 r2 ++ wK (ad 4)) (S := Unit) (SX := Unit) (fun v _ => (0 : Int32) = 0 ∧ v = rn) (fun _ => (wX G ad ho 0 ln dr ro lt rf th sb ++ wR G (ad 1) kd r ++ wR G (ad 2) k1 r1 ++ wR G (ad 3) k2 r2 ++ wK (ad 4))) (fun n _ => n = (0 : Int32) ∧ (0 : Int32) ≠ 0) (fun _ => (wX G ad ho rn ln dr ro lt rf th sb ++ wR G (ad 1) kd r ++ wR G (ad 2) k1 r1 ++ wR G (ad 3) k2 r2 ++ wK (ad 4))) := by
  refine y_openi (by decide) (Nat.le_of_ble_eq_true rfl) (fun _ _ _ => rfl) ?_
  intro p e s m args below meth c A Q ls C0 hK hZ hP hD hA hl hret hthr
  obtain ⟨hx, hb, hml, hown, hts⟩ := id C0
  have hS : va_S A s.heap s.heap [] := va_S.rf
  have hP : va_P G.1 vwCl (wX G ad ho rn ln dr ro lt rf th sb ++ wR G (ad 1) kd r ++ wR G (ad 2) k1 r1 ++ wR G (ad 3) k2 r2 ++ wK (ad 4)) s.heap := hP
  have hD : va_D A (wX G ad ho rn ln dr ro lt rf th sb ++ wR G (ad 1) kd r ++ wR G (ad 2) k1 r1 ++ wR G (ad 3) k2 r2 ++ wK (ad 4)) := hD
  have hl : lv_has ls 6 [(0, .ref (ad 0 0)), (1, .int 28), (2, .int z0), (3, .int z1), (4, .int z2)] := hl
  have hr0 := hr.n
  have hN := hr.le
  refine lv_iload_n hx hb dX0_ofLast_0 rfl (lv_at hl 1 rfl) ?_
  refine lv_tableIn (tgt := 106) hx hb dX0_ofLast_1 (by decide) (by decide) rfl (by decide) ?_
  refine lv_aload_n hx hb dX0_ofLast_106 rfl (lv_at hl 0 rfl) ?_
  refine va_get (D := G.1) (ci := 0) (v := .int rn) (C := RX0) (T := TX0) (N := 13) hx hb hts in_X0 hown hK.1 hP 0 rfl rfl 6 (by decide) (hts _ q227) (fun _ h9 => h9) rfl dX0_ofLast_107 ?_
  refine lv_istore (lv' := [(5, .int rn), (0, .ref (ad 0 0)), (1, .int 28), (2, .int z0), (3, .int z1), (4, .int z2)]) hx hb dX0_ofLast_110 hl (by decide) rfl (fun ls hl => ?_)
  refine lv_aload_n hx hb dX0_ofLast_112 rfl (lv_at hl 1 rfl) ?_
  refine lv_iconst (v := 0) hx hb dX0_ofLast_113 (by decide) ?_
  refine va_put (D := G.1) (ci := 0) (v := .int 0) (ty := .int) (C := RX0) (T := TX0) (N := 13) hx hb hts in_X0 tyX0 tyX0_ok nmX0 hown hK.1 hP hD hS 0 rfl rfl 6 (by decide) (hts _ q227) (fun _ h9 => h9) rfl (by decide +kernel) rfl rfl (Nat.le_of_ble_eq_true rfl) dX0_ofLast_114 (fun H locs hP hD hS => ?_)
  have hP : va_P G.1 vwCl (wX G ad ho 0 ln dr ro lt rf th sb ++ wR G (ad 1) kd r ++ wR G (ad 2) k1 r1 ++ wR G (ad 3) k2 r2 ++ wK (ad 4)) H := hP
  have hD : va_D A (wX G ad ho 0 ln dr ro lt rf th sb ++ wR G (ad 1) kd r ++ wR G (ad 2) k1 r1 ++ wR G (ad 3) k2 r2 ++ wK (ad 4)) := hD
  refine lv_iload hx hb dX0_ofLast_117 (lv_at hl 0 rfl) ?_
  refine hret _ _ _ _ _ _ rn () dX0_ofLast_119 ?_ hP hD hS (Nat.le_of_ble_eq_true rfl) (Nat.le_of_ble_eq_true rfl)
  refine ⟨rfl, ?_⟩
  exact rfl
set_option maxHeartbeats 4000000 in
set_option maxRecDepth 100000 in
theorem m_of_29 (l : Launch) (hl0 : l.stackTraces = false) (G : xG) (ad : Nat → Nat → Nat) (kd k1 k2 : Nat → Option Nat) (r r1 r2 : Rw) (ho rn ln dr : Int32) (ro lt rf th sb : Nat → Int32) (hr : Ok r) (hp : r 5 3 = 0) (hk : kOk (ad 4) kd r) (cnt z w : Int32) : yCi l G yX0_ofLast cX0_ofLast 6 (some .int) ({ frames := 10, cells := 4, slots := 28, locals := 182 } : Room) [.ref (ad 0 0), .int 29, .int cnt, .int z, .int w] (wX G ad ho rn ln dr ro lt rf th sb ++ wR G (ad 1) kd r ++ wR G (ad 2) k1 r1 ++ wR G (ad 3) k2 r2 ++ wK (ad 4)) (S := (((Nat → Option Nat) × Rw) × Int32)) (SX := Unit) (fun v u => eW (wBy cnt.toInt 1 20) (eS (inR w 0 1) (-2) (eS (decide (0 < nI (mny r))) (-3) 0)) = 0 ∧ v = (lSum r w z (ix cnt)).2) (fun u => (wX G ad ho rn ln u.2 ro lt rf th sb ++ wR G (ad 1) kd r ++ wR G (ad 2) u.1.1 u.1.2 ++ wR G (ad 3) k2 r2 ++ wK (ad 4))) (fun n _ => n = eW (wBy cnt.toInt 1 20) (eS (inR w 0 1) (-2) (eS (decide (0 < nI (mny r))) (-3) 0)) ∧ eW (wBy cnt.toInt 1 20) (eS (inR w 0 1) (-2) (eS (decide (0 < nI (mny r))) (-3) 0)) ≠ 0) (fun _ => (wX G ad ho rn ln dr ro lt rf th sb ++ wR G (ad 1) kd r ++ wR G (ad 2) k1 r1 ++ wR G (ad 3) k2 r2 ++ wK (ad 4))) := by
  refine y_openi (by decide) (Nat.le_of_ble_eq_true rfl) (fun _ _ _ => rfl) ?_
  intro p e s m args below meth c A Q ls C0 hK hZ hP hD hA hl hret hthr
  obtain ⟨hx, hb, hml, hown, hts⟩ := id C0
  have hS : va_S A s.heap s.heap [] := va_S.rf
  have hP : va_P G.1 vwCl (wX G ad ho rn ln dr ro lt rf th sb ++ wR G (ad 1) kd r ++ wR G (ad 2) k1 r1 ++ wR G (ad 3) k2 r2 ++ wK (ad 4)) s.heap := hP
  have hD : va_D A (wX G ad ho rn ln dr ro lt rf th sb ++ wR G (ad 1) kd r ++ wR G (ad 2) k1 r1 ++ wR G (ad 3) k2 r2 ++ wK (ad 4)) := hD
  have hl : lv_has ls 6 [(0, .ref (ad 0 0)), (1, .int 29), (2, .int cnt), (3, .int z), (4, .int w)] := hl
  have hr0 := hr.n
  have hN := hr.le
  refine lv_iload_n hx hb dX0_ofLast_0 rfl (lv_at hl 1 rfl) ?_
  refine lv_tableIn (tgt := 120) hx hb dX0_ofLast_1 (by decide) (by decide) rfl (by decide) ?_
  refine lv_aload_n hx hb dX0_ofLast_120 rfl (lv_at hl 0 rfl) ?_
  refine lv_iload_n hx hb dX0_ofLast_121 rfl (lv_at hl 2 rfl) ?_
  refine lv_iload_n hx hb dX0_ofLast_122 rfl (lv_at hl 3 rfl) ?_
  refine lv_iload hx hb dX0_ofLast_123 (lv_at hl 4 rfl) ?_
  refine y_Vi (wN := fun u_1 => (wX G ad ho rn ln u_1.2 ro lt rf th sb ++ wR G (ad 1) kd r ++ wR G (ad 2) u_1.1.1 u_1.1.2 ++ wR G (ad 3) k2 r2 ++ wK (ad 4))) (wNx := fun u9 => (wX G ad ho rn ln dr ro lt rf th sb ++ wR G (ad 1) kd r ++ wR G (ad 2) k1 r1 ++ wR G (ad 3) k2 r2 ++ wK (ad 4))) ⟨C0, hK, hP, hD, hS, hA⟩ hZ 0 rfl (ci := 0) rfl rfl ((m_lotsTold l hl0 G ad kd k1 k2 r r1 r2 ho rn ln dr ro lt rf th sb hr hp hk cnt z w)) (cwV 3 hts (lw_V q974 q976 qs59 q86 q977) rfl rfl rfl (by decide +kernel) ⟨Nat.le_of_ble_eq_true rfl, Nat.le_of_ble_eq_true rfl⟩) [0, 1, 2, 3, 4, 5, 6, 7, 8, 9, 10, 11, 12, 13, 14, 15, 16, 17, 18, 19, 20, 21, 22, 23, 24, 25, 26, 27, 28, 29, 30] [1, 3, 5, 7, 9, 11, 13, 15, 17, 19, 21, 23, 25, 27, 29, 31, 33, 35, 37, 39, 41, 43, 45, 47, 49, 51, 53, 55, 57, 59, 61] [1, 3, 5, 7, 9, 11, 13, 15, 17, 19, 21, 23, 25, 27, 29, 31, 33, 35, 37, 39, 41, 43, 45, 47, 49, 51, 53, 55, 57, 59, 61, 63] rfl (fun _ => rfl) (fun _ _ _ => rfl) rfl rfl rfl hl.1 rfl (Nat.le_of_ble_eq_true rfl) dX0_ofLast_125 ⟨(Nat.le_of_ble_eq_true rfl), (Nat.le_of_ble_eq_true rfl)⟩ (fun q9 u9 ee H locs hw_1 hP hD hS => ?_) (fun r_1 u_1 H locs hw_1 hP hD hS => ?_)
  · skip
    refine hthr _ _ _ _ _ _ _ q9 () ee ?_ hP hD hS (Nat.le_of_ble_eq_true rfl) (Nat.le_of_ble_eq_true rfl)
    exact hw_1
  · skip
    obtain ⟨hz_1, hw_1⟩ := hw_1
    have hw_1 : ((lSum r w z (ix cnt)).2 : Int32) = r_1 := hw_1.symm
    subst hw_1
    have hP : va_P G.1 vwCl (wX G ad ho rn ln u_1.2 ro lt rf th sb ++ wR G (ad 1) kd r ++ wR G (ad 2) u_1.1.1 u_1.1.2 ++ wR G (ad 3) k2 r2 ++ wK (ad 4)) H := hP
    have hD : va_D A (wX G ad ho rn ln u_1.2 ro lt rf th sb ++ wR G (ad 1) kd r ++ wR G (ad 2) u_1.1.1 u_1.1.2 ++ wR G (ad 3) k2 r2 ++ wK (ad 4)) := hD
    refine W.widen (k := 4) (n := 28) (Nat.le_of_ble_eq_true rfl) (Nat.le_of_ble_eq_true rfl) ?_
    refine hret _ _ _ _ _ _ ((lSum r w z (ix cnt)).2) ((u_1.1.1, u_1.1.2), u_1.2) dX0_ofLast_128 ?_ hP hD hS (Nat.le_of_ble_eq_true rfl) (Nat.le_of_ble_eq_true rfl)
    exact ⟨hz_1, rfl⟩
set_option maxHeartbeats 4000000 in
set_option maxRecDepth 100000 in
theorem m_of_30 (l : Launch) (hl0 : l.stackTraces = false) (G : xG) (ad : Nat → Nat → Nat) (kd k1 k2 : Nat → Option Nat) (r r1 r2 : Rw) (ho rn ln dr : Int32) (ro lt rf th sb : Nat → Int32) (hr : Ok r) (hp : r 5 3 = 0) (hk : kOk (ad 4) kd r) (z0 z1 z2 : Int32) : yCi l G yX0_ofLast cX0_ofLast 6 (some .int) ({ frames := 2, cells := 0, slots := 0, locals := 101 } : Room) [.ref (ad 0 0), .int 30, .int z0, .int z1, .int z2] (wX G ad ho rn ln dr ro lt rf th sb ++ wR G (ad 1) kd r ++ wR G (ad 2) k1 r1 ++ wR G (ad 3) k2 r2 ++ wK (ad 4)) (S := Unit) (SX := Unit) (fun v _ => (0 : Int32) = 0 ∧ v = r 5 1) (fun _ => (wX G ad 1 rn ln dr ro lt rf th sb ++ wR G (ad 1) kd r ++ wR G (ad 2) k1 r1 ++ wR G (ad 3) kd r ++ wK (ad 4))) (fun n _ => n = (0 : Int32) ∧ (0 : Int32) ≠ 0) (fun _ => (wX G ad ho rn ln dr ro lt rf th sb ++ wR G (ad 1) kd r ++ wR G (ad 2) k1 r1 ++ wR G (ad 3) k2 r2 ++ wK (ad 4))) := by
  refine y_openi (by decide) (Nat.le_of_ble_eq_true rfl) (fun _ _ _ => rfl) ?_
  intro p e s m args below meth c A Q ls C0 hK hZ hP hD hA hl hret hthr
  obtain ⟨hx, hb, hml, hown, hts⟩ := id C0
  have hS : va_S A s.heap s.heap [] := va_S.rf
  have hP : va_P G.1 vwCl (wX G ad ho rn ln dr ro lt rf th sb ++ wR G (ad 1) kd r ++ wR G (ad 2) k1 r1 ++ wR G (ad 3) k2 r2 ++ wK (ad 4)) s.heap := hP
  have hD : va_D A (wX G ad ho rn ln dr ro lt rf th sb ++ wR G (ad 1) kd r ++ wR G (ad 2) k1 r1 ++ wR G (ad 3) k2 r2 ++ wK (ad 4)) := hD
  have hl : lv_has ls 6 [(0, .ref (ad 0 0)), (1, .int 30), (2, .int z0), (3, .int z1), (4, .int z2)] := hl
  have hr0 := hr.n
  have hN := hr.le
  refine lv_iload_n hx hb dX0_ofLast_0 rfl (lv_at hl 1 rfl) ?_
  refine lv_tableIn (tgt := 129) hx hb dX0_ofLast_1 (by decide) (by decide) rfl (by decide) ?_
  refine lv_aload_n hx hb dX0_ofLast_129 rfl (lv_at hl 0 rfl) ?_
  refine lv_iconst (v := 1) hx hb dX0_ofLast_130 (by decide) ?_
  refine va_put (D := G.1) (ci := 0) (v := .int 1) (ty := .boolean) (C := RX0) (T := TX0) (N := 13) hx hb hts in_X0 tyX0 tyX0_ok nmX0 hown hK.1 hP hD hS 0 rfl rfl 4 (by decide) (hts _ q225) (fun _ h9 => h9) rfl (by decide +kernel) (by decide) (by decide) (Nat.le_of_ble_eq_true rfl) dX0_ofLast_131 (fun H locs hP hD hS => ?_)
  have hP : va_P G.1 vwCl (wX G ad 1 rn ln dr ro lt rf th sb ++ wR G (ad 1) kd r ++ wR G (ad 2) k1 r1 ++ wR G (ad 3) k2 r2 ++ wK (ad 4)) H := hP
  have hD : va_D A (wX G ad 1 rn ln dr ro lt rf th sb ++ wR G (ad 1) kd r ++ wR G (ad 2) k1 r1 ++ wR G (ad 3) k2 r2 ++ wK (ad 4)) := hD
  refine lv_aload_n hx hb dX0_ofLast_134 rfl (lv_at hl 0 rfl) ?_
  refine va_get (D := G.1) (ci := 0) (v := .ref ((ad 3) 0)) (C := RX0) (T := TX0) (N := 13) hx hb hts in_X0 hown hK.1 hP 0 rfl rfl 3 (by decide) (hts _ q224) (fun _ h9 => h9) rfl dX0_ofLast_135 ?_
  refine lv_aload_n hx hb dX0_ofLast_138 rfl (lv_at hl 0 rfl) ?_
  refine va_get (D := G.1) (ci := 0) (v := .ref ((ad 1) 0)) (C := RX0) (T := TX0) (N := 13) hx hb hts in_X0 hown hK.1 hP 0 rfl rfl 1 (by decide) (hts _ q222) (fun _ h9 => h9) rfl dX0_ofLast_139 ?_
  refine x_Vr (wN := fun _ => (wX G ad 1 rn ln dr ro lt rf th sb ++ wR G (ad 1) kd r ++ wR G (ad 2) k1 r1 ++ wR G (ad 3) kd r ++ wK (ad 4))) ⟨C0, hK, hP, hD, hS, hA⟩ 19 rfl (ci := 7) rfl rfl ((m_set l G (ad 3) (ad 1) (ad 4) k2 kd r2 r hr hk hp)) (cwV 1 hts (lw_V q523 q524 q525 q94 q526) rfl rfl rfl (by decide +kernel) ⟨Nat.le_of_ble_eq_true rfl, Nat.le_of_ble_eq_true rfl⟩) [19, 20, 21, 22, 23, 24, 7, 8, 9, 10, 11, 12, 25, 26, 27, 28, 29, 30] [0, 2, 4, 6, 8, 10, 12, 13, 15, 17, 19, 21, 23, 26, 28, 30, 32, 34, 36, 1, 3, 5, 7, 9, 11, 25, 27, 29, 31, 33, 35] rfl (fun _ => rfl) rfl rfl hl.1 rfl (Nat.le_of_ble_eq_true rfl) dX0_ofLast_142 ⟨(Nat.le_of_ble_eq_true rfl), (Nat.le_of_ble_eq_true rfl)⟩ (fun u_1 H locs hw_1 hP hD hS => ?_)
  have hP : va_P G.1 vwCl (wX G ad 1 rn ln dr ro lt rf th sb ++ wR G (ad 1) kd r ++ wR G (ad 2) k1 r1 ++ wR G (ad 3) kd r ++ wK (ad 4)) H := hP
  have hD : va_D A (wX G ad 1 rn ln dr ro lt rf th sb ++ wR G (ad 1) kd r ++ wR G (ad 2) k1 r1 ++ wR G (ad 3) kd r ++ wK (ad 4)) := hD
  refine lv_pop hx hb dX0_ofLast_145 rfl ?_
  refine lv_aload_n hx hb dX0_ofLast_146 rfl (lv_at hl 0 rfl) ?_
  refine va_get (D := G.1) (ci := 0) (v := .ref ((ad 1) 0)) (C := RX0) (T := TX0) (N := 13) hx hb hts in_X0 hown hK.1 hP 0 rfl rfl 1 (by decide) (hts _ q222) (fun _ h9 => h9) rfl dX0_ofLast_147 ?_
  refine va_getN (D := G.1) (ci := 7) (v := .int (r 5 1)) (C := RX8) (T := TX8) (N := 9) hx hb hts in_X8 hown hK.1 hP 7 rfl rfl 7 (by decide) (va_Nw.use rfl (hK.2.F 15 rfl)) (fun _ h9 => h9) rfl dX0_ofLast_150 ?_
  refine hret _ _ _ _ _ _ (r 5 1) () dX0_ofLast_153 ?_ hP hD hS (Nat.le_of_ble_eq_true rfl) (Nat.le_of_ble_eq_true rfl)
  refine ⟨rfl, ?_⟩
  exact rfl
set_option maxHeartbeats 4000000 in
set_option maxRecDepth 100000 in
theorem m_of_31 (l : Launch) (hl0 : l.stackTraces = false) (G : xG) (ad : Nat → Nat → Nat) (kd k1 k2 : Nat → Option Nat) (r r1 r2 : Rw) (ho rn ln dr : Int32) (ro lt rf th sb : Nat → Int32) (hr : Ok r) (hp : r 5 3 = 0) (hk : kOk (ad 4) kd r) (z0 z1 z2 : Int32) (hB : Bool) (hho : ho = bI hB) (h2 : hB = true → Ok r2 ∧ kOk (ad 4) k2 r2 ∧ r2 5 3 = 0) : yCi l G yX0_ofLast cX0_ofLast 6 (some .int) ({ frames := 8, cells := 1, slots := 7, locals := 129 } : Room) [.ref (ad 0 0), .int 31, .int z0, .int z1, .int z2] (wX G ad ho rn ln dr ro lt rf th sb ++ wR G (ad 1) kd r ++ wR G (ad 2) k1 r1 ++ wR G (ad 3) k2 r2 ++ wK (ad 4)) (S := Unit) (SX := Unit) (fun v _ => eS hB (-3) 0 = 0 ∧ v = r2 5 1) (fun _ => (wX G ad ho rn ln dr ro lt rf th sb ++ wR G (ad 1) k2 r2 ++ wR G (ad 2) k1 r1 ++ wR G (ad 3) k2 r2 ++ wK (ad 4))) (fun n _ => n = eS hB (-3) 0 ∧ eS hB (-3) 0 ≠ 0) (fun _ => (wX G ad ho rn ln dr ro lt rf th sb ++ wR G (ad 1) kd r ++ wR G (ad 2) k1 r1 ++ wR G (ad 3) k2 r2 ++ wK (ad 4))) := by
  refine y_openi (by decide) (Nat.le_of_ble_eq_true rfl) (fun _ _ _ => rfl) ?_
  intro p e s m args below meth c A Q ls C0 hK hZ hP hD hA hl hret hthr
  obtain ⟨hx, hb, hml, hown, hts⟩ := id C0
  have hS : va_S A s.heap s.heap [] := va_S.rf
  have hP : va_P G.1 vwCl (wX G ad ho rn ln dr ro lt rf th sb ++ wR G (ad 1) kd r ++ wR G (ad 2) k1 r1 ++ wR G (ad 3) k2 r2 ++ wK (ad 4)) s.heap := hP
  have hD : va_D A (wX G ad ho rn ln dr ro lt rf th sb ++ wR G (ad 1) kd r ++ wR G (ad 2) k1 r1 ++ wR G (ad 3) k2 r2 ++ wK (ad 4)) := hD
  have hl : lv_has ls 6 [(0, .ref (ad 0 0)), (1, .int 31), (2, .int z0), (3, .int z1), (4, .int z2)] := hl
  have hr0 := hr.n
  have hN := hr.le
  refine lv_iload_n hx hb dX0_ofLast_0 rfl (lv_at hl 1 rfl) ?_
  refine lv_tableOut (tgt := 154) hx hb dX0_ofLast_1 (by decide) (by decide) ?_
  refine lv_aload_n hx hb dX0_ofLast_154 rfl (lv_at hl 0 rfl) ?_
  refine va_get (D := G.1) (ci := 0) (v := .int ho) (C := RX0) (T := TX0) (N := 13) hx hb hts in_X0 hown hK.1 hP 0 rfl rfl 4 (by decide) (hts _ q225) (fun _ h9 => h9) rfl dX0_ofLast_155 ?_
  rw [show (ho : Int32) = bI hB from hho]
  refine lv_bipush (v := (-3)) hx hb dX0_ofLast_158 (by decide) ?_
  refine y_Sv (wN := fun _ => (wX G ad ho rn ln dr ro lt rf th sb ++ wR G (ad 1) kd r ++ wR G (ad 2) k1 r1 ++ wR G (ad 3) k2 r2 ++ wK (ad 4))) (wNx := fun u9 => (wX G ad ho rn ln dr ro lt rf th sb ++ wR G (ad 1) kd r ++ wR G (ad 2) k1 r1 ++ wR G (ad 3) k2 r2 ++ wK (ad 4))) ⟨C0, hK, hP, hD, hS, hA⟩ hZ ((m_must l hl0 G hB (-3))) (va_cwS 2 hts (lw_S q286 q287 q86 q288) rfl rfl rfl (by decide +kernel) ⟨Nat.le_of_ble_eq_true rfl, Nat.le_of_ble_eq_true rfl⟩) [] [0, 2, 4, 6, 8, 10, 12, 14, 16, 18, 20, 22, 24, 26, 28, 30, 32, 34, 36, 38, 40, 42, 44, 46, 48, 50, 52, 54, 56, 58, 60] [0, 2, 4, 6, 8, 10, 12, 14, 16, 18, 20, 22, 24, 26, 28, 30, 32, 34, 36, 38, 40, 42, 44, 46, 48, 50, 52, 54, 56, 58, 60, 1] rfl (fun _ => rfl) (fun _ _ _ => rfl) rfl rfl rfl hl.1 rfl (Nat.le_of_ble_eq_true rfl) dX0_ofLast_160 ⟨(Nat.le_of_ble_eq_true rfl), (Nat.le_of_ble_eq_true rfl)⟩ (fun q9 u9 ee H locs hw_1 hP hD hS => ?_) (fun u_1 H locs hw_1 hP hD hS => ?_)
  · skip
    refine hthr _ _ _ _ _ _ _ q9 () ee ?_ hP hD hS (Nat.le_of_ble_eq_true rfl) (Nat.le_of_ble_eq_true rfl)
    obtain ⟨h8, h9⟩ := hw_1
    have e9 : eS hB (-3) 0 = ee.2.1 := by rw [eS_f h8]; exact h9.symm
    exact ⟨e9.symm, by rw [e9, h9]; decide⟩
  · skip
    refine W.widen (k := 1) (n := 7) (Nat.le_of_ble_eq_true rfl) (Nat.le_of_ble_eq_true rfl) ?_
    obtain ⟨hr2, hk2, hp2⟩ := h2 hw_1
    have hr20 := hr2.n
    refine lv_aload_n hx hb dX0_ofLast_163 rfl (lv_at hl 0 rfl) ?_
    refine va_get (D := G.1) (ci := 0) (v := .ref ((ad 1) 0)) (C := RX0) (T := TX0) (N := 13) hx hb hts in_X0 hown hK.1 hP 0 rfl rfl 1 (by decide) (hts _ q222) (fun _ h9 => h9) rfl dX0_ofLast_164 ?_
    refine lv_aload_n hx hb dX0_ofLast_167 rfl (lv_at hl 0 rfl) ?_
    refine va_get (D := G.1) (ci := 0) (v := .ref ((ad 3) 0)) (C := RX0) (T := TX0) (N := 13) hx hb hts in_X0 hown hK.1 hP 0 rfl rfl 3 (by decide) (hts _ q224) (fun _ h9 => h9) rfl dX0_ofLast_168 ?_
    refine x_Vr (wN := fun _ => (wX G ad ho rn ln dr ro lt rf th sb ++ wR G (ad 1) k2 r2 ++ wR G (ad 2) k1 r1 ++ wR G (ad 3) k2 r2 ++ wK (ad 4))) ⟨C0, hK, hP, hD, hS, hA⟩ 7 rfl (ci := 7) rfl rfl ((m_set l G (ad 1) (ad 3) (ad 4) kd k2 r r2 hr2 hk2 hp2)) (cwV 1 hts (lw_V q523 q524 q525 q94 q526) rfl rfl rfl (by decide +kernel) ⟨Nat.le_of_ble_eq_true rfl, Nat.le_of_ble_eq_true rfl⟩) [7, 8, 9, 10, 11, 12, 19, 20, 21, 22, 23, 24, 25, 26, 27, 28, 29, 30] [0, 2, 4, 6, 8, 10, 12, 1, 3, 5, 7, 9, 11, 26, 28, 30, 32, 34, 36, 13, 15, 17, 19, 21, 23, 25, 27, 29, 31, 33, 35] rfl (fun _ => rfl) rfl rfl hl.1 rfl (Nat.le_of_ble_eq_true rfl) dX0_ofLast_171 ⟨(Nat.le_of_ble_eq_true rfl), (Nat.le_of_ble_eq_true rfl)⟩ (fun u_2 H locs hw_2 hP hD hS => ?_)
    have hP : va_P G.1 vwCl (wX G ad ho rn ln dr ro lt rf th sb ++ wR G (ad 1) k2 r2 ++ wR G (ad 2) k1 r1 ++ wR G (ad 3) k2 r2 ++ wK (ad 4)) H := hP
    have hD : va_D A (wX G ad ho rn ln dr ro lt rf th sb ++ wR G (ad 1) k2 r2 ++ wR G (ad 2) k1 r1 ++ wR G (ad 3) k2 r2 ++ wK (ad 4)) := hD
    refine lv_pop hx hb dX0_ofLast_174 rfl ?_
    refine lv_aload_n hx hb dX0_ofLast_175 rfl (lv_at hl 0 rfl) ?_
    refine va_get (D := G.1) (ci := 0) (v := .ref ((ad 1) 0)) (C := RX0) (T := TX0) (N := 13) hx hb hts in_X0 hown hK.1 hP 0 rfl rfl 1 (by decide) (hts _ q222) (fun _ h9 => h9) rfl dX0_ofLast_176 ?_
    refine va_getN (D := G.1) (ci := 7) (v := .int (r2 5 1)) (C := RX8) (T := TX8) (N := 9) hx hb hts in_X8 hown hK.1 hP 7 rfl rfl 7 (by decide) (va_Nw.use rfl (hK.2.F 15 rfl)) (fun _ h9 => h9) rfl dX0_ofLast_179 ?_
    refine hret _ _ _ _ _ _ (r2 5 1) () dX0_ofLast_182 ?_ hP hD hS (Nat.le_of_ble_eq_true rfl) (Nat.le_of_ble_eq_true rfl)
    refine ⟨by rw [eS_t hw_1], ?_⟩
    exact rfl
set_option maxHeartbeats 4000000 in
set_option maxRecDepth 100000 in
theorem m_rest_25 (l : Launch) (hl0 : l.stackTraces = false) (G : xG) (ad : Nat → Nat → Nat) (kd k1 k2 : Nat → Option Nat) (r r1 r2 : Rw) (ho rn ln dr : Int32) (ro lt rf th sb : Nat → Int32) (hr : Ok r) (hp : r 5 3 = 0) (hk : kOk (ad 4) kd r) (t w z0 z8 z9 : Int32) : yCi l G yX0_ofRest cX0_ofRest 7 (some .int) ({ frames := 12, cells := 13, slots := 121, locals := 218 } : Room) [.ref (ad 0 0), .int 25, .int t, .int w, .int z0, .int z8, .int z9] (wX G ad ho rn ln dr ro lt rf th sb ++ wR G (ad 1) kd r ++ wR G (ad 2) k1 r1 ++ wR G (ad 3) k2 r2 ++ wK (ad 4)) (S := ((Nat → Option Nat) × Rw)) (SX := Unit) (fun v _ => eS (tB r t) (-1) (eS (inR w 0 1) (-2) (eS (decide (rn = nI (mny r))) (-3) 0)) = 0 ∧ v = pFits r ro (ix t) w) (fun u => (wX G ad ho rn ln dr ro lt rf th sb ++ wR G (ad 1) kd r ++ wR G (ad 2) u.1 u.2 ++ wR G (ad 3) k2 r2 ++ wK (ad 4))) (fun n _ => n = eS (tB r t) (-1) (eS (inR w 0 1) (-2) (eS (decide (rn = nI (mny r))) (-3) 0)) ∧ eS (tB r t) (-1) (eS (inR w 0 1) (-2) (eS (decide (rn = nI (mny r))) (-3) 0)) ≠ 0) (fun _ => (wX G ad ho rn ln dr ro lt rf th sb ++ wR G (ad 1) kd r ++ wR G (ad 2) k1 r1 ++ wR G (ad 3) k2 r2 ++ wK (ad 4))) := by
  refine y_openi (by decide) (Nat.le_of_ble_eq_true rfl) (fun _ _ _ => rfl) ?_
  intro p e s m args below meth c A Q ls C0 hK hZ hP hD hA hl hret hthr
  obtain ⟨hx, hb, hml, hown, hts⟩ := id C0
  have hS : va_S A s.heap s.heap [] := va_S.rf
  have hP : va_P G.1 vwCl (wX G ad ho rn ln dr ro lt rf th sb ++ wR G (ad 1) kd r ++ wR G (ad 2) k1 r1 ++ wR G (ad 3) k2 r2 ++ wK (ad 4)) s.heap := hP
  have hD : va_D A (wX G ad ho rn ln dr ro lt rf th sb ++ wR G (ad 1) kd r ++ wR G (ad 2) k1 r1 ++ wR G (ad 3) k2 r2 ++ wK (ad 4)) := hD
  have hl : lv_has ls 7 [(0, .ref (ad 0 0)), (1, .int 25), (2, .int t), (3, .int w), (4, .int z0), (5, .int z8), (6, .int z9)] := hl
  have hr0 := hr.n
  have hN := hr.le
  refine lv_iload_n hx hb dX0_ofRest_0 rfl (lv_at hl 1 rfl) ?_
  refine lv_tableOut (tgt := 108) hx hb dX0_ofRest_1 (by decide) (by decide) ?_
  refine lv_aload_n hx hb dX0_ofRest_108 rfl (lv_at hl 0 rfl) ?_
  refine lv_iload_n hx hb dX0_ofRest_109 rfl (lv_at hl 1 rfl) ?_
  refine lv_iload_n hx hb dX0_ofRest_110 rfl (lv_at hl 2 rfl) ?_
  refine lv_iload_n hx hb dX0_ofRest_111 rfl (lv_at hl 3 rfl) ?_
  refine lv_iload hx hb dX0_ofRest_112 (lv_at hl 4 rfl) ?_
  refine y_Vi (wN := fun u_1 => (wX G ad ho rn ln dr ro lt rf th sb ++ wR G (ad 1) kd r ++ wR G (ad 2) u_1.1 u_1.2 ++ wR G (ad 3) k2 r2 ++ wK (ad 4))) (wNx := fun u9 => (wX G ad ho rn ln dr ro lt rf th sb ++ wR G (ad 1) kd r ++ wR G (ad 2) k1 r1 ++ wR G (ad 3) k2 r2 ++ wK (ad 4))) ⟨C0, hK, hP, hD, hS, hA⟩ hZ 0 rfl (ci := 0) rfl rfl ((m_of_25 l hl0 G ad kd k1 k2 r r1 r2 ho rn ln dr ro lt rf th sb hr hp hk t w z0)) (cwV 4 hts (lw_V q954 q956 qs54 q86 q957) rfl rfl rfl (by decide +kernel) ⟨Nat.le_of_ble_eq_true rfl, Nat.le_of_ble_eq_true rfl⟩) [0, 1, 2, 3, 4, 5, 6, 7, 8, 9, 10, 11, 12, 13, 14, 15, 16, 17, 18, 19, 20, 21, 22, 23, 24, 25, 26, 27, 28, 29, 30] [1, 3, 5, 7, 9, 11, 13, 15, 17, 19, 21, 23, 25, 27, 29, 31, 33, 35, 37, 39, 41, 43, 45, 47, 49, 51, 53, 55, 57, 59, 61] [1, 3, 5, 7, 9, 11, 13, 15, 17, 19, 21, 23, 25, 27, 29, 31, 33, 35, 37, 39, 41, 43, 45, 47, 49, 51, 53, 55, 57, 59, 61, 63] rfl (fun _ => rfl) (fun _ _ _ => rfl) rfl rfl rfl hl.1 rfl (Nat.le_of_ble_eq_true rfl) dX0_ofRest_114 ⟨(Nat.le_of_ble_eq_true rfl), (Nat.le_of_ble_eq_true rfl)⟩ (fun q9 u9 ee H locs hw_1 hP hD hS => ?_) (fun r_1 u_1 H locs hw_1 hP hD hS => ?_)
  · skip
    refine hthr _ _ _ _ _ _ _ q9 () ee ?_ hP hD hS (Nat.le_of_ble_eq_true rfl) (Nat.le_of_ble_eq_true rfl)
    exact hw_1
  · skip
    obtain ⟨hz_1, hw_1⟩ := hw_1
    have hw_1 : (pFits r ro (ix t) w : Int32) = r_1 := hw_1.symm
    subst hw_1
    have hP : va_P G.1 vwCl (wX G ad ho rn ln dr ro lt rf th sb ++ wR G (ad 1) kd r ++ wR G (ad 2) u_1.1 u_1.2 ++ wR G (ad 3) k2 r2 ++ wK (ad 4)) H := hP
    have hD : va_D A (wX G ad ho rn ln dr ro lt rf th sb ++ wR G (ad 1) kd r ++ wR G (ad 2) u_1.1 u_1.2 ++ wR G (ad 3) k2 r2 ++ wK (ad 4)) := hD
    refine W.widen (k := 13) (n := 121) (Nat.le_of_ble_eq_true rfl) (Nat.le_of_ble_eq_true rfl) ?_
    refine hret _ _ _ _ _ _ (pFits r ro (ix t) w) u_1 dX0_ofRest_117 ?_ hP hD hS (Nat.le_of_ble_eq_true rfl) (Nat.le_of_ble_eq_true rfl)
    exact ⟨hz_1, rfl⟩
set_option maxHeartbeats 4000000 in
set_option maxRecDepth 100000 in
theorem m_rest_26 (l : Launch) (hl0 : l.stackTraces = false) (G : xG) (ad : Nat → Nat → Nat) (kd k1 k2 : Nat → Option Nat) (r r1 r2 : Rw) (ho rn ln dr : Int32) (ro lt rf th sb : Nat → Int32) (hr : Ok r) (hp : r 5 3 = 0) (hk : kOk (ad 4) kd r) (mi z0 z1 z8 z9 : Int32) (jn : Nat) (hjn : rn = nI jn) (hjm : jn ≤ 16) : yCi l G yX0_ofRest cX0_ofRest 7 (some .int) ({ frames := 10, cells := 3, slots := 21, locals := 179 } : Room) [.ref (ad 0 0), .int 26, .int mi, .int z0, .int z1, .int z8, .int z9] (wX G ad ho rn ln dr ro lt rf th sb ++ wR G (ad 1) kd r ++ wR G (ad 2) k1 r1 ++ wR G (ad 3) k2 r2 ++ wK (ad 4)) (S := Unit) (SX := Unit) (fun v _ => eW (wBy mi.toInt 0 99) (eS (decide (jn < 16)) (-6) 0) = 0 ∧ v = nI (jn + 1)) (fun _ => (wX G ad ho (nI (jn + 1)) ln dr (upd ro jn mi) lt rf th sb ++ wR G (ad 1) kd r ++ wR G (ad 2) k1 r1 ++ wR G (ad 3) k2 r2 ++ wK (ad 4))) (fun n _ => n = eW (wBy mi.toInt 0 99) (eS (decide (jn < 16)) (-6) 0) ∧ eW (wBy mi.toInt 0 99) (eS (decide (jn < 16)) (-6) 0) ≠ 0) (fun _ => (wX G ad ho rn ln dr ro lt rf th sb ++ wR G (ad 1) kd r ++ wR G (ad 2) k1 r1 ++ wR G (ad 3) k2 r2 ++ wK (ad 4))) := by
  refine y_openi (by decide) (Nat.le_of_ble_eq_true rfl) (fun _ _ _ => rfl) ?_
  intro p e s m args below meth c A Q ls C0 hK hZ hP hD hA hl hret hthr
  obtain ⟨hx, hb, hml, hown, hts⟩ := id C0
  have hS : va_S A s.heap s.heap [] := va_S.rf
  have hP : va_P G.1 vwCl (wX G ad ho rn ln dr ro lt rf th sb ++ wR G (ad 1) kd r ++ wR G (ad 2) k1 r1 ++ wR G (ad 3) k2 r2 ++ wK (ad 4)) s.heap := hP
  have hD : va_D A (wX G ad ho rn ln dr ro lt rf th sb ++ wR G (ad 1) kd r ++ wR G (ad 2) k1 r1 ++ wR G (ad 3) k2 r2 ++ wK (ad 4)) := hD
  have hl : lv_has ls 7 [(0, .ref (ad 0 0)), (1, .int 26), (2, .int mi), (3, .int z0), (4, .int z1), (5, .int z8), (6, .int z9)] := hl
  have hr0 := hr.n
  have hN := hr.le
  refine lv_iload_n hx hb dX0_ofRest_0 rfl (lv_at hl 1 rfl) ?_
  refine lv_tableOut (tgt := 108) hx hb dX0_ofRest_1 (by decide) (by decide) ?_
  refine lv_aload_n hx hb dX0_ofRest_108 rfl (lv_at hl 0 rfl) ?_
  refine lv_iload_n hx hb dX0_ofRest_109 rfl (lv_at hl 1 rfl) ?_
  refine lv_iload_n hx hb dX0_ofRest_110 rfl (lv_at hl 2 rfl) ?_
  refine lv_iload_n hx hb dX0_ofRest_111 rfl (lv_at hl 3 rfl) ?_
  refine lv_iload hx hb dX0_ofRest_112 (lv_at hl 4 rfl) ?_
  refine y_Vi (wN := fun u_1 => (wX G ad ho (nI (jn + 1)) ln dr (upd ro jn mi) lt rf th sb ++ wR G (ad 1) kd r ++ wR G (ad 2) k1 r1 ++ wR G (ad 3) k2 r2 ++ wK (ad 4))) (wNx := fun u9 => (wX G ad ho rn ln dr ro lt rf th sb ++ wR G (ad 1) kd r ++ wR G (ad 2) k1 r1 ++ wR G (ad 3) k2 r2 ++ wK (ad 4))) ⟨C0, hK, hP, hD, hS, hA⟩ hZ 0 rfl (ci := 0) rfl rfl ((m_of_26 l hl0 G ad kd k1 k2 r r1 r2 ho rn ln dr ro lt rf th sb hr hp hk mi z0 z1 jn hjn hjm)) (cwV 4 hts (lw_V q954 q956 qs54 q86 q957) rfl rfl rfl (by decide +kernel) ⟨Nat.le_of_ble_eq_true rfl, Nat.le_of_ble_eq_true rfl⟩) [0, 1, 2, 3, 4, 5, 6, 7, 8, 9, 10, 11, 12, 13, 14, 15, 16, 17, 18, 19, 20, 21, 22, 23, 24, 25, 26, 27, 28, 29, 30] [1, 3, 5, 7, 9, 11, 13, 15, 17, 19, 21, 23, 25, 27, 29, 31, 33, 35, 37, 39, 41, 43, 45, 47, 49, 51, 53, 55, 57, 59, 61] [1, 3, 5, 7, 9, 11, 13, 15, 17, 19, 21, 23, 25, 27, 29, 31, 33, 35, 37, 39, 41, 43, 45, 47, 49, 51, 53, 55, 57, 59, 61, 63] rfl (fun _ => rfl) (fun _ _ _ => rfl) rfl rfl rfl hl.1 rfl (Nat.le_of_ble_eq_true rfl) dX0_ofRest_114 ⟨(Nat.le_of_ble_eq_true rfl), (Nat.le_of_ble_eq_true rfl)⟩ (fun q9 u9 ee H locs hw_1 hP hD hS => ?_) (fun r_1 u_1 H locs hw_1 hP hD hS => ?_)
  · skip
    refine hthr _ _ _ _ _ _ _ q9 () ee ?_ hP hD hS (Nat.le_of_ble_eq_true rfl) (Nat.le_of_ble_eq_true rfl)
    exact hw_1
  · skip
    obtain ⟨hz_1, hw_1⟩ := hw_1
    have hw_1 : (nI (jn + 1) : Int32) = r_1 := hw_1.symm
    subst hw_1
    have hP : va_P G.1 vwCl (wX G ad ho (nI (jn + 1)) ln dr (upd ro jn mi) lt rf th sb ++ wR G (ad 1) kd r ++ wR G (ad 2) k1 r1 ++ wR G (ad 3) k2 r2 ++ wK (ad 4)) H := hP
    have hD : va_D A (wX G ad ho (nI (jn + 1)) ln dr (upd ro jn mi) lt rf th sb ++ wR G (ad 1) kd r ++ wR G (ad 2) k1 r1 ++ wR G (ad 3) k2 r2 ++ wK (ad 4)) := hD
    refine W.widen (k := 3) (n := 21) (Nat.le_of_ble_eq_true rfl) (Nat.le_of_ble_eq_true rfl) ?_
    refine hret _ _ _ _ _ _ (nI (jn + 1)) () dX0_ofRest_117 ?_ hP hD hS (Nat.le_of_ble_eq_true rfl) (Nat.le_of_ble_eq_true rfl)
    exact ⟨hz_1, rfl⟩
set_option maxHeartbeats 4000000 in
set_option maxRecDepth 100000 in
theorem m_rest_27 (l : Launch) (hl0 : l.stackTraces = false) (G : xG) (ad : Nat → Nat → Nat) (kd k1 k2 : Nat → Option Nat) (r r1 r2 : Rw) (ho rn ln dr : Int32) (ro lt rf th sb : Nat → Int32) (hr : Ok r) (hp : r 5 3 = 0) (hk : kOk (ad 4) kd r) (z0 z1 z2 z8 z9 : Int32) (jn : Nat) (hjn : rn = nI jn) (hjm : jn ≤ 16) : yCi l G yX0_ofRest cX0_ofRest 7 (some .int) ({ frames := 8, cells := 0, slots := 0, locals := 181 } : Room) [.ref (ad 0 0), .int 27, .int z0, .int z1, .int z2, .int z8, .int z9] (wX G ad ho rn ln dr ro lt rf th sb ++ wR G (ad 1) kd r ++ wR G (ad 2) k1 r1 ++ wR G (ad 3) k2 r2 ++ wK (ad 4)) (S := ((Nat → Option Nat) × Rw)) (SX := Unit) (fun v _ => (0 : Int32) = 0 ∧ v = jdN r ro jn) (fun u => (wX G ad ho 0 ln dr ro lt rf th sb ++ wR G (ad 1) kd r ++ wR G (ad 2) u.1 u.2 ++ wR G (ad 3) k2 r2 ++ wK (ad 4))) (fun n _ => n = (0 : Int32) ∧ (0 : Int32) ≠ 0) (fun _ => (wX G ad ho rn ln dr ro lt rf th sb ++ wR G (ad 1) kd r ++ wR G (ad 2) k1 r1 ++ wR G (ad 3) k2 r2 ++ wK (ad 4))) := by
  refine y_openi (by decide) (Nat.le_of_ble_eq_true rfl) (fun _ _ _ => rfl) ?_
  intro p e s m args below meth c A Q ls C0 hK hZ hP hD hA hl hret hthr
  obtain ⟨hx, hb, hml, hown, hts⟩ := id C0
  have hS : va_S A s.heap s.heap [] := va_S.rf
  have hP : va_P G.1 vwCl (wX G ad ho rn ln dr ro lt rf th sb ++ wR G (ad 1) kd r ++ wR G (ad 2) k1 r1 ++ wR G (ad 3) k2 r2 ++ wK (ad 4)) s.heap := hP
  have hD : va_D A (wX G ad ho rn ln dr ro lt rf th sb ++ wR G (ad 1) kd r ++ wR G (ad 2) k1 r1 ++ wR G (ad 3) k2 r2 ++ wK (ad 4)) := hD
  have hl : lv_has ls 7 [(0, .ref (ad 0 0)), (1, .int 27), (2, .int z0), (3, .int z1), (4, .int z2), (5, .int z8), (6, .int z9)] := hl
  have hr0 := hr.n
  have hN := hr.le
  refine lv_iload_n hx hb dX0_ofRest_0 rfl (lv_at hl 1 rfl) ?_
  refine lv_tableOut (tgt := 108) hx hb dX0_ofRest_1 (by decide) (by decide) ?_
  refine lv_aload_n hx hb dX0_ofRest_108 rfl (lv_at hl 0 rfl) ?_
  refine lv_iload_n hx hb dX0_ofRest_109 rfl (lv_at hl 1 rfl) ?_
  refine lv_iload_n hx hb dX0_ofRest_110 rfl (lv_at hl 2 rfl) ?_
  refine lv_iload_n hx hb dX0_ofRest_111 rfl (lv_at hl 3 rfl) ?_
  refine lv_iload hx hb dX0_ofRest_112 (lv_at hl 4 rfl) ?_
  refine y_Vi (wN := fun u_1 => (wX G ad ho 0 ln dr ro lt rf th sb ++ wR G (ad 1) kd r ++ wR G (ad 2) u_1.1 u_1.2 ++ wR G (ad 3) k2 r2 ++ wK (ad 4))) (wNx := fun u9 => (wX G ad ho rn ln dr ro lt rf th sb ++ wR G (ad 1) kd r ++ wR G (ad 2) k1 r1 ++ wR G (ad 3) k2 r2 ++ wK (ad 4))) ⟨C0, hK, hP, hD, hS, hA⟩ hZ 0 rfl (ci := 0) rfl rfl ((m_of_27 l hl0 G ad kd k1 k2 r r1 r2 ho rn ln dr ro lt rf th sb hr hp hk z0 z1 z2 jn hjn hjm)) (cwV 4 hts (lw_V q954 q956 qs54 q86 q957) rfl rfl rfl (by decide +kernel) ⟨Nat.le_of_ble_eq_true rfl, Nat.le_of_ble_eq_true rfl⟩) [0, 1, 2, 3, 4, 5, 6, 7, 8, 9, 10, 11, 12, 13, 14, 15, 16, 17, 18, 19, 20, 21, 22, 23, 24, 25, 26, 27, 28, 29, 30] [1, 3, 5, 7, 9, 11, 13, 15, 17, 19, 21, 23, 25, 27, 29, 31, 33, 35, 37, 39, 41, 43, 45, 47, 49, 51, 53, 55, 57, 59, 61] [1, 3, 5, 7, 9, 11, 13, 15, 17, 19, 21, 23, 25, 27, 29, 31, 33, 35, 37, 39, 41, 43, 45, 47, 49, 51, 53, 55, 57, 59, 61, 63] rfl (fun _ => rfl) (fun _ _ _ => rfl) rfl rfl rfl hl.1 rfl (Nat.le_of_ble_eq_true rfl) dX0_ofRest_114 ⟨(Nat.le_of_ble_eq_true rfl), (Nat.le_of_ble_eq_true rfl)⟩ (fun q9 u9 ee H locs hw_1 hP hD hS => ?_) (fun r_1 u_1 H locs hw_1 hP hD hS => ?_)
  · skip
    refine hthr _ _ _ _ _ _ _ q9 () ee ?_ hP hD hS (Nat.le_of_ble_eq_true rfl) (Nat.le_of_ble_eq_true rfl)
    exact hw_1
  · skip
    obtain ⟨hz_1, hw_1⟩ := hw_1
    have hw_1 : (jdN r ro jn : Int32) = r_1 := hw_1.symm
    subst hw_1
    have hP : va_P G.1 vwCl (wX G ad ho 0 ln dr ro lt rf th sb ++ wR G (ad 1) kd r ++ wR G (ad 2) u_1.1 u_1.2 ++ wR G (ad 3) k2 r2 ++ wK (ad 4)) H := hP
    have hD : va_D A (wX G ad ho 0 ln dr ro lt rf th sb ++ wR G (ad 1) kd r ++ wR G (ad 2) u_1.1 u_1.2 ++ wR G (ad 3) k2 r2 ++ wK (ad 4)) := hD
    refine hret _ _ _ _ _ _ (jdN r ro jn) u_1 dX0_ofRest_117 ?_ hP hD hS (Nat.le_of_ble_eq_true rfl) (Nat.le_of_ble_eq_true rfl)
    exact ⟨hz_1, rfl⟩
set_option maxHeartbeats 4000000 in
set_option maxRecDepth 100000 in
theorem m_rest_28 (l : Launch) (hl0 : l.stackTraces = false) (G : xG) (ad : Nat → Nat → Nat) (kd k1 k2 : Nat → Option Nat) (r r1 r2 : Rw) (ho rn ln dr : Int32) (ro lt rf th sb : Nat → Int32) (hr : Ok r) (hp : r 5 3 = 0) (hk : kOk (ad 4) kd r) (z0 z1 z2 z8 z9 : Int32) : yCi l G yX0_ofRest cX0_ofRest 7 (some .int) ({ frames := 1, cells := 0, slots := 0, locals := 25 } : Room) [.ref (ad 0 0), .int 28, .int z0, .int z1, .int z2, .int z8, .int z9] (wX G ad ho rn ln dr ro lt rf th sb ++ wR G (ad 1) kd r ++ wR G (ad 2) k1 r1 ++ wR G (ad 3) k2 r2 ++ wK (ad 4)) (S := Unit) (SX := Unit) (fun v _ => (0 : Int32) = 0 ∧ v = rn) (fun _ => (wX G ad ho 0 ln dr ro lt rf th sb ++ wR G (ad 1) kd r ++ wR G (ad 2) k1 r1 ++ wR G (ad 3) k2 r2 ++ wK (ad 4))) (fun n _ => n = (0 : Int32) ∧ (0 : Int32) ≠ 0) (fun _ => (wX G ad ho rn ln dr ro lt rf th sb ++ wR G (ad 1) kd r ++ wR G (ad 2) k1 r1 ++ wR G (ad 3) k2 r2 ++ wK (ad 4))) := by
  refine y_openi (by decide) (Nat.le_of_ble_eq_true rfl) (fun _ _ _ => rfl) ?_
  intro p e s m args below meth c A Q ls C0 hK hZ hP hD hA hl hret hthr
  obtain ⟨hx, hb, hml, hown, hts⟩ := id C0
  have hS : va_S A s.heap s.heap [] := va_S.rf
  have hP : va_P G.1 vwCl (wX G ad ho rn ln dr ro lt rf th sb ++ wR G (ad 1) kd r ++ wR G (ad 2) k1 r1 ++ wR G (ad 3) k2 r2 ++ wK (ad 4)) s.heap := hP
  have hD : va_D A (wX G ad ho rn ln dr ro lt rf th sb ++ wR G (ad 1) kd r ++ wR G (ad 2) k1 r1 ++ wR G (ad 3) k2 r2 ++ wK (ad 4)) := hD
  have hl : lv_has ls 7 [(0, .ref (ad 0 0)), (1, .int 28), (2, .int z0), (3, .int z1), (4, .int z2), (5, .int z8), (6, .int z9)] := hl
  have hr0 := hr.n
  have hN := hr.le
  refine lv_iload_n hx hb dX0_ofRest_0 rfl (lv_at hl 1 rfl) ?_
  refine lv_tableOut (tgt := 108) hx hb dX0_ofRest_1 (by decide) (by decide) ?_
  refine lv_aload_n hx hb dX0_ofRest_108 rfl (lv_at hl 0 rfl) ?_
  refine lv_iload_n hx hb dX0_ofRest_109 rfl (lv_at hl 1 rfl) ?_
  refine lv_iload_n hx hb dX0_ofRest_110 rfl (lv_at hl 2 rfl) ?_
  refine lv_iload_n hx hb dX0_ofRest_111 rfl (lv_at hl 3 rfl) ?_
  refine lv_iload hx hb dX0_ofRest_112 (lv_at hl 4 rfl) ?_
  refine y_Vi (wN := fun u_1 => (wX G ad ho 0 ln dr ro lt rf th sb ++ wR G (ad 1) kd r ++ wR G (ad 2) k1 r1 ++ wR G (ad 3) k2 r2 ++ wK (ad 4))) (wNx := fun u9 => (wX G ad ho rn ln dr ro lt rf th sb ++ wR G (ad 1) kd r ++ wR G (ad 2) k1 r1 ++ wR G (ad 3) k2 r2 ++ wK (ad 4))) ⟨C0, hK, hP, hD, hS, hA⟩ hZ 0 rfl (ci := 0) rfl rfl ((m_of_28 l hl0 G ad kd k1 k2 r r1 r2 ho rn ln dr ro lt rf th sb hr hp hk z0 z1 z2)) (cwV 4 hts (lw_V q954 q956 qs54 q86 q957) rfl rfl rfl (by decide +kernel) ⟨Nat.le_of_ble_eq_true rfl, Nat.le_of_ble_eq_true rfl⟩) [0, 1, 2, 3, 4, 5, 6, 7, 8, 9, 10, 11, 12, 13, 14, 15, 16, 17, 18, 19, 20, 21, 22, 23, 24, 25, 26, 27, 28, 29, 30] [1, 3, 5, 7, 9, 11, 13, 15, 17, 19, 21, 23, 25, 27, 29, 31, 33, 35, 37, 39, 41, 43, 45, 47, 49, 51, 53, 55, 57, 59, 61] [1, 3, 5, 7, 9, 11, 13, 15, 17, 19, 21, 23, 25, 27, 29, 31, 33, 35, 37, 39, 41, 43, 45, 47, 49, 51, 53, 55, 57, 59, 61, 63] rfl (fun _ => rfl) (fun _ _ _ => rfl) rfl rfl rfl hl.1 rfl (Nat.le_of_ble_eq_true rfl) dX0_ofRest_114 ⟨(Nat.le_of_ble_eq_true rfl), (Nat.le_of_ble_eq_true rfl)⟩ (fun q9 u9 ee H locs hw_1 hP hD hS => ?_) (fun r_1 u_1 H locs hw_1 hP hD hS => ?_)
  · skip
    refine hthr _ _ _ _ _ _ _ q9 () ee ?_ hP hD hS (Nat.le_of_ble_eq_true rfl) (Nat.le_of_ble_eq_true rfl)
    exact hw_1
  · skip
    obtain ⟨hz_1, hw_1⟩ := hw_1
    have hw_1 : (rn : Int32) = r_1 := hw_1.symm
    subst hw_1
    have hP : va_P G.1 vwCl (wX G ad ho 0 ln dr ro lt rf th sb ++ wR G (ad 1) kd r ++ wR G (ad 2) k1 r1 ++ wR G (ad 3) k2 r2 ++ wK (ad 4)) H := hP
    have hD : va_D A (wX G ad ho 0 ln dr ro lt rf th sb ++ wR G (ad 1) kd r ++ wR G (ad 2) k1 r1 ++ wR G (ad 3) k2 r2 ++ wK (ad 4)) := hD
    refine hret _ _ _ _ _ _ rn () dX0_ofRest_117 ?_ hP hD hS (Nat.le_of_ble_eq_true rfl) (Nat.le_of_ble_eq_true rfl)
    exact ⟨hz_1, rfl⟩
set_option maxHeartbeats 4000000 in
set_option maxRecDepth 100000 in
theorem m_rest_29 (l : Launch) (hl0 : l.stackTraces = false) (G : xG) (ad : Nat → Nat → Nat) (kd k1 k2 : Nat → Option Nat) (r r1 r2 : Rw) (ho rn ln dr : Int32) (ro lt rf th sb : Nat → Int32) (hr : Ok r) (hp : r 5 3 = 0) (hk : kOk (ad 4) kd r) (cnt z w z8 z9 : Int32) : yCi l G yX0_ofRest cX0_ofRest 7 (some .int) ({ frames := 11, cells := 4, slots := 28, locals := 207 } : Room) [.ref (ad 0 0), .int 29, .int cnt, .int z, .int w, .int z8, .int z9] (wX G ad ho rn ln dr ro lt rf th sb ++ wR G (ad 1) kd r ++ wR G (ad 2) k1 r1 ++ wR G (ad 3) k2 r2 ++ wK (ad 4)) (S := (((Nat → Option Nat) × Rw) × Int32)) (SX := Unit) (fun v _ => eW (wBy cnt.toInt 1 20) (eS (inR w 0 1) (-2) (eS (decide (0 < nI (mny r))) (-3) 0)) = 0 ∧ v = (lSum r w z (ix cnt)).2) (fun u => (wX G ad ho rn ln u.2 ro lt rf th sb ++ wR G (ad 1) kd r ++ wR G (ad 2) u.1.1 u.1.2 ++ wR G (ad 3) k2 r2 ++ wK (ad 4))) (fun n _ => n = eW (wBy cnt.toInt 1 20) (eS (inR w 0 1) (-2) (eS (decide (0 < nI (mny r))) (-3) 0)) ∧ eW (wBy cnt.toInt 1 20) (eS (inR w 0 1) (-2) (eS (decide (0 < nI (mny r))) (-3) 0)) ≠ 0) (fun _ => (wX G ad ho rn ln dr ro lt rf th sb ++ wR G (ad 1) kd r ++ wR G (ad 2) k1 r1 ++ wR G (ad 3) k2 r2 ++ wK (ad 4))) := by
  refine y_openi (by decide) (Nat.le_of_ble_eq_true rfl) (fun _ _ _ => rfl) ?_
  intro p e s m args below meth c A Q ls C0 hK hZ hP hD hA hl hret hthr
  obtain ⟨hx, hb, hml, hown, hts⟩ := id C0
  have hS : va_S A s.heap s.heap [] := va_S.rf
  have hP : va_P G.1 vwCl (wX G ad ho rn ln dr ro lt rf th sb ++ wR G (ad 1) kd r ++ wR G (ad 2) k1 r1 ++ wR G (ad 3) k2 r2 ++ wK (ad 4)) s.heap := hP
  have hD : va_D A (wX G ad ho rn ln dr ro lt rf th sb ++ wR G (ad 1) kd r ++ wR G (ad 2) k1 r1 ++ wR G (ad 3) k2 r2 ++ wK (ad 4)) := hD
  have hl : lv_has ls 7 [(0, .ref (ad 0 0)), (1, .int 29), (2, .int cnt), (3, .int z), (4, .int w), (5, .int z8), (6, .int z9)] := hl
  have hr0 := hr.n
  have hN := hr.le
  refine lv_iload_n hx hb dX0_ofRest_0 rfl (lv_at hl 1 rfl) ?_
  refine lv_tableOut (tgt := 108) hx hb dX0_ofRest_1 (by decide) (by decide) ?_
  refine lv_aload_n hx hb dX0_ofRest_108 rfl (lv_at hl 0 rfl) ?_
  refine lv_iload_n hx hb dX0_ofRest_109 rfl (lv_at hl 1 rfl) ?_
  refine lv_iload_n hx hb dX0_ofRest_110 rfl (lv_at hl 2 rfl) ?_
  refine lv_iload_n hx hb dX0_ofRest_111 rfl (lv_at hl 3 rfl) ?_
  refine lv_iload hx hb dX0_ofRest_112 (lv_at hl 4 rfl) ?_
  refine y_Vi (wN := fun u_1 => (wX G ad ho rn ln u_1.2 ro lt rf th sb ++ wR G (ad 1) kd r ++ wR G (ad 2) u_1.1.1 u_1.1.2 ++ wR G (ad 3) k2 r2 ++ wK (ad 4))) (wNx := fun u9 => (wX G ad ho rn ln dr ro lt rf th sb ++ wR G (ad 1) kd r ++ wR G (ad 2) k1 r1 ++ wR G (ad 3) k2 r2 ++ wK (ad 4))) ⟨C0, hK, hP, hD, hS, hA⟩ hZ 0 rfl (ci := 0) rfl rfl ((m_of_29 l hl0 G ad kd k1 k2 r r1 r2 ho rn ln dr ro lt rf th sb hr hp hk cnt z w)) (cwV 4 hts (lw_V q954 q956 qs54 q86 q957) rfl rfl rfl (by decide +kernel) ⟨Nat.le_of_ble_eq_true rfl, Nat.le_of_ble_eq_true rfl⟩) [0, 1, 2, 3, 4, 5, 6, 7, 8, 9, 10, 11, 12, 13, 14, 15, 16, 17, 18, 19, 20, 21, 22, 23, 24, 25, 26, 27, 28, 29, 30] [1, 3, 5, 7, 9, 11, 13, 15, 17, 19, 21, 23, 25, 27, 29, 31, 33, 35, 37, 39, 41, 43, 45, 47, 49, 51, 53, 55, 57, 59, 61] [1, 3, 5, 7, 9, 11, 13, 15, 17, 19, 21, 23, 25, 27, 29, 31, 33, 35, 37, 39, 41, 43, 45, 47, 49, 51, 53, 55, 57, 59, 61, 63] rfl (fun _ => rfl) (fun _ _ _ => rfl) rfl rfl rfl hl.1 rfl (Nat.le_of_ble_eq_true rfl) dX0_ofRest_114 ⟨(Nat.le_of_ble_eq_true rfl), (Nat.le_of_ble_eq_true rfl)⟩ (fun q9 u9 ee H locs hw_1 hP hD hS => ?_) (fun r_1 u_1 H locs hw_1 hP hD hS => ?_)
  · skip
    refine hthr _ _ _ _ _ _ _ q9 () ee ?_ hP hD hS (Nat.le_of_ble_eq_true rfl) (Nat.le_of_ble_eq_true rfl)
    exact hw_1
  · skip
    obtain ⟨hz_1, hw_1⟩ := hw_1
    have hw_1 : ((lSum r w z (ix cnt)).2 : Int32) = r_1 := hw_1.symm
    subst hw_1
    have hP : va_P G.1 vwCl (wX G ad ho rn ln u_1.2 ro lt rf th sb ++ wR G (ad 1) kd r ++ wR G (ad 2) u_1.1.1 u_1.1.2 ++ wR G (ad 3) k2 r2 ++ wK (ad 4)) H := hP
    have hD : va_D A (wX G ad ho rn ln u_1.2 ro lt rf th sb ++ wR G (ad 1) kd r ++ wR G (ad 2) u_1.1.1 u_1.1.2 ++ wR G (ad 3) k2 r2 ++ wK (ad 4)) := hD
    refine W.widen (k := 4) (n := 28) (Nat.le_of_ble_eq_true rfl) (Nat.le_of_ble_eq_true rfl) ?_
    refine hret _ _ _ _ _ _ ((lSum r w z (ix cnt)).2) u_1 dX0_ofRest_117 ?_ hP hD hS (Nat.le_of_ble_eq_true rfl) (Nat.le_of_ble_eq_true rfl)
    exact ⟨hz_1, rfl⟩
set_option maxHeartbeats 4000000 in
set_option maxRecDepth 100000 in
theorem m_rest_30 (l : Launch) (hl0 : l.stackTraces = false) (G : xG) (ad : Nat → Nat → Nat) (kd k1 k2 : Nat → Option Nat) (r r1 r2 : Rw) (ho rn ln dr : Int32) (ro lt rf th sb : Nat → Int32) (hr : Ok r) (hp : r 5 3 = 0) (hk : kOk (ad 4) kd r) (z0 z1 z2 z8 z9 : Int32) : yCi l G yX0_ofRest cX0_ofRest 7 (some .int) ({ frames := 3, cells := 0, slots := 0, locals := 126 } : Room) [.ref (ad 0 0), .int 30, .int z0, .int z1, .int z2, .int z8, .int z9] (wX G ad ho rn ln dr ro lt rf th sb ++ wR G (ad 1) kd r ++ wR G (ad 2) k1 r1 ++ wR G (ad 3) k2 r2 ++ wK (ad 4)) (S := Unit) (SX := Unit) (fun v _ => (0 : Int32) = 0 ∧ v = r 5 1) (fun _ => (wX G ad 1 rn ln dr ro lt rf th sb ++ wR G (ad 1) kd r ++ wR G (ad 2) k1 r1 ++ wR G (ad 3) kd r ++ wK (ad 4))) (fun n _ => n = (0 : Int32) ∧ (0 : Int32) ≠ 0) (fun _ => (wX G ad ho rn ln dr ro lt rf th sb ++ wR G (ad 1) kd r ++ wR G (ad 2) k1 r1 ++ wR G (ad 3) k2 r2 ++ wK (ad 4))) := by
  refine y_openi (by decide) (Nat.le_of_ble_eq_true rfl) (fun _ _ _ => rfl) ?_
  intro p e s m args below meth c A Q ls C0 hK hZ hP hD hA hl hret hthr
  obtain ⟨hx, hb, hml, hown, hts⟩ := id C0
  have hS : va_S A s.heap s.heap [] := va_S.rf
  have hP : va_P G.1 vwCl (wX G ad ho rn ln dr ro lt rf th sb ++ wR G (ad 1) kd r ++ wR G (ad 2) k1 r1 ++ wR G (ad 3) k2 r2 ++ wK (ad 4)) s.heap := hP
  have hD : va_D A (wX G ad ho rn ln dr ro lt rf th sb ++ wR G (ad 1) kd r ++ wR G (ad 2) k1 r1 ++ wR G (ad 3) k2 r2 ++ wK (ad 4)) := hD
  have hl : lv_has ls 7 [(0, .ref (ad 0 0)), (1, .int 30), (2, .int z0), (3, .int z1), (4, .int z2), (5, .int z8), (6, .int z9)] := hl
  have hr0 := hr.n
  have hN := hr.le
  refine lv_iload_n hx hb dX0_ofRest_0 rfl (lv_at hl 1 rfl) ?_
  refine lv_tableOut (tgt := 108) hx hb dX0_ofRest_1 (by decide) (by decide) ?_
  refine lv_aload_n hx hb dX0_ofRest_108 rfl (lv_at hl 0 rfl) ?_
  refine lv_iload_n hx hb dX0_ofRest_109 rfl (lv_at hl 1 rfl) ?_
  refine lv_iload_n hx hb dX0_ofRest_110 rfl (lv_at hl 2 rfl) ?_
  refine lv_iload_n hx hb dX0_ofRest_111 rfl (lv_at hl 3 rfl) ?_
  refine lv_iload hx hb dX0_ofRest_112 (lv_at hl 4 rfl) ?_
  refine y_Vi (wN := fun u_1 => (wX G ad 1 rn ln dr ro lt rf th sb ++ wR G (ad 1) kd r ++ wR G (ad 2) k1 r1 ++ wR G (ad 3) kd r ++ wK (ad 4))) (wNx := fun u9 => (wX G ad ho rn ln dr ro lt rf th sb ++ wR G (ad 1) kd r ++ wR G (ad 2) k1 r1 ++ wR G (ad 3) k2 r2 ++ wK (ad 4))) ⟨C0, hK, hP, hD, hS, hA⟩ hZ 0 rfl (ci := 0) rfl rfl ((m_of_30 l hl0 G ad kd k1 k2 r r1 r2 ho rn ln dr ro lt rf th sb hr hp hk z0 z1 z2)) (cwV 4 hts (lw_V q954 q956 qs54 q86 q957) rfl rfl rfl (by decide +kernel) ⟨Nat.le_of_ble_eq_true rfl, Nat.le_of_ble_eq_true rfl⟩) [0, 1, 2, 3, 4, 5, 6, 7, 8, 9, 10, 11, 12, 13, 14, 15, 16, 17, 18, 19, 20, 21, 22, 23, 24, 25, 26, 27, 28, 29, 30] [1, 3, 5, 7, 9, 11, 13, 15, 17, 19, 21, 23, 25, 27, 29, 31, 33, 35, 37, 39, 41, 43, 45, 47, 49, 51, 53, 55, 57, 59, 61] [1, 3, 5, 7, 9, 11, 13, 15, 17, 19, 21, 23, 25, 27, 29, 31, 33, 35, 37, 39, 41, 43, 45, 47, 49, 51, 53, 55, 57, 59, 61, 63] rfl (fun _ => rfl) (fun _ _ _ => rfl) rfl rfl rfl hl.1 rfl (Nat.le_of_ble_eq_true rfl) dX0_ofRest_114 ⟨(Nat.le_of_ble_eq_true rfl), (Nat.le_of_ble_eq_true rfl)⟩ (fun q9 u9 ee H locs hw_1 hP hD hS => ?_) (fun r_1 u_1 H locs hw_1 hP hD hS => ?_)
  · skip
    refine hthr _ _ _ _ _ _ _ q9 () ee ?_ hP hD hS (Nat.le_of_ble_eq_true rfl) (Nat.le_of_ble_eq_true rfl)
    exact hw_1
  · skip
    obtain ⟨hz_1, hw_1⟩ := hw_1
    have hw_1 : (r 5 1 : Int32) = r_1 := hw_1.symm
    subst hw_1
    have hP : va_P G.1 vwCl (wX G ad 1 rn ln dr ro lt rf th sb ++ wR G (ad 1) kd r ++ wR G (ad 2) k1 r1 ++ wR G (ad 3) kd r ++ wK (ad 4)) H := hP
    have hD : va_D A (wX G ad 1 rn ln dr ro lt rf th sb ++ wR G (ad 1) kd r ++ wR G (ad 2) k1 r1 ++ wR G (ad 3) kd r ++ wK (ad 4)) := hD
    refine hret _ _ _ _ _ _ (r 5 1) () dX0_ofRest_117 ?_ hP hD hS (Nat.le_of_ble_eq_true rfl) (Nat.le_of_ble_eq_true rfl)
    exact ⟨hz_1, rfl⟩
set_option maxHeartbeats 4000000 in
set_option maxRecDepth 100000 in
theorem m_rest_31 (l : Launch) (hl0 : l.stackTraces = false) (G : xG) (ad : Nat → Nat → Nat) (kd k1 k2 : Nat → Option Nat) (r r1 r2 : Rw) (ho rn ln dr : Int32) (ro lt rf th sb : Nat → Int32) (hr : Ok r) (hp : r 5 3 = 0) (hk : kOk (ad 4) kd r) (z0 z1 z2 z8 z9 : Int32) (hB : Bool) (hho : ho = bI hB) (h2 : hB = true → Ok r2 ∧ kOk (ad 4) k2 r2 ∧ r2 5 3 = 0) : yCi l G yX0_ofRest cX0_ofRest 7 (some .int) ({ frames := 9, cells := 1, slots := 7, locals := 154 } : Room) [.ref (ad 0 0), .int 31, .int z0, .int z1, .int z2, .int z8, .int z9] (wX G ad ho rn ln dr ro lt rf th sb ++ wR G (ad 1) kd r ++ wR G (ad 2) k1 r1 ++ wR G (ad 3) k2 r2 ++ wK (ad 4)) (S := Unit) (SX := Unit) (fun v _ => eS hB (-3) 0 = 0 ∧ v = r2 5 1) (fun _ => (wX G ad ho rn ln dr ro lt rf th sb ++ wR G (ad 1) k2 r2 ++ wR G (ad 2) k1 r1 ++ wR G (ad 3) k2 r2 ++ wK (ad 4))) (fun n _ => n = eS hB (-3) 0 ∧ eS hB (-3) 0 ≠ 0) (fun _ => (wX G ad ho rn ln dr ro lt rf th sb ++ wR G (ad 1) kd r ++ wR G (ad 2) k1 r1 ++ wR G (ad 3) k2 r2 ++ wK (ad 4))) := by
  refine y_openi (by decide) (Nat.le_of_ble_eq_true rfl) (fun _ _ _ => rfl) ?_
  intro p e s m args below meth c A Q ls C0 hK hZ hP hD hA hl hret hthr
  obtain ⟨hx, hb, hml, hown, hts⟩ := id C0
  have hS : va_S A s.heap s.heap [] := va_S.rf
  have hP : va_P G.1 vwCl (wX G ad ho rn ln dr ro lt rf th sb ++ wR G (ad 1) kd r ++ wR G (ad 2) k1 r1 ++ wR G (ad 3) k2 r2 ++ wK (ad 4)) s.heap := hP
  have hD : va_D A (wX G ad ho rn ln dr ro lt rf th sb ++ wR G (ad 1) kd r ++ wR G (ad 2) k1 r1 ++ wR G (ad 3) k2 r2 ++ wK (ad 4)) := hD
  have hl : lv_has ls 7 [(0, .ref (ad 0 0)), (1, .int 31), (2, .int z0), (3, .int z1), (4, .int z2), (5, .int z8), (6, .int z9)] := hl
  have hr0 := hr.n
  have hN := hr.le
  refine lv_iload_n hx hb dX0_ofRest_0 rfl (lv_at hl 1 rfl) ?_
  refine lv_tableOut (tgt := 108) hx hb dX0_ofRest_1 (by decide) (by decide) ?_
  refine lv_aload_n hx hb dX0_ofRest_108 rfl (lv_at hl 0 rfl) ?_
  refine lv_iload_n hx hb dX0_ofRest_109 rfl (lv_at hl 1 rfl) ?_
  refine lv_iload_n hx hb dX0_ofRest_110 rfl (lv_at hl 2 rfl) ?_
  refine lv_iload_n hx hb dX0_ofRest_111 rfl (lv_at hl 3 rfl) ?_
  refine lv_iload hx hb dX0_ofRest_112 (lv_at hl 4 rfl) ?_
  refine y_Vi (wN := fun u_1 => (wX G ad ho rn ln dr ro lt rf th sb ++ wR G (ad 1) k2 r2 ++ wR G (ad 2) k1 r1 ++ wR G (ad 3) k2 r2 ++ wK (ad 4))) (wNx := fun u9 => (wX G ad ho rn ln dr ro lt rf th sb ++ wR G (ad 1) kd r ++ wR G (ad 2) k1 r1 ++ wR G (ad 3) k2 r2 ++ wK (ad 4))) ⟨C0, hK, hP, hD, hS, hA⟩ hZ 0 rfl (ci := 0) rfl rfl ((m_of_31 l hl0 G ad kd k1 k2 r r1 r2 ho rn ln dr ro lt rf th sb hr hp hk z0 z1 z2 hB hho h2)) (cwV 4 hts (lw_V q954 q956 qs54 q86 q957) rfl rfl rfl (by decide +kernel) ⟨Nat.le_of_ble_eq_true rfl, Nat.le_of_ble_eq_true rfl⟩) [0, 1, 2, 3, 4, 5, 6, 7, 8, 9, 10, 11, 12, 13, 14, 15, 16, 17, 18, 19, 20, 21, 22, 23, 24, 25, 26, 27, 28, 29, 30] [1, 3, 5, 7, 9, 11, 13, 15, 17, 19, 21, 23, 25, 27, 29, 31, 33, 35, 37, 39, 41, 43, 45, 47, 49, 51, 53, 55, 57, 59, 61] [1, 3, 5, 7, 9, 11, 13, 15, 17, 19, 21, 23, 25, 27, 29, 31, 33, 35, 37, 39, 41, 43, 45, 47, 49, 51, 53, 55, 57, 59, 61, 63] rfl (fun _ => rfl) (fun _ _ _ => rfl) rfl rfl rfl hl.1 rfl (Nat.le_of_ble_eq_true rfl) dX0_ofRest_114 ⟨(Nat.le_of_ble_eq_true rfl), (Nat.le_of_ble_eq_true rfl)⟩ (fun q9 u9 ee H locs hw_1 hP hD hS => ?_) (fun r_1 u_1 H locs hw_1 hP hD hS => ?_)
  · skip
    refine hthr _ _ _ _ _ _ _ q9 () ee ?_ hP hD hS (Nat.le_of_ble_eq_true rfl) (Nat.le_of_ble_eq_true rfl)
    exact hw_1
  · skip
    obtain ⟨hz_1, hw_1⟩ := hw_1
    have hw_1 : (r2 5 1 : Int32) = r_1 := hw_1.symm
    subst hw_1
    have hP : va_P G.1 vwCl (wX G ad ho rn ln dr ro lt rf th sb ++ wR G (ad 1) k2 r2 ++ wR G (ad 2) k1 r1 ++ wR G (ad 3) k2 r2 ++ wK (ad 4)) H := hP
    have hD : va_D A (wX G ad ho rn ln dr ro lt rf th sb ++ wR G (ad 1) k2 r2 ++ wR G (ad 2) k1 r1 ++ wR G (ad 3) k2 r2 ++ wK (ad 4)) := hD
    refine W.widen (k := 1) (n := 7) (Nat.le_of_ble_eq_true rfl) (Nat.le_of_ble_eq_true rfl) ?_
    refine hret _ _ _ _ _ _ (r2 5 1) () dX0_ofRest_117 ?_ hP hD hS (Nat.le_of_ble_eq_true rfl) (Nat.le_of_ble_eq_true rfl)
    exact ⟨hz_1, rfl⟩

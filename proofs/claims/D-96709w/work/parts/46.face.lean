/-! the face (printed by tools/face.py) -/
set_option maxRecDepth 100000
set_option maxHeartbeats 4000000 in
set_option maxRecDepth 100000 in
theorem m_letter (l : Launch) (hl0 : l.stackTraces = false) (G : xG) (ad : Nat → Nat → Nat) (kd k1 k2 : Nat → Option Nat) (r r1 r2 : Rw) (ho rn ln dr : Int32) (ro lt rf th sb : Nat → Int32) (hr : Ok r) (hp : r 5 3 = 0) (hk : kOk (ad 4) kd r) (c1 : Int32) (lm : Nat) (hln : ln = nI lm) (hlm9 : lm ≤ 96) : zCi l G yX0_letter (ws_ yX0_letter cX0_letter 2 (some .int)) ({ frames := 12, cells := 3, slots := 21, locals := 226 } : Room) [.ref (ad 0 0), .int c1] (wX G ad ho rn ln dr ro lt rf th sb ++ wR G (ad 1) kd r ++ wR G (ad 2) k1 r1 ++ wR G (ad 3) k2 r2 ++ wK (ad 4)) (S := Unit) (fun v _ => v = sel (eW (wBy c1.toInt 0 255) (eS (decide (lm < 96)) (-6) 0)) (nI (lm + 1)) (eW (wBy c1.toInt 0 255) (eS (decide (lm < 96)) (-6) 0))) (fun _ => (wX G ad ho rn (sel (eW (wBy c1.toInt 0 255) (eS (decide (lm < 96)) (-6) 0)) (nI (lm + 1)) ln) dr ro (sel (eW (wBy c1.toInt 0 255) (eS (decide (lm < 96)) (-6) 0)) (upd lt lm c1) lt) (sel (eW (wBy c1.toInt 0 255) (eS (decide (lm < 96)) (-6) 0)) rf (rfU rf (eW (wBy c1.toInt 0 255) (eS (decide (lm < 96)) (-6) 0)))) th sb ++ wR G (ad 1) kd r ++ wR G (ad 2) k1 r1 ++ wR G (ad 3) k2 r2 ++ wK (ad 4))) := by
  refine z_openi (by decide) (Nat.le_of_ble_eq_true rfl) (fun _ _ _ => rfl) ?_
  intro p e s m args below meth c A Q ls C0 hK hZ hP hD hA hl hret
  obtain ⟨hx, hb, hml, hown, hts⟩ := id C0
  have hS : va_S A s.heap s.heap [] := va_S.rf
  have hP : va_P G.1 vwCl (wX G ad ho rn ln dr ro lt rf th sb ++ wR G (ad 1) kd r ++ wR G (ad 2) k1 r1 ++ wR G (ad 3) k2 r2 ++ wK (ad 4)) s.heap := hP
  have hD : va_D A (wX G ad ho rn ln dr ro lt rf th sb ++ wR G (ad 1) kd r ++ wR G (ad 2) k1 r1 ++ wR G (ad 3) k2 r2 ++ wK (ad 4)) := hD
  have hl : lv_has ls 2 [(0, .ref (ad 0 0)), (1, .int c1)] := hl
  have hr0 := hr.n
  have hN := hr.le
  refine lv_aload_n hx hb dX0_letter_0 rfl (lv_at hl 0 rfl) ?_
  refine lv_iconst (v := 0) hx hb dX0_letter_1 (by decide) ?_
  refine lv_iload_n hx hb dX0_letter_2 rfl (lv_at hl 1 rfl) ?_
  refine lv_iconst (v := 0) hx hb dX0_letter_3 (by decide) ?_
  refine lv_iconst (v := 0) hx hb dX0_letter_4 (by decide) ?_
  refine lv_iconst (v := 0) hx hb dX0_letter_5 (by decide) ?_
  refine lv_iconst (v := 0) hx hb dX0_letter_6 (by decide) ?_
  refine z_VWi (wN := fun u_1 => (wX G ad ho rn (sel (eW (wBy c1.toInt 0 255) (eS (decide (lm < 96)) (-6) 0)) (nI (lm + 1)) ln) dr ro (sel (eW (wBy c1.toInt 0 255) (eS (decide (lm < 96)) (-6) 0)) (upd lt lm c1) lt) (sel (eW (wBy c1.toInt 0 255) (eS (decide (lm < 96)) (-6) 0)) rf (rfU rf (eW (wBy c1.toInt 0 255) (eS (decide (lm < 96)) (-6) 0)))) th sb ++ wR G (ad 1) kd r ++ wR G (ad 2) k1 r1 ++ wR G (ad 3) k2 r2 ++ wK (ad 4))) ⟨C0, hK, hP, hD, hS, hA⟩ hZ 0 rfl (ci := 0) rfl rfl ((m_act_0 l hl0 G ad kd k1 k2 r r1 r2 ho rn ln dr ro lt rf th sb hr hp hk c1 0 0 0 0 lm hln hlm9)) (vy_cwVW 6 hts (lw_VW q269 q271 qs0 q86 q272) rfl rfl rfl (by decide +kernel) ⟨Nat.le_of_ble_eq_true rfl, Nat.le_of_ble_eq_true rfl⟩) [0, 1, 2, 3, 4, 5, 6, 7, 8, 9, 10, 11, 12, 13, 14, 15, 16, 17, 18, 19, 20, 21, 22, 23, 24, 25, 26, 27, 28, 29, 30] [1, 3, 5, 7, 9, 11, 13, 15, 17, 19, 21, 23, 25, 27, 29, 31, 33, 35, 37, 39, 41, 43, 45, 47, 49, 51, 53, 55, 57, 59, 61] rfl (fun _ => rfl) rfl rfl hl.1 rfl (Nat.le_of_ble_eq_true rfl) dX0_letter_7 ⟨(Nat.le_of_ble_eq_true rfl), (Nat.le_of_ble_eq_true rfl)⟩ (fun r_1 u_1 H locs hw_1 hP hD hS => ?_)
  have hP : va_P G.1 vwCl (wX G ad ho rn (sel (eW (wBy c1.toInt 0 255) (eS (decide (lm < 96)) (-6) 0)) (nI (lm + 1)) ln) dr ro (sel (eW (wBy c1.toInt 0 255) (eS (decide (lm < 96)) (-6) 0)) (upd lt lm c1) lt) (sel (eW (wBy c1.toInt 0 255) (eS (decide (lm < 96)) (-6) 0)) rf (rfU rf (eW (wBy c1.toInt 0 255) (eS (decide (lm < 96)) (-6) 0)))) th sb ++ wR G (ad 1) kd r ++ wR G (ad 2) k1 r1 ++ wR G (ad 3) k2 r2 ++ wK (ad 4)) H := hP
  have hD : va_D A (wX G ad ho rn (sel (eW (wBy c1.toInt 0 255) (eS (decide (lm < 96)) (-6) 0)) (nI (lm + 1)) ln) dr ro (sel (eW (wBy c1.toInt 0 255) (eS (decide (lm < 96)) (-6) 0)) (upd lt lm c1) lt) (sel (eW (wBy c1.toInt 0 255) (eS (decide (lm < 96)) (-6) 0)) rf (rfU rf (eW (wBy c1.toInt 0 255) (eS (decide (lm < 96)) (-6) 0)))) th sb ++ wR G (ad 1) kd r ++ wR G (ad 2) k1 r1 ++ wR G (ad 3) k2 r2 ++ wK (ad 4)) := hD
  refine W.widen (k := 3) (n := 21) (Nat.le_of_ble_eq_true rfl) (Nat.le_of_ble_eq_true rfl) ?_
  refine hret _ _ _ _ _ _ r_1 () dX0_letter_10 ?_ hP hD hS (Nat.le_of_ble_eq_true rfl) (Nat.le_of_ble_eq_true rfl)
  exact hw_1
set_option maxHeartbeats 4000000 in
set_option maxRecDepth 100000 in
theorem m_room (l : Launch) (hl0 : l.stackTraces = false) (G : xG) (ad : Nat → Nat → Nat) (kd k1 k2 : Nat → Option Nat) (r r1 r2 : Rw) (ho rn ln dr : Int32) (ro lt rf th sb : Nat → Int32) (hr : Ok r) (hp : r 5 3 = 0) (hk : kOk (ad 4) kd r)  (z : Nat) (hln : ln = nI z) (hz : z ≤ 96) : zCi l G yX0_room (ws_ yX0_room cX0_room 1 (some .int)) ({ frames := 14, cells := 268, slots := 1898, locals := 271 } : Room) [.ref (ad 0 0)] (wX G ad ho rn ln dr ro lt rf th sb ++ wR G (ad 1) kd r ++ wR G (ad 2) k1 r1 ++ wR G (ad 3) k2 r2 ++ wK (ad 4)) (S := ((Nat → Option Nat) × ((Nat → Option Nat) × Rw))) (fun v u => v = sel (rrE lt z r) (nI (sLast lt z + 1)) (rrE lt z r) ∧ kOk (ad 4) u.1 (sel (rrE lt z r) (rrR lt z r (sLast lt z + 1)) r)) (fun u => (wX G ad ho rn 0 dr ro lt (sel (rrE lt z r) rf (rfU rf (rrE lt z r))) th sb ++ wR G (ad 1) u.1 (sel (rrE lt z r) (rrR lt z r (sLast lt z + 1)) r) ++ wR G (ad 2) u.2.1 u.2.2 ++ wR G (ad 3) k2 r2 ++ wK (ad 4))) := by
  refine z_openi (by decide) (Nat.le_of_ble_eq_true rfl) (fun _ _ _ => rfl) ?_
  intro p e s m args below meth c A Q ls C0 hK hZ hP hD hA hl hret
  obtain ⟨hx, hb, hml, hown, hts⟩ := id C0
  have hS : va_S A s.heap s.heap [] := va_S.rf
  have hP : va_P G.1 vwCl (wX G ad ho rn ln dr ro lt rf th sb ++ wR G (ad 1) kd r ++ wR G (ad 2) k1 r1 ++ wR G (ad 3) k2 r2 ++ wK (ad 4)) s.heap := hP
  have hD : va_D A (wX G ad ho rn ln dr ro lt rf th sb ++ wR G (ad 1) kd r ++ wR G (ad 2) k1 r1 ++ wR G (ad 3) k2 r2 ++ wK (ad 4)) := hD
  have hl : lv_has ls 1 [(0, .ref (ad 0 0))] := hl
  have hr0 := hr.n
  have hN := hr.le
  refine lv_aload_n hx hb dX0_room_0 rfl (lv_at hl 0 rfl) ?_
  refine lv_iconst (v := 1) hx hb dX0_room_1 (by decide) ?_
  refine lv_iconst (v := 0) hx hb dX0_room_2 (by decide) ?_
  refine lv_iconst (v := 0) hx hb dX0_room_3 (by decide) ?_
  refine lv_iconst (v := 0) hx hb dX0_room_4 (by decide) ?_
  refine lv_iconst (v := 0) hx hb dX0_room_5 (by decide) ?_
  refine lv_iconst (v := 0) hx hb dX0_room_6 (by decide) ?_
  refine z_VWi (wN := fun u_1 => (wX G ad ho rn 0 dr ro lt (sel (rrE lt z r) rf (rfU rf (rrE lt z r))) th sb ++ wR G (ad 1) u_1.1 (sel (rrE lt z r) (rrR lt z r (sLast lt z + 1)) r) ++ wR G (ad 2) u_1.2.1 u_1.2.2 ++ wR G (ad 3) k2 r2 ++ wK (ad 4))) ⟨C0, hK, hP, hD, hS, hA⟩ hZ 0 rfl (ci := 0) rfl rfl ((m_act_1 l hl0 G ad kd k1 k2 r r1 r2 ho rn ln dr ro lt rf th sb hr hp hk 0 0 0 0 0 z hln hz)) (vy_cwVW 6 hts (lw_VW q269 q271 qs0 q86 q272) rfl rfl rfl (by decide +kernel) ⟨Nat.le_of_ble_eq_true rfl, Nat.le_of_ble_eq_true rfl⟩) [0, 1, 2, 3, 4, 5, 6, 7, 8, 9, 10, 11, 12, 13, 14, 15, 16, 17, 18, 19, 20, 21, 22, 23, 24, 25, 26, 27, 28, 29, 30] [1, 3, 5, 7, 9, 11, 13, 15, 17, 19, 21, 23, 25, 27, 29, 31, 33, 35, 37, 39, 41, 43, 45, 47, 49, 51, 53, 55, 57, 59, 61] rfl (fun _ => rfl) rfl rfl hl.1 rfl (Nat.le_of_ble_eq_true rfl) dX0_room_7 ⟨(Nat.le_of_ble_eq_true rfl), (Nat.le_of_ble_eq_true rfl)⟩ (fun r_1 u_1 H locs hw_1 hP hD hS => ?_)
  have hP : va_P G.1 vwCl (wX G ad ho rn 0 dr ro lt (sel (rrE lt z r) rf (rfU rf (rrE lt z r))) th sb ++ wR G (ad 1) u_1.1 (sel (rrE lt z r) (rrR lt z r (sLast lt z + 1)) r) ++ wR G (ad 2) u_1.2.1 u_1.2.2 ++ wR G (ad 3) k2 r2 ++ wK (ad 4)) H := hP
  have hD : va_D A (wX G ad ho rn 0 dr ro lt (sel (rrE lt z r) rf (rfU rf (rrE lt z r))) th sb ++ wR G (ad 1) u_1.1 (sel (rrE lt z r) (rrR lt z r (sLast lt z + 1)) r) ++ wR G (ad 2) u_1.2.1 u_1.2.2 ++ wR G (ad 3) k2 r2 ++ wK (ad 4)) := hD
  refine W.widen (k := 268) (n := 1898) (Nat.le_of_ble_eq_true rfl) (Nat.le_of_ble_eq_true rfl) ?_
  refine hret _ _ _ _ _ _ r_1 u_1 dX0_room_10 ?_ hP hD hS (Nat.le_of_ble_eq_true rfl) (Nat.le_of_ble_eq_true rfl)
  exact hw_1
set_option maxHeartbeats 4000000 in
set_option maxRecDepth 100000 in
theorem m_thing (l : Launch) (hl0 : l.stackTraces = false) (G : xG) (ad : Nat → Nat → Nat) (kd k1 k2 : Nat → Option Nat) (r r1 r2 : Rw) (ho rn ln dr : Int32) (ro lt rf th sb : Nat → Int32) (hr : Ok r) (hp : r 5 3 = 0) (hk : kOk (ad 4) kd r) (t w : Int32) : zCi l G yX0_thing (ws_ yX0_thing cX0_thing 3 (some .int)) ({ frames := 13, cells := 2, slots := 14, locals := 244 } : Room) [.ref (ad 0 0), .int t, .int w] (wX G ad ho rn ln dr ro lt rf th sb ++ wR G (ad 1) kd r ++ wR G (ad 2) k1 r1 ++ wR G (ad 3) k2 r2 ++ wK (ad 4)) (S := Unit) (fun v _ => v = sel (eS (tB r t) (-1) (eS (inR w 0 7) (-2) 0)) (pTh r (ix t) w) (eS (tB r t) (-1) (eS (inR w 0 7) (-2) 0))) (fun _ => (wX G ad ho rn ln dr ro lt (sel (eS (tB r t) (-1) (eS (inR w 0 7) (-2) 0)) rf (rfU rf (eS (tB r t) (-1) (eS (inR w 0 7) (-2) 0)))) th sb ++ wR G (ad 1) kd r ++ wR G (ad 2) k1 r1 ++ wR G (ad 3) k2 r2 ++ wK (ad 4))) := by
  refine z_openi (by decide) (Nat.le_of_ble_eq_true rfl) (fun _ _ _ => rfl) ?_
  intro p e s m args below meth c A Q ls C0 hK hZ hP hD hA hl hret
  obtain ⟨hx, hb, hml, hown, hts⟩ := id C0
  have hS : va_S A s.heap s.heap [] := va_S.rf
  have hP : va_P G.1 vwCl (wX G ad ho rn ln dr ro lt rf th sb ++ wR G (ad 1) kd r ++ wR G (ad 2) k1 r1 ++ wR G (ad 3) k2 r2 ++ wK (ad 4)) s.heap := hP
  have hD : va_D A (wX G ad ho rn ln dr ro lt rf th sb ++ wR G (ad 1) kd r ++ wR G (ad 2) k1 r1 ++ wR G (ad 3) k2 r2 ++ wK (ad 4)) := hD
  have hl : lv_has ls 3 [(0, .ref (ad 0 0)), (1, .int t), (2, .int w)] := hl
  have hr0 := hr.n
  have hN := hr.le
  refine lv_aload_n hx hb dX0_thing_0 rfl (lv_at hl 0 rfl) ?_
  refine lv_iconst (v := 2) hx hb dX0_thing_1 (by decide) ?_
  refine lv_iload_n hx hb dX0_thing_2 rfl (lv_at hl 1 rfl) ?_
  refine lv_iload_n hx hb dX0_thing_3 rfl (lv_at hl 2 rfl) ?_
  refine lv_iconst (v := 0) hx hb dX0_thing_4 (by decide) ?_
  refine lv_iconst (v := 0) hx hb dX0_thing_5 (by decide) ?_
  refine lv_iconst (v := 0) hx hb dX0_thing_6 (by decide) ?_
  refine z_VWi (wN := fun u_1 => (wX G ad ho rn ln dr ro lt (sel (eS (tB r t) (-1) (eS (inR w 0 7) (-2) 0)) rf (rfU rf (eS (tB r t) (-1) (eS (inR w 0 7) (-2) 0)))) th sb ++ wR G (ad 1) kd r ++ wR G (ad 2) k1 r1 ++ wR G (ad 3) k2 r2 ++ wK (ad 4))) ⟨C0, hK, hP, hD, hS, hA⟩ hZ 0 rfl (ci := 0) rfl rfl ((m_act_2 l hl0 G ad kd k1 k2 r r1 r2 ho rn ln dr ro lt rf th sb hr hp hk t w 0 0 0)) (vy_cwVW 6 hts (lw_VW q269 q271 qs0 q86 q272) rfl rfl rfl (by decide +kernel) ⟨Nat.le_of_ble_eq_true rfl, Nat.le_of_ble_eq_true rfl⟩) [0, 1, 2, 3, 4, 5, 6, 7, 8, 9, 10, 11, 12, 13, 14, 15, 16, 17, 18, 19, 20, 21, 22, 23, 24, 25, 26, 27, 28, 29, 30] [1, 3, 5, 7, 9, 11, 13, 15, 17, 19, 21, 23, 25, 27, 29, 31, 33, 35, 37, 39, 41, 43, 45, 47, 49, 51, 53, 55, 57, 59, 61] rfl (fun _ => rfl) rfl rfl hl.1 rfl (Nat.le_of_ble_eq_true rfl) dX0_thing_7 ⟨(Nat.le_of_ble_eq_true rfl), (Nat.le_of_ble_eq_true rfl)⟩ (fun r_1 u_1 H locs hw_1 hP hD hS => ?_)
  have hP : va_P G.1 vwCl (wX G ad ho rn ln dr ro lt (sel (eS (tB r t) (-1) (eS (inR w 0 7) (-2) 0)) rf (rfU rf (eS (tB r t) (-1) (eS (inR w 0 7) (-2) 0)))) th sb ++ wR G (ad 1) kd r ++ wR G (ad 2) k1 r1 ++ wR G (ad 3) k2 r2 ++ wK (ad 4)) H := hP
  have hD : va_D A (wX G ad ho rn ln dr ro lt (sel (eS (tB r t) (-1) (eS (inR w 0 7) (-2) 0)) rf (rfU rf (eS (tB r t) (-1) (eS (inR w 0 7) (-2) 0)))) th sb ++ wR G (ad 1) kd r ++ wR G (ad 2) k1 r1 ++ wR G (ad 3) k2 r2 ++ wK (ad 4)) := hD
  refine W.widen (k := 2) (n := 14) (Nat.le_of_ble_eq_true rfl) (Nat.le_of_ble_eq_true rfl) ?_
  refine hret _ _ _ _ _ _ r_1 () dX0_thing_10 ?_ hP hD hS (Nat.le_of_ble_eq_true rfl) (Nat.le_of_ble_eq_true rfl)
  exact hw_1
set_option maxHeartbeats 4000000 in
set_option maxRecDepth 100000 in
theorem m_pulls (l : Launch) (hl0 : l.stackTraces = false) (G : xG) (ad : Nat → Nat → Nat) (kd k1 k2 : Nat → Option Nat) (r r1 r2 : Rw) (ho rn ln dr : Int32) (ro lt rf th sb : Nat → Int32) (hr : Ok r) (hp : r 5 3 = 0) (hk : kOk (ad 4) kd r) (t sp : Int32) : zCi l G yX0_pulls (ws_ yX0_pulls cX0_pulls 3 (some .int)) ({ frames := 13, cells := 4, slots := 28, locals := 247 } : Room) [.ref (ad 0 0), .int t, .int sp] (wX G ad ho rn ln dr ro lt rf th sb ++ wR G (ad 1) kd r ++ wR G (ad 2) k1 r1 ++ wR G (ad 3) k2 r2 ++ wK (ad 4)) (S := Unit) (fun v _ => v = sel (eS (tB r t) (-1) (eW (wBy sp.toInt 0 9) (eS (pSt r (ix t)) (-3) 0))) (pPullN r (ix t) sp) (eS (tB r t) (-1) (eW (wBy sp.toInt 0 9) (eS (pSt r (ix t)) (-3) 0)))) (fun _ => (wX G ad ho rn ln dr ro lt (sel (eS (tB r t) (-1) (eW (wBy sp.toInt 0 9) (eS (pSt r (ix t)) (-3) 0))) rf (rfU rf (eS (tB r t) (-1) (eW (wBy sp.toInt 0 9) (eS (pSt r (ix t)) (-3) 0))))) th sb ++ wR G (ad 1) kd (sel (eS (tB r t) (-1) (eW (wBy sp.toInt 0 9) (eS (pSt r (ix t)) (-3) 0))) (pPull r (ix t) sp) r) ++ wR G (ad 2) k1 r1 ++ wR G (ad 3) k2 r2 ++ wK (ad 4))) := by
  refine z_openi (by decide) (Nat.le_of_ble_eq_true rfl) (fun _ _ _ => rfl) ?_
  intro p e s m args below meth c A Q ls C0 hK hZ hP hD hA hl hret
  obtain ⟨hx, hb, hml, hown, hts⟩ := id C0
  have hS : va_S A s.heap s.heap [] := va_S.rf
  have hP : va_P G.1 vwCl (wX G ad ho rn ln dr ro lt rf th sb ++ wR G (ad 1) kd r ++ wR G (ad 2) k1 r1 ++ wR G (ad 3) k2 r2 ++ wK (ad 4)) s.heap := hP
  have hD : va_D A (wX G ad ho rn ln dr ro lt rf th sb ++ wR G (ad 1) kd r ++ wR G (ad 2) k1 r1 ++ wR G (ad 3) k2 r2 ++ wK (ad 4)) := hD
  have hl : lv_has ls 3 [(0, .ref (ad 0 0)), (1, .int t), (2, .int sp)] := hl
  have hr0 := hr.n
  have hN := hr.le
  refine lv_aload_n hx hb dX0_pulls_0 rfl (lv_at hl 0 rfl) ?_
  refine lv_iconst (v := 3) hx hb dX0_pulls_1 (by decide) ?_
  refine lv_iload_n hx hb dX0_pulls_2 rfl (lv_at hl 1 rfl) ?_
  refine lv_iload_n hx hb dX0_pulls_3 rfl (lv_at hl 2 rfl) ?_
  refine lv_iconst (v := 0) hx hb dX0_pulls_4 (by decide) ?_
  refine lv_iconst (v := 0) hx hb dX0_pulls_5 (by decide) ?_
  refine lv_iconst (v := 0) hx hb dX0_pulls_6 (by decide) ?_
  refine z_VWi (wN := fun u_1 => (wX G ad ho rn ln dr ro lt (sel (eS (tB r t) (-1) (eW (wBy sp.toInt 0 9) (eS (pSt r (ix t)) (-3) 0))) rf (rfU rf (eS (tB r t) (-1) (eW (wBy sp.toInt 0 9) (eS (pSt r (ix t)) (-3) 0))))) th sb ++ wR G (ad 1) kd (sel (eS (tB r t) (-1) (eW (wBy sp.toInt 0 9) (eS (pSt r (ix t)) (-3) 0))) (pPull r (ix t) sp) r) ++ wR G (ad 2) k1 r1 ++ wR G (ad 3) k2 r2 ++ wK (ad 4))) ⟨C0, hK, hP, hD, hS, hA⟩ hZ 0 rfl (ci := 0) rfl rfl ((m_act_3 l hl0 G ad kd k1 k2 r r1 r2 ho rn ln dr ro lt rf th sb hr hp hk t sp 0 0 0)) (vy_cwVW 6 hts (lw_VW q269 q271 qs0 q86 q272) rfl rfl rfl (by decide +kernel) ⟨Nat.le_of_ble_eq_true rfl, Nat.le_of_ble_eq_true rfl⟩) [0, 1, 2, 3, 4, 5, 6, 7, 8, 9, 10, 11, 12, 13, 14, 15, 16, 17, 18, 19, 20, 21, 22, 23, 24, 25, 26, 27, 28, 29, 30] [1, 3, 5, 7, 9, 11, 13, 15, 17, 19, 21, 23, 25, 27, 29, 31, 33, 35, 37, 39, 41, 43, 45, 47, 49, 51, 53, 55, 57, 59, 61] rfl (fun _ => rfl) rfl rfl hl.1 rfl (Nat.le_of_ble_eq_true rfl) dX0_pulls_7 ⟨(Nat.le_of_ble_eq_true rfl), (Nat.le_of_ble_eq_true rfl)⟩ (fun r_1 u_1 H locs hw_1 hP hD hS => ?_)
  have hP : va_P G.1 vwCl (wX G ad ho rn ln dr ro lt (sel (eS (tB r t) (-1) (eW (wBy sp.toInt 0 9) (eS (pSt r (ix t)) (-3) 0))) rf (rfU rf (eS (tB r t) (-1) (eW (wBy sp.toInt 0 9) (eS (pSt r (ix t)) (-3) 0))))) th sb ++ wR G (ad 1) kd (sel (eS (tB r t) (-1) (eW (wBy sp.toInt 0 9) (eS (pSt r (ix t)) (-3) 0))) (pPull r (ix t) sp) r) ++ wR G (ad 2) k1 r1 ++ wR G (ad 3) k2 r2 ++ wK (ad 4)) H := hP
  have hD : va_D A (wX G ad ho rn ln dr ro lt (sel (eS (tB r t) (-1) (eW (wBy sp.toInt 0 9) (eS (pSt r (ix t)) (-3) 0))) rf (rfU rf (eS (tB r t) (-1) (eW (wBy sp.toInt 0 9) (eS (pSt r (ix t)) (-3) 0))))) th sb ++ wR G (ad 1) kd (sel (eS (tB r t) (-1) (eW (wBy sp.toInt 0 9) (eS (pSt r (ix t)) (-3) 0))) (pPull r (ix t) sp) r) ++ wR G (ad 2) k1 r1 ++ wR G (ad 3) k2 r2 ++ wK (ad 4)) := hD
  refine W.widen (k := 4) (n := 28) (Nat.le_of_ble_eq_true rfl) (Nat.le_of_ble_eq_true rfl) ?_
  refine hret _ _ _ _ _ _ r_1 () dX0_pulls_10 ?_ hP hD hS (Nat.le_of_ble_eq_true rfl) (Nat.le_of_ble_eq_true rfl)
  exact hw_1
set_option maxHeartbeats 4000000 in
set_option maxRecDepth 100000 in
theorem m_floor (l : Launch) (hl0 : l.stackTraces = false) (G : xG) (ad : Nat → Nat → Nat) (kd k1 k2 : Nat → Option Nat) (r r1 r2 : Rw) (ho rn ln dr : Int32) (ro lt rf th sb : Nat → Int32) (hr : Ok r) (hp : r 5 3 = 0) (hk : kOk (ad 4) kd r) (sp : Int32) : zCi l G yX0_floor (ws_ yX0_floor cX0_floor 2 (some .int)) ({ frames := 13, cells := 3, slots := 21, locals := 246 } : Room) [.ref (ad 0 0), .int sp] (wX G ad ho rn ln dr ro lt rf th sb ++ wR G (ad 1) kd r ++ wR G (ad 2) k1 r1 ++ wR G (ad 3) k2 r2 ++ wK (ad 4)) (S := Unit) (fun v _ => v = sel (eW (wBy sp.toInt 0 9) (eS (bB r) (-3) 0)) (pPullFN r sp) (eW (wBy sp.toInt 0 9) (eS (bB r) (-3) 0))) (fun _ => (wX G ad ho rn ln dr ro lt (sel (eW (wBy sp.toInt 0 9) (eS (bB r) (-3) 0)) rf (rfU rf (eW (wBy sp.toInt 0 9) (eS (bB r) (-3) 0)))) th sb ++ wR G (ad 1) kd (sel (eW (wBy sp.toInt 0 9) (eS (bB r) (-3) 0)) (pPullF r sp) r) ++ wR G (ad 2) k1 r1 ++ wR G (ad 3) k2 r2 ++ wK (ad 4))) := by
  refine z_openi (by decide) (Nat.le_of_ble_eq_true rfl) (fun _ _ _ => rfl) ?_
  intro p e s m args below meth c A Q ls C0 hK hZ hP hD hA hl hret
  obtain ⟨hx, hb, hml, hown, hts⟩ := id C0
  have hS : va_S A s.heap s.heap [] := va_S.rf
  have hP : va_P G.1 vwCl (wX G ad ho rn ln dr ro lt rf th sb ++ wR G (ad 1) kd r ++ wR G (ad 2) k1 r1 ++ wR G (ad 3) k2 r2 ++ wK (ad 4)) s.heap := hP
  have hD : va_D A (wX G ad ho rn ln dr ro lt rf th sb ++ wR G (ad 1) kd r ++ wR G (ad 2) k1 r1 ++ wR G (ad 3) k2 r2 ++ wK (ad 4)) := hD
  have hl : lv_has ls 2 [(0, .ref (ad 0 0)), (1, .int sp)] := hl
  have hr0 := hr.n
  have hN := hr.le
  refine lv_aload_n hx hb dX0_floor_0 rfl (lv_at hl 0 rfl) ?_
  refine lv_iconst (v := 4) hx hb dX0_floor_1 (by decide) ?_
  refine lv_iload_n hx hb dX0_floor_2 rfl (lv_at hl 1 rfl) ?_
  refine lv_iconst (v := 0) hx hb dX0_floor_3 (by decide) ?_
  refine lv_iconst (v := 0) hx hb dX0_floor_4 (by decide) ?_
  refine lv_iconst (v := 0) hx hb dX0_floor_5 (by decide) ?_
  refine lv_iconst (v := 0) hx hb dX0_floor_6 (by decide) ?_
  refine z_VWi (wN := fun u_1 => (wX G ad ho rn ln dr ro lt (sel (eW (wBy sp.toInt 0 9) (eS (bB r) (-3) 0)) rf (rfU rf (eW (wBy sp.toInt 0 9) (eS (bB r) (-3) 0)))) th sb ++ wR G (ad 1) kd (sel (eW (wBy sp.toInt 0 9) (eS (bB r) (-3) 0)) (pPullF r sp) r) ++ wR G (ad 2) k1 r1 ++ wR G (ad 3) k2 r2 ++ wK (ad 4))) ⟨C0, hK, hP, hD, hS, hA⟩ hZ 0 rfl (ci := 0) rfl rfl ((m_act_4 l hl0 G ad kd k1 k2 r r1 r2 ho rn ln dr ro lt rf th sb hr hp hk sp 0 0 0 0)) (vy_cwVW 6 hts (lw_VW q269 q271 qs0 q86 q272) rfl rfl rfl (by decide +kernel) ⟨Nat.le_of_ble_eq_true rfl, Nat.le_of_ble_eq_true rfl⟩) [0, 1, 2, 3, 4, 5, 6, 7, 8, 9, 10, 11, 12, 13, 14, 15, 16, 17, 18, 19, 20, 21, 22, 23, 24, 25, 26, 27, 28, 29, 30] [1, 3, 5, 7, 9, 11, 13, 15, 17, 19, 21, 23, 25, 27, 29, 31, 33, 35, 37, 39, 41, 43, 45, 47, 49, 51, 53, 55, 57, 59, 61] rfl (fun _ => rfl) rfl rfl hl.1 rfl (Nat.le_of_ble_eq_true rfl) dX0_floor_7 ⟨(Nat.le_of_ble_eq_true rfl), (Nat.le_of_ble_eq_true rfl)⟩ (fun r_1 u_1 H locs hw_1 hP hD hS => ?_)
  have hP : va_P G.1 vwCl (wX G ad ho rn ln dr ro lt (sel (eW (wBy sp.toInt 0 9) (eS (bB r) (-3) 0)) rf (rfU rf (eW (wBy sp.toInt 0 9) (eS (bB r) (-3) 0)))) th sb ++ wR G (ad 1) kd (sel (eW (wBy sp.toInt 0 9) (eS (bB r) (-3) 0)) (pPullF r sp) r) ++ wR G (ad 2) k1 r1 ++ wR G (ad 3) k2 r2 ++ wK (ad 4)) H := hP
  have hD : va_D A (wX G ad ho rn ln dr ro lt (sel (eW (wBy sp.toInt 0 9) (eS (bB r) (-3) 0)) rf (rfU rf (eW (wBy sp.toInt 0 9) (eS (bB r) (-3) 0)))) th sb ++ wR G (ad 1) kd (sel (eW (wBy sp.toInt 0 9) (eS (bB r) (-3) 0)) (pPullF r sp) r) ++ wR G (ad 2) k1 r1 ++ wR G (ad 3) k2 r2 ++ wK (ad 4)) := hD
  refine W.widen (k := 3) (n := 21) (Nat.le_of_ble_eq_true rfl) (Nat.le_of_ble_eq_true rfl) ?_
  refine hret _ _ _ _ _ _ r_1 () dX0_floor_10 ?_ hP hD hS (Nat.le_of_ble_eq_true rfl) (Nat.le_of_ble_eq_true rfl)
  exact hw_1
set_option maxHeartbeats 4000000 in
set_option maxRecDepth 100000 in
theorem m_lays (l : Launch) (hl0 : l.stackTraces = false) (G : xG) (ad : Nat → Nat → Nat) (kd k1 k2 : Nat → Option Nat) (r r1 r2 : Rw) (ho rn ln dr : Int32) (ro lt rf th sb : Nat → Int32) (hr : Ok r) (hp : r 5 3 = 0) (hk : kOk (ad 4) kd r) : zCi l G yX0_lays (ws_ yX0_lays cX0_lays 1 (some .int)) ({ frames := 11, cells := 1, slots := 7, locals := 202 } : Room) [.ref (ad 0 0)] (wX G ad ho rn ln dr ro lt rf th sb ++ wR G (ad 1) kd r ++ wR G (ad 2) k1 r1 ++ wR G (ad 3) k2 r2 ++ wK (ad 4)) (S := Unit) (fun v _ => v = sel (eS (!bB r) (-3) 0) (nI (cn (pLyP (pLay r)) (mny r))) (eS (!bB r) (-3) 0)) (fun _ => (wX G ad ho rn ln dr ro lt (sel (eS (!bB r) (-3) 0) rf (rfU rf (eS (!bB r) (-3) 0))) th sb ++ wR G (ad 1) kd (sel (eS (!bB r) (-3) 0) (pLay r) r) ++ wR G (ad 2) k1 r1 ++ wR G (ad 3) k2 r2 ++ wK (ad 4))) := by
  refine z_openi (by decide) (Nat.le_of_ble_eq_true rfl) (fun _ _ _ => rfl) ?_
  intro p e s m args below meth c A Q ls C0 hK hZ hP hD hA hl hret
  obtain ⟨hx, hb, hml, hown, hts⟩ := id C0
  have hS : va_S A s.heap s.heap [] := va_S.rf
  have hP : va_P G.1 vwCl (wX G ad ho rn ln dr ro lt rf th sb ++ wR G (ad 1) kd r ++ wR G (ad 2) k1 r1 ++ wR G (ad 3) k2 r2 ++ wK (ad 4)) s.heap := hP
  have hD : va_D A (wX G ad ho rn ln dr ro lt rf th sb ++ wR G (ad 1) kd r ++ wR G (ad 2) k1 r1 ++ wR G (ad 3) k2 r2 ++ wK (ad 4)) := hD
  have hl : lv_has ls 1 [(0, .ref (ad 0 0))] := hl
  have hr0 := hr.n
  have hN := hr.le
  refine lv_aload_n hx hb dX0_lays_0 rfl (lv_at hl 0 rfl) ?_
  refine lv_iconst (v := 5) hx hb dX0_lays_1 (by decide) ?_
  refine lv_iconst (v := 0) hx hb dX0_lays_2 (by decide) ?_
  refine lv_iconst (v := 0) hx hb dX0_lays_3 (by decide) ?_
  refine lv_iconst (v := 0) hx hb dX0_lays_4 (by decide) ?_
  refine lv_iconst (v := 0) hx hb dX0_lays_5 (by decide) ?_
  refine lv_iconst (v := 0) hx hb dX0_lays_6 (by decide) ?_
  refine z_VWi (wN := fun u_1 => (wX G ad ho rn ln dr ro lt (sel (eS (!bB r) (-3) 0) rf (rfU rf (eS (!bB r) (-3) 0))) th sb ++ wR G (ad 1) kd (sel (eS (!bB r) (-3) 0) (pLay r) r) ++ wR G (ad 2) k1 r1 ++ wR G (ad 3) k2 r2 ++ wK (ad 4))) ⟨C0, hK, hP, hD, hS, hA⟩ hZ 0 rfl (ci := 0) rfl rfl ((m_act_5 l hl0 G ad kd k1 k2 r r1 r2 ho rn ln dr ro lt rf th sb hr hp hk 0 0 0 0 0)) (vy_cwVW 6 hts (lw_VW q269 q271 qs0 q86 q272) rfl rfl rfl (by decide +kernel) ⟨Nat.le_of_ble_eq_true rfl, Nat.le_of_ble_eq_true rfl⟩) [0, 1, 2, 3, 4, 5, 6, 7, 8, 9, 10, 11, 12, 13, 14, 15, 16, 17, 18, 19, 20, 21, 22, 23, 24, 25, 26, 27, 28, 29, 30] [1, 3, 5, 7, 9, 11, 13, 15, 17, 19, 21, 23, 25, 27, 29, 31, 33, 35, 37, 39, 41, 43, 45, 47, 49, 51, 53, 55, 57, 59, 61] rfl (fun _ => rfl) rfl rfl hl.1 rfl (Nat.le_of_ble_eq_true rfl) dX0_lays_7 ⟨(Nat.le_of_ble_eq_true rfl), (Nat.le_of_ble_eq_true rfl)⟩ (fun r_1 u_1 H locs hw_1 hP hD hS => ?_)
  have hP : va_P G.1 vwCl (wX G ad ho rn ln dr ro lt (sel (eS (!bB r) (-3) 0) rf (rfU rf (eS (!bB r) (-3) 0))) th sb ++ wR G (ad 1) kd (sel (eS (!bB r) (-3) 0) (pLay r) r) ++ wR G (ad 2) k1 r1 ++ wR G (ad 3) k2 r2 ++ wK (ad 4)) H := hP
  have hD : va_D A (wX G ad ho rn ln dr ro lt (sel (eS (!bB r) (-3) 0) rf (rfU rf (eS (!bB r) (-3) 0))) th sb ++ wR G (ad 1) kd (sel (eS (!bB r) (-3) 0) (pLay r) r) ++ wR G (ad 2) k1 r1 ++ wR G (ad 3) k2 r2 ++ wK (ad 4)) := hD
  refine W.widen (k := 1) (n := 7) (Nat.le_of_ble_eq_true rfl) (Nat.le_of_ble_eq_true rfl) ?_
  refine hret _ _ _ _ _ _ r_1 () dX0_lays_10 ?_ hP hD hS (Nat.le_of_ble_eq_true rfl) (Nat.le_of_ble_eq_true rfl)
  exact hw_1
set_option maxHeartbeats 4000000 in
set_option maxRecDepth 100000 in
theorem m_setsUp (l : Launch) (hl0 : l.stackTraces = false) (G : xG) (ad : Nat → Nat → Nat) (kd k1 k2 : Nat → Option Nat) (r r1 r2 : Rw) (ho rn ln dr : Int32) (ro lt rf th sb : Nat → Int32) (hr : Ok r) (hp : r 5 3 = 0) (hk : kOk (ad 4) kd r) (t : Int32) : zCi l G yX0_setsUp (ws_ yX0_setsUp cX0_setsUp 2 (some .int)) ({ frames := 13, cells := 2, slots := 14, locals := 243 } : Room) [.ref (ad 0 0), .int t] (wX G ad ho rn ln dr ro lt rf th sb ++ wR G (ad 1) kd r ++ wR G (ad 2) k1 r1 ++ wR G (ad 3) k2 r2 ++ wK (ad 4)) (S := Unit) (fun v _ => v = sel (eS (tB r t) (-1) (eS (pHow r 1 (ix t)) (-3) 0)) (bI (pHeld (pSetUp r (ix t)) (ix t))) (eS (tB r t) (-1) (eS (pHow r 1 (ix t)) (-3) 0))) (fun _ => (wX G ad ho rn ln dr ro lt (sel (eS (tB r t) (-1) (eS (pHow r 1 (ix t)) (-3) 0)) rf (rfU rf (eS (tB r t) (-1) (eS (pHow r 1 (ix t)) (-3) 0)))) th sb ++ wR G (ad 1) kd (sel (eS (tB r t) (-1) (eS (pHow r 1 (ix t)) (-3) 0)) (pSetUp r (ix t)) r) ++ wR G (ad 2) k1 r1 ++ wR G (ad 3) k2 r2 ++ wK (ad 4))) := by
  refine z_openi (by decide) (Nat.le_of_ble_eq_true rfl) (fun _ _ _ => rfl) ?_
  intro p e s m args below meth c A Q ls C0 hK hZ hP hD hA hl hret
  obtain ⟨hx, hb, hml, hown, hts⟩ := id C0
  have hS : va_S A s.heap s.heap [] := va_S.rf
  have hP : va_P G.1 vwCl (wX G ad ho rn ln dr ro lt rf th sb ++ wR G (ad 1) kd r ++ wR G (ad 2) k1 r1 ++ wR G (ad 3) k2 r2 ++ wK (ad 4)) s.heap := hP
  have hD : va_D A (wX G ad ho rn ln dr ro lt rf th sb ++ wR G (ad 1) kd r ++ wR G (ad 2) k1 r1 ++ wR G (ad 3) k2 r2 ++ wK (ad 4)) := hD
  have hl : lv_has ls 2 [(0, .ref (ad 0 0)), (1, .int t)] := hl
  have hr0 := hr.n
  have hN := hr.le
  refine lv_aload_n hx hb dX0_setsUp_0 rfl (lv_at hl 0 rfl) ?_
  refine lv_bipush (v := 6) hx hb dX0_setsUp_1 (by decide) ?_
  refine lv_iload_n hx hb dX0_setsUp_3 rfl (lv_at hl 1 rfl) ?_
  refine lv_iconst (v := 0) hx hb dX0_setsUp_4 (by decide) ?_
  refine lv_iconst (v := 0) hx hb dX0_setsUp_5 (by decide) ?_
  refine lv_iconst (v := 0) hx hb dX0_setsUp_6 (by decide) ?_
  refine lv_iconst (v := 0) hx hb dX0_setsUp_7 (by decide) ?_
  refine z_VWi (wN := fun u_1 => (wX G ad ho rn ln dr ro lt (sel (eS (tB r t) (-1) (eS (pHow r 1 (ix t)) (-3) 0)) rf (rfU rf (eS (tB r t) (-1) (eS (pHow r 1 (ix t)) (-3) 0)))) th sb ++ wR G (ad 1) kd (sel (eS (tB r t) (-1) (eS (pHow r 1 (ix t)) (-3) 0)) (pSetUp r (ix t)) r) ++ wR G (ad 2) k1 r1 ++ wR G (ad 3) k2 r2 ++ wK (ad 4))) ⟨C0, hK, hP, hD, hS, hA⟩ hZ 0 rfl (ci := 0) rfl rfl ((m_act_6 l hl0 G ad kd k1 k2 r r1 r2 ho rn ln dr ro lt rf th sb hr hp hk t 0 0 0 0)) (vy_cwVW 6 hts (lw_VW q269 q271 qs0 q86 q272) rfl rfl rfl (by decide +kernel) ⟨Nat.le_of_ble_eq_true rfl, Nat.le_of_ble_eq_true rfl⟩) [0, 1, 2, 3, 4, 5, 6, 7, 8, 9, 10, 11, 12, 13, 14, 15, 16, 17, 18, 19, 20, 21, 22, 23, 24, 25, 26, 27, 28, 29, 30] [1, 3, 5, 7, 9, 11, 13, 15, 17, 19, 21, 23, 25, 27, 29, 31, 33, 35, 37, 39, 41, 43, 45, 47, 49, 51, 53, 55, 57, 59, 61] rfl (fun _ => rfl) rfl rfl hl.1 rfl (Nat.le_of_ble_eq_true rfl) dX0_setsUp_8 ⟨(Nat.le_of_ble_eq_true rfl), (Nat.le_of_ble_eq_true rfl)⟩ (fun r_1 u_1 H locs hw_1 hP hD hS => ?_)
  have hP : va_P G.1 vwCl (wX G ad ho rn ln dr ro lt (sel (eS (tB r t) (-1) (eS (pHow r 1 (ix t)) (-3) 0)) rf (rfU rf (eS (tB r t) (-1) (eS (pHow r 1 (ix t)) (-3) 0)))) th sb ++ wR G (ad 1) kd (sel (eS (tB r t) (-1) (eS (pHow r 1 (ix t)) (-3) 0)) (pSetUp r (ix t)) r) ++ wR G (ad 2) k1 r1 ++ wR G (ad 3) k2 r2 ++ wK (ad 4)) H := hP
  have hD : va_D A (wX G ad ho rn ln dr ro lt (sel (eS (tB r t) (-1) (eS (pHow r 1 (ix t)) (-3) 0)) rf (rfU rf (eS (tB r t) (-1) (eS (pHow r 1 (ix t)) (-3) 0)))) th sb ++ wR G (ad 1) kd (sel (eS (tB r t) (-1) (eS (pHow r 1 (ix t)) (-3) 0)) (pSetUp r (ix t)) r) ++ wR G (ad 2) k1 r1 ++ wR G (ad 3) k2 r2 ++ wK (ad 4)) := hD
  refine W.widen (k := 2) (n := 14) (Nat.le_of_ble_eq_true rfl) (Nat.le_of_ble_eq_true rfl) ?_
  refine hret _ _ _ _ _ _ r_1 () dX0_setsUp_11 ?_ hP hD hS (Nat.le_of_ble_eq_true rfl) (Nat.le_of_ble_eq_true rfl)
  exact hw_1
set_option maxHeartbeats 4000000 in
set_option maxRecDepth 100000 in
theorem m_turn (l : Launch) (hl0 : l.stackTraces = false) (G : xG) (ad : Nat → Nat → Nat) (kd k1 k2 : Nat → Option Nat) (r r1 r2 : Rw) (ho rn ln dr : Int32) (ro lt rf th sb : Nat → Int32) (hr : Ok r) (hp : r 5 3 = 0) (hk : kOk (ad 4) kd r) (t kc fc : Int32) : zCi l G yX0_turn (ws_ yX0_turn cX0_turn 4 (some .int)) ({ frames := 13, cells := 4, slots := 28, locals := 246 } : Room) [.ref (ad 0 0), .int t, .int kc, .int fc] (wX G ad ho rn ln dr ro lt rf th sb ++ wR G (ad 1) kd r ++ wR G (ad 2) k1 r1 ++ wR G (ad 3) k2 r2 ++ wK (ad 4)) (S := Unit) (fun v _ => v = sel (eS (tB r t) (-1) (eS (inR kc 0 5) (-2) (eW (wBy fc.toInt 0 9) 0))) (10 * r 0 (ix t) + r 1 (ix t)) (eS (tB r t) (-1) (eS (inR kc 0 5) (-2) (eW (wBy fc.toInt 0 9) 0)))) (fun _ => (wX G ad ho rn ln dr ro lt (sel (eS (tB r t) (-1) (eS (inR kc 0 5) (-2) (eW (wBy fc.toInt 0 9) 0))) rf (rfU rf (eS (tB r t) (-1) (eS (inR kc 0 5) (-2) (eW (wBy fc.toInt 0 9) 0))))) th sb ++ wR G (ad 1) (sel (eS (tB r t) (-1) (eS (inR kc 0 5) (-2) (eW (wBy fc.toInt 0 9) 0))) (va_up kd (ix t) (some ((ad 4) (ix kc)))) kd) (sel (eS (tB r t) (-1) (eS (inR kc 0 5) (-2) (eW (wBy fc.toInt 0 9) 0))) (pTurn r (ix t) (ix kc) (ix fc)) r) ++ wR G (ad 2) k1 r1 ++ wR G (ad 3) k2 r2 ++ wK (ad 4))) := by
  refine z_openi (by decide) (Nat.le_of_ble_eq_true rfl) (fun _ _ _ => rfl) ?_
  intro p e s m args below meth c A Q ls C0 hK hZ hP hD hA hl hret
  obtain ⟨hx, hb, hml, hown, hts⟩ := id C0
  have hS : va_S A s.heap s.heap [] := va_S.rf
  have hP : va_P G.1 vwCl (wX G ad ho rn ln dr ro lt rf th sb ++ wR G (ad 1) kd r ++ wR G (ad 2) k1 r1 ++ wR G (ad 3) k2 r2 ++ wK (ad 4)) s.heap := hP
  have hD : va_D A (wX G ad ho rn ln dr ro lt rf th sb ++ wR G (ad 1) kd r ++ wR G (ad 2) k1 r1 ++ wR G (ad 3) k2 r2 ++ wK (ad 4)) := hD
  have hl : lv_has ls 4 [(0, .ref (ad 0 0)), (1, .int t), (2, .int kc), (3, .int fc)] := hl
  have hr0 := hr.n
  have hN := hr.le
  refine lv_aload_n hx hb dX0_turn_0 rfl (lv_at hl 0 rfl) ?_
  refine lv_bipush (v := 7) hx hb dX0_turn_1 (by decide) ?_
  refine lv_iload_n hx hb dX0_turn_3 rfl (lv_at hl 1 rfl) ?_
  refine lv_iload_n hx hb dX0_turn_4 rfl (lv_at hl 2 rfl) ?_
  refine lv_iload_n hx hb dX0_turn_5 rfl (lv_at hl 3 rfl) ?_
  refine lv_iconst (v := 0) hx hb dX0_turn_6 (by decide) ?_
  refine lv_iconst (v := 0) hx hb dX0_turn_7 (by decide) ?_
  refine z_VWi (wN := fun u_1 => (wX G ad ho rn ln dr ro lt (sel (eS (tB r t) (-1) (eS (inR kc 0 5) (-2) (eW (wBy fc.toInt 0 9) 0))) rf (rfU rf (eS (tB r t) (-1) (eS (inR kc 0 5) (-2) (eW (wBy fc.toInt 0 9) 0))))) th sb ++ wR G (ad 1) (sel (eS (tB r t) (-1) (eS (inR kc 0 5) (-2) (eW (wBy fc.toInt 0 9) 0))) (va_up kd (ix t) (some ((ad 4) (ix kc)))) kd) (sel (eS (tB r t) (-1) (eS (inR kc 0 5) (-2) (eW (wBy fc.toInt 0 9) 0))) (pTurn r (ix t) (ix kc) (ix fc)) r) ++ wR G (ad 2) k1 r1 ++ wR G (ad 3) k2 r2 ++ wK (ad 4))) ⟨C0, hK, hP, hD, hS, hA⟩ hZ 0 rfl (ci := 0) rfl rfl ((m_act_7 l hl0 G ad kd k1 k2 r r1 r2 ho rn ln dr ro lt rf th sb hr hp hk t kc fc 0 0)) (vy_cwVW 6 hts (lw_VW q269 q271 qs0 q86 q272) rfl rfl rfl (by decide +kernel) ⟨Nat.le_of_ble_eq_true rfl, Nat.le_of_ble_eq_true rfl⟩) [0, 1, 2, 3, 4, 5, 6, 7, 8, 9, 10, 11, 12, 13, 14, 15, 16, 17, 18, 19, 20, 21, 22, 23, 24, 25, 26, 27, 28, 29, 30] [1, 3, 5, 7, 9, 11, 13, 15, 17, 19, 21, 23, 25, 27, 29, 31, 33, 35, 37, 39, 41, 43, 45, 47, 49, 51, 53, 55, 57, 59, 61] rfl (fun _ => rfl) rfl rfl hl.1 rfl (Nat.le_of_ble_eq_true rfl) dX0_turn_8 ⟨(Nat.le_of_ble_eq_true rfl), (Nat.le_of_ble_eq_true rfl)⟩ (fun r_1 u_1 H locs hw_1 hP hD hS => ?_)
  have hP : va_P G.1 vwCl (wX G ad ho rn ln dr ro lt (sel (eS (tB r t) (-1) (eS (inR kc 0 5) (-2) (eW (wBy fc.toInt 0 9) 0))) rf (rfU rf (eS (tB r t) (-1) (eS (inR kc 0 5) (-2) (eW (wBy fc.toInt 0 9) 0))))) th sb ++ wR G (ad 1) (sel (eS (tB r t) (-1) (eS (inR kc 0 5) (-2) (eW (wBy fc.toInt 0 9) 0))) (va_up kd (ix t) (some ((ad 4) (ix kc)))) kd) (sel (eS (tB r t) (-1) (eS (inR kc 0 5) (-2) (eW (wBy fc.toInt 0 9) 0))) (pTurn r (ix t) (ix kc) (ix fc)) r) ++ wR G (ad 2) k1 r1 ++ wR G (ad 3) k2 r2 ++ wK (ad 4)) H := hP
  have hD : va_D A (wX G ad ho rn ln dr ro lt (sel (eS (tB r t) (-1) (eS (inR kc 0 5) (-2) (eW (wBy fc.toInt 0 9) 0))) rf (rfU rf (eS (tB r t) (-1) (eS (inR kc 0 5) (-2) (eW (wBy fc.toInt 0 9) 0))))) th sb ++ wR G (ad 1) (sel (eS (tB r t) (-1) (eS (inR kc 0 5) (-2) (eW (wBy fc.toInt 0 9) 0))) (va_up kd (ix t) (some ((ad 4) (ix kc)))) kd) (sel (eS (tB r t) (-1) (eS (inR kc 0 5) (-2) (eW (wBy fc.toInt 0 9) 0))) (pTurn r (ix t) (ix kc) (ix fc)) r) ++ wR G (ad 2) k1 r1 ++ wR G (ad 3) k2 r2 ++ wK (ad 4)) := hD
  refine W.widen (k := 4) (n := 28) (Nat.le_of_ble_eq_true rfl) (Nat.le_of_ble_eq_true rfl) ?_
  refine hret _ _ _ _ _ _ r_1 () dX0_turn_11 ?_ hP hD hS (Nat.le_of_ble_eq_true rfl) (Nat.le_of_ble_eq_true rfl)
  exact hw_1
set_option maxHeartbeats 4000000 in
set_option maxRecDepth 100000 in
theorem m_minutes (l : Launch) (hl0 : l.stackTraces = false) (G : xG) (ad : Nat → Nat → Nat) (kd k1 k2 : Nat → Option Nat) (r r1 r2 : Rw) (ho rn ln dr : Int32) (ro lt rf th sb : Nat → Int32) (hr : Ok r) (hp : r 5 3 = 0) (hk : kOk (ad 4) kd r) (mi : Int32) : zCi l G yX0_minutes (ws_ yX0_minutes cX0_minutes 2 (some .int)) ({ frames := 12, cells := 3, slots := 21, locals := 226 } : Room) [.ref (ad 0 0), .int mi] (wX G ad ho rn ln dr ro lt rf th sb ++ wR G (ad 1) kd r ++ wR G (ad 2) k1 r1 ++ wR G (ad 3) k2 r2 ++ wK (ad 4)) (S := Unit) (fun v _ => v = sel (eW (wBy mi.toInt 1 60) (eS (decide (r 5 1 + mi ≤ 999)) (-6) 0)) (pStN (pMins r (ix mi))) (eW (wBy mi.toInt 1 60) (eS (decide (r 5 1 + mi ≤ 999)) (-6) 0))) (fun _ => (wX G ad ho rn ln dr ro lt (sel (eW (wBy mi.toInt 1 60) (eS (decide (r 5 1 + mi ≤ 999)) (-6) 0)) rf (rfU rf (eW (wBy mi.toInt 1 60) (eS (decide (r 5 1 + mi ≤ 999)) (-6) 0)))) th sb ++ wR G (ad 1) kd (sel (eW (wBy mi.toInt 1 60) (eS (decide (r 5 1 + mi ≤ 999)) (-6) 0)) (pMins r (ix mi)) r) ++ wR G (ad 2) k1 r1 ++ wR G (ad 3) k2 r2 ++ wK (ad 4))) := by
  refine z_openi (by decide) (Nat.le_of_ble_eq_true rfl) (fun _ _ _ => rfl) ?_
  intro p e s m args below meth c A Q ls C0 hK hZ hP hD hA hl hret
  obtain ⟨hx, hb, hml, hown, hts⟩ := id C0
  have hS : va_S A s.heap s.heap [] := va_S.rf
  have hP : va_P G.1 vwCl (wX G ad ho rn ln dr ro lt rf th sb ++ wR G (ad 1) kd r ++ wR G (ad 2) k1 r1 ++ wR G (ad 3) k2 r2 ++ wK (ad 4)) s.heap := hP
  have hD : va_D A (wX G ad ho rn ln dr ro lt rf th sb ++ wR G (ad 1) kd r ++ wR G (ad 2) k1 r1 ++ wR G (ad 3) k2 r2 ++ wK (ad 4)) := hD
  have hl : lv_has ls 2 [(0, .ref (ad 0 0)), (1, .int mi)] := hl
  have hr0 := hr.n
  have hN := hr.le
  refine lv_aload_n hx hb dX0_minutes_0 rfl (lv_at hl 0 rfl) ?_
  refine lv_bipush (v := 8) hx hb dX0_minutes_1 (by decide) ?_
  refine lv_iload_n hx hb dX0_minutes_3 rfl (lv_at hl 1 rfl) ?_
  refine lv_iconst (v := 0) hx hb dX0_minutes_4 (by decide) ?_
  refine lv_iconst (v := 0) hx hb dX0_minutes_5 (by decide) ?_
  refine lv_iconst (v := 0) hx hb dX0_minutes_6 (by decide) ?_
  refine lv_iconst (v := 0) hx hb dX0_minutes_7 (by decide) ?_
  refine z_VWi (wN := fun u_1 => (wX G ad ho rn ln dr ro lt (sel (eW (wBy mi.toInt 1 60) (eS (decide (r 5 1 + mi ≤ 999)) (-6) 0)) rf (rfU rf (eW (wBy mi.toInt 1 60) (eS (decide (r 5 1 + mi ≤ 999)) (-6) 0)))) th sb ++ wR G (ad 1) kd (sel (eW (wBy mi.toInt 1 60) (eS (decide (r 5 1 + mi ≤ 999)) (-6) 0)) (pMins r (ix mi)) r) ++ wR G (ad 2) k1 r1 ++ wR G (ad 3) k2 r2 ++ wK (ad 4))) ⟨C0, hK, hP, hD, hS, hA⟩ hZ 0 rfl (ci := 0) rfl rfl ((m_act_8 l hl0 G ad kd k1 k2 r r1 r2 ho rn ln dr ro lt rf th sb hr hp hk mi 0 0 0 0)) (vy_cwVW 6 hts (lw_VW q269 q271 qs0 q86 q272) rfl rfl rfl (by decide +kernel) ⟨Nat.le_of_ble_eq_true rfl, Nat.le_of_ble_eq_true rfl⟩) [0, 1, 2, 3, 4, 5, 6, 7, 8, 9, 10, 11, 12, 13, 14, 15, 16, 17, 18, 19, 20, 21, 22, 23, 24, 25, 26, 27, 28, 29, 30] [1, 3, 5, 7, 9, 11, 13, 15, 17, 19, 21, 23, 25, 27, 29, 31, 33, 35, 37, 39, 41, 43, 45, 47, 49, 51, 53, 55, 57, 59, 61] rfl (fun _ => rfl) rfl rfl hl.1 rfl (Nat.le_of_ble_eq_true rfl) dX0_minutes_8 ⟨(Nat.le_of_ble_eq_true rfl), (Nat.le_of_ble_eq_true rfl)⟩ (fun r_1 u_1 H locs hw_1 hP hD hS => ?_)
  have hP : va_P G.1 vwCl (wX G ad ho rn ln dr ro lt (sel (eW (wBy mi.toInt 1 60) (eS (decide (r 5 1 + mi ≤ 999)) (-6) 0)) rf (rfU rf (eW (wBy mi.toInt 1 60) (eS (decide (r 5 1 + mi ≤ 999)) (-6) 0)))) th sb ++ wR G (ad 1) kd (sel (eW (wBy mi.toInt 1 60) (eS (decide (r 5 1 + mi ≤ 999)) (-6) 0)) (pMins r (ix mi)) r) ++ wR G (ad 2) k1 r1 ++ wR G (ad 3) k2 r2 ++ wK (ad 4)) H := hP
  have hD : va_D A (wX G ad ho rn ln dr ro lt (sel (eW (wBy mi.toInt 1 60) (eS (decide (r 5 1 + mi ≤ 999)) (-6) 0)) rf (rfU rf (eW (wBy mi.toInt 1 60) (eS (decide (r 5 1 + mi ≤ 999)) (-6) 0)))) th sb ++ wR G (ad 1) kd (sel (eW (wBy mi.toInt 1 60) (eS (decide (r 5 1 + mi ≤ 999)) (-6) 0)) (pMins r (ix mi)) r) ++ wR G (ad 2) k1 r1 ++ wR G (ad 3) k2 r2 ++ wK (ad 4)) := hD
  refine W.widen (k := 3) (n := 21) (Nat.le_of_ble_eq_true rfl) (Nat.le_of_ble_eq_true rfl) ?_
  refine hret _ _ _ _ _ _ r_1 () dX0_minutes_11 ?_ hP hD hS (Nat.le_of_ble_eq_true rfl) (Nat.le_of_ble_eq_true rfl)
  exact hw_1
set_option maxHeartbeats 4000000 in
set_option maxRecDepth 100000 in
theorem m_behind (l : Launch) (hl0 : l.stackTraces = false) (G : xG) (ad : Nat → Nat → Nat) (kd k1 k2 : Nat → Option Nat) (r r1 r2 : Rw) (ho rn ln dr : Int32) (ro lt rf th sb : Nat → Int32) (hr : Ok r) (hp : r 5 3 = 0) (hk : kOk (ad 4) kd r) (t mi w : Int32) : zCi l G yX0_behind (ws_ yX0_behind cX0_behind 4 (some .int)) ({ frames := 13, cells := 4, slots := 28, locals := 249 } : Room) [.ref (ad 0 0), .int t, .int mi, .int w] (wX G ad ho rn ln dr ro lt rf th sb ++ wR G (ad 1) kd r ++ wR G (ad 2) k1 r1 ++ wR G (ad 3) k2 r2 ++ wK (ad 4)) (S := ((Nat → Option Nat) × Rw)) (fun v _ => v = sel (eS (tB r t) (-1) (eW (wBy mi.toInt 0 99) (eS (inR w 0 2) (-2) 0))) (pBeh r (ix t) (ix mi) w) (eS (tB r t) (-1) (eW (wBy mi.toInt 0 99) (eS (inR w 0 2) (-2) 0)))) (fun u => (wX G ad ho rn ln dr ro lt (sel (eS (tB r t) (-1) (eW (wBy mi.toInt 0 99) (eS (inR w 0 2) (-2) 0))) rf (rfU rf (eS (tB r t) (-1) (eW (wBy mi.toInt 0 99) (eS (inR w 0 2) (-2) 0))))) th sb ++ wR G (ad 1) kd r ++ wR G (ad 2) u.1 u.2 ++ wR G (ad 3) k2 r2 ++ wK (ad 4))) := by
  refine z_openi (by decide) (Nat.le_of_ble_eq_true rfl) (fun _ _ _ => rfl) ?_
  intro p e s m args below meth c A Q ls C0 hK hZ hP hD hA hl hret
  obtain ⟨hx, hb, hml, hown, hts⟩ := id C0
  have hS : va_S A s.heap s.heap [] := va_S.rf
  have hP : va_P G.1 vwCl (wX G ad ho rn ln dr ro lt rf th sb ++ wR G (ad 1) kd r ++ wR G (ad 2) k1 r1 ++ wR G (ad 3) k2 r2 ++ wK (ad 4)) s.heap := hP
  have hD : va_D A (wX G ad ho rn ln dr ro lt rf th sb ++ wR G (ad 1) kd r ++ wR G (ad 2) k1 r1 ++ wR G (ad 3) k2 r2 ++ wK (ad 4)) := hD
  have hl : lv_has ls 4 [(0, .ref (ad 0 0)), (1, .int t), (2, .int mi), (3, .int w)] := hl
  have hr0 := hr.n
  have hN := hr.le
  refine lv_aload_n hx hb dX0_behind_0 rfl (lv_at hl 0 rfl) ?_
  refine lv_bipush (v := 9) hx hb dX0_behind_1 (by decide) ?_
  refine lv_iload_n hx hb dX0_behind_3 rfl (lv_at hl 1 rfl) ?_
  refine lv_iload_n hx hb dX0_behind_4 rfl (lv_at hl 2 rfl) ?_
  refine lv_iload_n hx hb dX0_behind_5 rfl (lv_at hl 3 rfl) ?_
  refine lv_iconst (v := 0) hx hb dX0_behind_6 (by decide) ?_
  refine lv_iconst (v := 0) hx hb dX0_behind_7 (by decide) ?_
  refine z_VWi (wN := fun u_1 => (wX G ad ho rn ln dr ro lt (sel (eS (tB r t) (-1) (eW (wBy mi.toInt 0 99) (eS (inR w 0 2) (-2) 0))) rf (rfU rf (eS (tB r t) (-1) (eW (wBy mi.toInt 0 99) (eS (inR w 0 2) (-2) 0))))) th sb ++ wR G (ad 1) kd r ++ wR G (ad 2) u_1.1 u_1.2 ++ wR G (ad 3) k2 r2 ++ wK (ad 4))) ⟨C0, hK, hP, hD, hS, hA⟩ hZ 0 rfl (ci := 0) rfl rfl ((m_act_9 l hl0 G ad kd k1 k2 r r1 r2 ho rn ln dr ro lt rf th sb hr hp hk t mi w 0 0)) (vy_cwVW 6 hts (lw_VW q269 q271 qs0 q86 q272) rfl rfl rfl (by decide +kernel) ⟨Nat.le_of_ble_eq_true rfl, Nat.le_of_ble_eq_true rfl⟩) [0, 1, 2, 3, 4, 5, 6, 7, 8, 9, 10, 11, 12, 13, 14, 15, 16, 17, 18, 19, 20, 21, 22, 23, 24, 25, 26, 27, 28, 29, 30] [1, 3, 5, 7, 9, 11, 13, 15, 17, 19, 21, 23, 25, 27, 29, 31, 33, 35, 37, 39, 41, 43, 45, 47, 49, 51, 53, 55, 57, 59, 61] rfl (fun _ => rfl) rfl rfl hl.1 rfl (Nat.le_of_ble_eq_true rfl) dX0_behind_8 ⟨(Nat.le_of_ble_eq_true rfl), (Nat.le_of_ble_eq_true rfl)⟩ (fun r_1 u_1 H locs hw_1 hP hD hS => ?_)
  have hP : va_P G.1 vwCl (wX G ad ho rn ln dr ro lt (sel (eS (tB r t) (-1) (eW (wBy mi.toInt 0 99) (eS (inR w 0 2) (-2) 0))) rf (rfU rf (eS (tB r t) (-1) (eW (wBy mi.toInt 0 99) (eS (inR w 0 2) (-2) 0))))) th sb ++ wR G (ad 1) kd r ++ wR G (ad 2) u_1.1 u_1.2 ++ wR G (ad 3) k2 r2 ++ wK (ad 4)) H := hP
  have hD : va_D A (wX G ad ho rn ln dr ro lt (sel (eS (tB r t) (-1) (eW (wBy mi.toInt 0 99) (eS (inR w 0 2) (-2) 0))) rf (rfU rf (eS (tB r t) (-1) (eW (wBy mi.toInt 0 99) (eS (inR w 0 2) (-2) 0))))) th sb ++ wR G (ad 1) kd r ++ wR G (ad 2) u_1.1 u_1.2 ++ wR G (ad 3) k2 r2 ++ wK (ad 4)) := hD
  refine W.widen (k := 4) (n := 28) (Nat.le_of_ble_eq_true rfl) (Nat.le_of_ble_eq_true rfl) ?_
  refine hret _ _ _ _ _ _ r_1 u_1 dX0_behind_11 ?_ hP hD hS (Nat.le_of_ble_eq_true rfl) (Nat.le_of_ble_eq_true rfl)
  exact hw_1
set_option maxHeartbeats 4000000 in
set_option maxRecDepth 100000 in
theorem m_falls (l : Launch) (hl0 : l.stackTraces = false) (G : xG) (ad : Nat → Nat → Nat) (kd k1 k2 : Nat → Option Nat) (r r1 r2 : Rw) (ho rn ln dr : Int32) (ro lt rf th sb : Nat → Int32) (hr : Ok r) (hp : r 5 3 = 0) (hk : kOk (ad 4) kd r) (t : Int32) : zCi l G yX0_falls (ws_ yX0_falls cX0_falls 2 (some .int)) ({ frames := 13, cells := 1, slots := 7, locals := 244 } : Room) [.ref (ad 0 0), .int t] (wX G ad ho rn ln dr ro lt rf th sb ++ wR G (ad 1) kd r ++ wR G (ad 2) k1 r1 ++ wR G (ad 3) k2 r2 ++ wK (ad 4)) (S := ((Nat → Option Nat) × Rw)) (fun v _ => v = sel (eS (tB r t) (-1) 0) (pFls r (ix t)) (eS (tB r t) (-1) 0)) (fun u => (wX G ad ho rn ln dr ro lt (sel (eS (tB r t) (-1) 0) rf (rfU rf (eS (tB r t) (-1) 0))) th sb ++ wR G (ad 1) kd r ++ wR G (ad 2) u.1 u.2 ++ wR G (ad 3) k2 r2 ++ wK (ad 4))) := by
  refine z_openi (by decide) (Nat.le_of_ble_eq_true rfl) (fun _ _ _ => rfl) ?_
  intro p e s m args below meth c A Q ls C0 hK hZ hP hD hA hl hret
  obtain ⟨hx, hb, hml, hown, hts⟩ := id C0
  have hS : va_S A s.heap s.heap [] := va_S.rf
  have hP : va_P G.1 vwCl (wX G ad ho rn ln dr ro lt rf th sb ++ wR G (ad 1) kd r ++ wR G (ad 2) k1 r1 ++ wR G (ad 3) k2 r2 ++ wK (ad 4)) s.heap := hP
  have hD : va_D A (wX G ad ho rn ln dr ro lt rf th sb ++ wR G (ad 1) kd r ++ wR G (ad 2) k1 r1 ++ wR G (ad 3) k2 r2 ++ wK (ad 4)) := hD
  have hl : lv_has ls 2 [(0, .ref (ad 0 0)), (1, .int t)] := hl
  have hr0 := hr.n
  have hN := hr.le
  refine lv_aload_n hx hb dX0_falls_0 rfl (lv_at hl 0 rfl) ?_
  refine lv_bipush (v := 10) hx hb dX0_falls_1 (by decide) ?_
  refine lv_iload_n hx hb dX0_falls_3 rfl (lv_at hl 1 rfl) ?_
  refine lv_iconst (v := 0) hx hb dX0_falls_4 (by decide) ?_
  refine lv_iconst (v := 0) hx hb dX0_falls_5 (by decide) ?_
  refine lv_iconst (v := 0) hx hb dX0_falls_6 (by decide) ?_
  refine lv_iconst (v := 0) hx hb dX0_falls_7 (by decide) ?_
  refine z_VWi (wN := fun u_1 => (wX G ad ho rn ln dr ro lt (sel (eS (tB r t) (-1) 0) rf (rfU rf (eS (tB r t) (-1) 0))) th sb ++ wR G (ad 1) kd r ++ wR G (ad 2) u_1.1 u_1.2 ++ wR G (ad 3) k2 r2 ++ wK (ad 4))) ⟨C0, hK, hP, hD, hS, hA⟩ hZ 0 rfl (ci := 0) rfl rfl ((m_act_10 l hl0 G ad kd k1 k2 r r1 r2 ho rn ln dr ro lt rf th sb hr hp hk t 0 0 0 0)) (vy_cwVW 6 hts (lw_VW q269 q271 qs0 q86 q272) rfl rfl rfl (by decide +kernel) ⟨Nat.le_of_ble_eq_true rfl, Nat.le_of_ble_eq_true rfl⟩) [0, 1, 2, 3, 4, 5, 6, 7, 8, 9, 10, 11, 12, 13, 14, 15, 16, 17, 18, 19, 20, 21, 22, 23, 24, 25, 26, 27, 28, 29, 30] [1, 3, 5, 7, 9, 11, 13, 15, 17, 19, 21, 23, 25, 27, 29, 31, 33, 35, 37, 39, 41, 43, 45, 47, 49, 51, 53, 55, 57, 59, 61] rfl (fun _ => rfl) rfl rfl hl.1 rfl (Nat.le_of_ble_eq_true rfl) dX0_falls_8 ⟨(Nat.le_of_ble_eq_true rfl), (Nat.le_of_ble_eq_true rfl)⟩ (fun r_1 u_1 H locs hw_1 hP hD hS => ?_)
  have hP : va_P G.1 vwCl (wX G ad ho rn ln dr ro lt (sel (eS (tB r t) (-1) 0) rf (rfU rf (eS (tB r t) (-1) 0))) th sb ++ wR G (ad 1) kd r ++ wR G (ad 2) u_1.1 u_1.2 ++ wR G (ad 3) k2 r2 ++ wK (ad 4)) H := hP
  have hD : va_D A (wX G ad ho rn ln dr ro lt (sel (eS (tB r t) (-1) 0) rf (rfU rf (eS (tB r t) (-1) 0))) th sb ++ wR G (ad 1) kd r ++ wR G (ad 2) u_1.1 u_1.2 ++ wR G (ad 3) k2 r2 ++ wK (ad 4)) := hD
  refine W.widen (k := 1) (n := 7) (Nat.le_of_ble_eq_true rfl) (Nat.le_of_ble_eq_true rfl) ?_
  refine hret _ _ _ _ _ _ r_1 u_1 dX0_falls_11 ?_ hP hD hS (Nat.le_of_ble_eq_true rfl) (Nat.le_of_ble_eq_true rfl)
  exact hw_1
set_option maxHeartbeats 4000000 in
set_option maxRecDepth 100000 in
theorem m_first (l : Launch) (hl0 : l.stackTraces = false) (G : xG) (ad : Nat → Nat → Nat) (kd k1 k2 : Nat → Option Nat) (r r1 r2 : Rw) (ho rn ln dr : Int32) (ro lt rf th sb : Nat → Int32) (hr : Ok r) (hp : r 5 3 = 0) (hk : kOk (ad 4) kd r) (t : Int32) : zCi l G yX0_first (ws_ yX0_first cX0_first 2 (some .int)) ({ frames := 11, cells := 1, slots := 7, locals := 200 } : Room) [.ref (ad 0 0), .int t] (wX G ad ho rn ln dr ro lt rf th sb ++ wR G (ad 1) kd r ++ wR G (ad 2) k1 r1 ++ wR G (ad 3) k2 r2 ++ wK (ad 4)) (S := ((Nat → Option Nat) × Rw)) (fun v _ => v = sel (eS (inR t 0 1) (-2) 0) (pFF r t) (eS (inR t 0 1) (-2) 0)) (fun u => (wX G ad ho rn ln dr ro lt (sel (eS (inR t 0 1) (-2) 0) rf (rfU rf (eS (inR t 0 1) (-2) 0))) th sb ++ wR G (ad 1) kd r ++ wR G (ad 2) u.1 u.2 ++ wR G (ad 3) k2 r2 ++ wK (ad 4))) := by
  refine z_openi (by decide) (Nat.le_of_ble_eq_true rfl) (fun _ _ _ => rfl) ?_
  intro p e s m args below meth c A Q ls C0 hK hZ hP hD hA hl hret
  obtain ⟨hx, hb, hml, hown, hts⟩ := id C0
  have hS : va_S A s.heap s.heap [] := va_S.rf
  have hP : va_P G.1 vwCl (wX G ad ho rn ln dr ro lt rf th sb ++ wR G (ad 1) kd r ++ wR G (ad 2) k1 r1 ++ wR G (ad 3) k2 r2 ++ wK (ad 4)) s.heap := hP
  have hD : va_D A (wX G ad ho rn ln dr ro lt rf th sb ++ wR G (ad 1) kd r ++ wR G (ad 2) k1 r1 ++ wR G (ad 3) k2 r2 ++ wK (ad 4)) := hD
  have hl : lv_has ls 2 [(0, .ref (ad 0 0)), (1, .int t)] := hl
  have hr0 := hr.n
  have hN := hr.le
  refine lv_aload_n hx hb dX0_first_0 rfl (lv_at hl 0 rfl) ?_
  refine lv_bipush (v := 11) hx hb dX0_first_1 (by decide) ?_
  refine lv_iload_n hx hb dX0_first_3 rfl (lv_at hl 1 rfl) ?_
  refine lv_iconst (v := 0) hx hb dX0_first_4 (by decide) ?_
  refine lv_iconst (v := 0) hx hb dX0_first_5 (by decide) ?_
  refine lv_iconst (v := 0) hx hb dX0_first_6 (by decide) ?_
  refine lv_iconst (v := 0) hx hb dX0_first_7 (by decide) ?_
  refine z_VWi (wN := fun u_1 => (wX G ad ho rn ln dr ro lt (sel (eS (inR t 0 1) (-2) 0) rf (rfU rf (eS (inR t 0 1) (-2) 0))) th sb ++ wR G (ad 1) kd r ++ wR G (ad 2) u_1.1 u_1.2 ++ wR G (ad 3) k2 r2 ++ wK (ad 4))) ⟨C0, hK, hP, hD, hS, hA⟩ hZ 0 rfl (ci := 0) rfl rfl ((m_act_11 l hl0 G ad kd k1 k2 r r1 r2 ho rn ln dr ro lt rf th sb hr hp hk t 0 0 0 0)) (vy_cwVW 6 hts (lw_VW q269 q271 qs0 q86 q272) rfl rfl rfl (by decide +kernel) ⟨Nat.le_of_ble_eq_true rfl, Nat.le_of_ble_eq_true rfl⟩) [0, 1, 2, 3, 4, 5, 6, 7, 8, 9, 10, 11, 12, 13, 14, 15, 16, 17, 18, 19, 20, 21, 22, 23, 24, 25, 26, 27, 28, 29, 30] [1, 3, 5, 7, 9, 11, 13, 15, 17, 19, 21, 23, 25, 27, 29, 31, 33, 35, 37, 39, 41, 43, 45, 47, 49, 51, 53, 55, 57, 59, 61] rfl (fun _ => rfl) rfl rfl hl.1 rfl (Nat.le_of_ble_eq_true rfl) dX0_first_8 ⟨(Nat.le_of_ble_eq_true rfl), (Nat.le_of_ble_eq_true rfl)⟩ (fun r_1 u_1 H locs hw_1 hP hD hS => ?_)
  have hP : va_P G.1 vwCl (wX G ad ho rn ln dr ro lt (sel (eS (inR t 0 1) (-2) 0) rf (rfU rf (eS (inR t 0 1) (-2) 0))) th sb ++ wR G (ad 1) kd r ++ wR G (ad 2) u_1.1 u_1.2 ++ wR G (ad 3) k2 r2 ++ wK (ad 4)) H := hP
  have hD : va_D A (wX G ad ho rn ln dr ro lt (sel (eS (inR t 0 1) (-2) 0) rf (rfU rf (eS (inR t 0 1) (-2) 0))) th sb ++ wR G (ad 1) kd r ++ wR G (ad 2) u_1.1 u_1.2 ++ wR G (ad 3) k2 r2 ++ wK (ad 4)) := hD
  refine W.widen (k := 1) (n := 7) (Nat.le_of_ble_eq_true rfl) (Nat.le_of_ble_eq_true rfl) ?_
  refine hret _ _ _ _ _ _ r_1 u_1 dX0_first_11 ?_ hP hD hS (Nat.le_of_ble_eq_true rfl) (Nat.le_of_ble_eq_true rfl)
  exact hw_1
set_option maxHeartbeats 4000000 in
set_option maxRecDepth 100000 in
theorem m_allStand (l : Launch) (hl0 : l.stackTraces = false) (G : xG) (ad : Nat → Nat → Nat) (kd k1 k2 : Nat → Option Nat) (r r1 r2 : Rw) (ho rn ln dr : Int32) (ro lt rf th sb : Nat → Int32) (hr : Ok r) (hp : r 5 3 = 0) (hk : kOk (ad 4) kd r) : zCi l G yX0_allStand (ws_ yX0_allStand cX0_allStand 1 (some .int)) ({ frames := 9, cells := 0, slots := 0, locals := 219 } : Room) [.ref (ad 0 0)] (wX G ad ho rn ln dr ro lt rf th sb ++ wR G (ad 1) kd r ++ wR G (ad 2) k1 r1 ++ wR G (ad 3) k2 r2 ++ wK (ad 4)) (S := ((Nat → Option Nat) × Rw)) (fun v _ => v = sel ((0 : Int32)) (pSF r) ((0 : Int32))) (fun u => (wX G ad ho rn ln dr ro lt (sel (0 : Int32) rf (rfU rf (0 : Int32))) th sb ++ wR G (ad 1) kd r ++ wR G (ad 2) u.1 u.2 ++ wR G (ad 3) k2 r2 ++ wK (ad 4))) := by
  refine z_openi (by decide) (Nat.le_of_ble_eq_true rfl) (fun _ _ _ => rfl) ?_
  intro p e s m args below meth c A Q ls C0 hK hZ hP hD hA hl hret
  obtain ⟨hx, hb, hml, hown, hts⟩ := id C0
  have hS : va_S A s.heap s.heap [] := va_S.rf
  have hP : va_P G.1 vwCl (wX G ad ho rn ln dr ro lt rf th sb ++ wR G (ad 1) kd r ++ wR G (ad 2) k1 r1 ++ wR G (ad 3) k2 r2 ++ wK (ad 4)) s.heap := hP
  have hD : va_D A (wX G ad ho rn ln dr ro lt rf th sb ++ wR G (ad 1) kd r ++ wR G (ad 2) k1 r1 ++ wR G (ad 3) k2 r2 ++ wK (ad 4)) := hD
  have hl : lv_has ls 1 [(0, .ref (ad 0 0))] := hl
  have hr0 := hr.n
  have hN := hr.le
  refine lv_aload_n hx hb dX0_allStand_0 rfl (lv_at hl 0 rfl) ?_
  refine lv_bipush (v := 12) hx hb dX0_allStand_1 (by decide) ?_
  refine lv_iconst (v := 0) hx hb dX0_allStand_3 (by decide) ?_
  refine lv_iconst (v := 0) hx hb dX0_allStand_4 (by decide) ?_
  refine lv_iconst (v := 0) hx hb dX0_allStand_5 (by decide) ?_
  refine lv_iconst (v := 0) hx hb dX0_allStand_6 (by decide) ?_
  refine lv_iconst (v := 0) hx hb dX0_allStand_7 (by decide) ?_
  refine z_VWi (wN := fun u_1 => (wX G ad ho rn ln dr ro lt (sel (0 : Int32) rf (rfU rf (0 : Int32))) th sb ++ wR G (ad 1) kd r ++ wR G (ad 2) u_1.1 u_1.2 ++ wR G (ad 3) k2 r2 ++ wK (ad 4))) ⟨C0, hK, hP, hD, hS, hA⟩ hZ 0 rfl (ci := 0) rfl rfl ((m_act_12 l hl0 G ad kd k1 k2 r r1 r2 ho rn ln dr ro lt rf th sb hr hp hk 0 0 0 0 0)) (vy_cwVW 6 hts (lw_VW q269 q271 qs0 q86 q272) rfl rfl rfl (by decide +kernel) ⟨Nat.le_of_ble_eq_true rfl, Nat.le_of_ble_eq_true rfl⟩) [0, 1, 2, 3, 4, 5, 6, 7, 8, 9, 10, 11, 12, 13, 14, 15, 16, 17, 18, 19, 20, 21, 22, 23, 24, 25, 26, 27, 28, 29, 30] [1, 3, 5, 7, 9, 11, 13, 15, 17, 19, 21, 23, 25, 27, 29, 31, 33, 35, 37, 39, 41, 43, 45, 47, 49, 51, 53, 55, 57, 59, 61] rfl (fun _ => rfl) rfl rfl hl.1 rfl (Nat.le_of_ble_eq_true rfl) dX0_allStand_8 ⟨(Nat.le_of_ble_eq_true rfl), (Nat.le_of_ble_eq_true rfl)⟩ (fun r_1 u_1 H locs hw_1 hP hD hS => ?_)
  have hP : va_P G.1 vwCl (wX G ad ho rn ln dr ro lt (sel (0 : Int32) rf (rfU rf (0 : Int32))) th sb ++ wR G (ad 1) kd r ++ wR G (ad 2) u_1.1 u_1.2 ++ wR G (ad 3) k2 r2 ++ wK (ad 4)) H := hP
  have hD : va_D A (wX G ad ho rn ln dr ro lt (sel (0 : Int32) rf (rfU rf (0 : Int32))) th sb ++ wR G (ad 1) kd r ++ wR G (ad 2) u_1.1 u_1.2 ++ wR G (ad 3) k2 r2 ++ wK (ad 4)) := hD
  refine hret _ _ _ _ _ _ r_1 u_1 dX0_allStand_11 ?_ hP hD hS (Nat.le_of_ble_eq_true rfl) (Nat.le_of_ble_eq_true rfl)
  exact hw_1
set_option maxHeartbeats 4000000 in
set_option maxRecDepth 100000 in
theorem m_tower (l : Launch) (hl0 : l.stackTraces = false) (G : xG) (ad : Nat → Nat → Nat) (kd k1 k2 : Nat → Option Nat) (r r1 r2 : Rw) (ho rn ln dr : Int32) (ro lt rf th sb : Nat → Int32) (hr : Ok r) (hp : r 5 3 = 0) (hk : kOk (ad 4) kd r) (t w : Int32) : zCi l G yX0_tower (ws_ yX0_tower cX0_tower 3 (some .int)) ({ frames := 13, cells := 2, slots := 14, locals := 244 } : Room) [.ref (ad 0 0), .int t, .int w] (wX G ad ho rn ln dr ro lt rf th sb ++ wR G (ad 1) kd r ++ wR G (ad 2) k1 r1 ++ wR G (ad 3) k2 r2 ++ wK (ad 4)) (S := Unit) (fun v _ => v = sel (eS (tB r t) (-1) (eS (inR w 0 2) (-2) 0)) (pTow r (ix t) w) (eS (tB r t) (-1) (eS (inR w 0 2) (-2) 0))) (fun _ => (wX G ad ho rn ln dr ro lt (sel (eS (tB r t) (-1) (eS (inR w 0 2) (-2) 0)) rf (rfU rf (eS (tB r t) (-1) (eS (inR w 0 2) (-2) 0)))) th sb ++ wR G (ad 1) kd r ++ wR G (ad 2) k1 r1 ++ wR G (ad 3) k2 r2 ++ wK (ad 4))) := by
  refine z_openi (by decide) (Nat.le_of_ble_eq_true rfl) (fun _ _ _ => rfl) ?_
  intro p e s m args below meth c A Q ls C0 hK hZ hP hD hA hl hret
  obtain ⟨hx, hb, hml, hown, hts⟩ := id C0
  have hS : va_S A s.heap s.heap [] := va_S.rf
  have hP : va_P G.1 vwCl (wX G ad ho rn ln dr ro lt rf th sb ++ wR G (ad 1) kd r ++ wR G (ad 2) k1 r1 ++ wR G (ad 3) k2 r2 ++ wK (ad 4)) s.heap := hP
  have hD : va_D A (wX G ad ho rn ln dr ro lt rf th sb ++ wR G (ad 1) kd r ++ wR G (ad 2) k1 r1 ++ wR G (ad 3) k2 r2 ++ wK (ad 4)) := hD
  have hl : lv_has ls 3 [(0, .ref (ad 0 0)), (1, .int t), (2, .int w)] := hl
  have hr0 := hr.n
  have hN := hr.le
  refine lv_aload_n hx hb dX0_tower_0 rfl (lv_at hl 0 rfl) ?_
  refine lv_bipush (v := 13) hx hb dX0_tower_1 (by decide) ?_
  refine lv_iload_n hx hb dX0_tower_3 rfl (lv_at hl 1 rfl) ?_
  refine lv_iload_n hx hb dX0_tower_4 rfl (lv_at hl 2 rfl) ?_
  refine lv_iconst (v := 0) hx hb dX0_tower_5 (by decide) ?_
  refine lv_iconst (v := 0) hx hb dX0_tower_6 (by decide) ?_
  refine lv_iconst (v := 0) hx hb dX0_tower_7 (by decide) ?_
  refine z_VWi (wN := fun u_1 => (wX G ad ho rn ln dr ro lt (sel (eS (tB r t) (-1) (eS (inR w 0 2) (-2) 0)) rf (rfU rf (eS (tB r t) (-1) (eS (inR w 0 2) (-2) 0)))) th sb ++ wR G (ad 1) kd r ++ wR G (ad 2) k1 r1 ++ wR G (ad 3) k2 r2 ++ wK (ad 4))) ⟨C0, hK, hP, hD, hS, hA⟩ hZ 0 rfl (ci := 0) rfl rfl ((m_act_13 l hl0 G ad kd k1 k2 r r1 r2 ho rn ln dr ro lt rf th sb hr hp hk t w 0 0 0)) (vy_cwVW 6 hts (lw_VW q269 q271 qs0 q86 q272) rfl rfl rfl (by decide +kernel) ⟨Nat.le_of_ble_eq_true rfl, Nat.le_of_ble_eq_true rfl⟩) [0, 1, 2, 3, 4, 5, 6, 7, 8, 9, 10, 11, 12, 13, 14, 15, 16, 17, 18, 19, 20, 21, 22, 23, 24, 25, 26, 27, 28, 29, 30] [1, 3, 5, 7, 9, 11, 13, 15, 17, 19, 21, 23, 25, 27, 29, 31, 33, 35, 37, 39, 41, 43, 45, 47, 49, 51, 53, 55, 57, 59, 61] rfl (fun _ => rfl) rfl rfl hl.1 rfl (Nat.le_of_ble_eq_true rfl) dX0_tower_8 ⟨(Nat.le_of_ble_eq_true rfl), (Nat.le_of_ble_eq_true rfl)⟩ (fun r_1 u_1 H locs hw_1 hP hD hS => ?_)
  have hP : va_P G.1 vwCl (wX G ad ho rn ln dr ro lt (sel (eS (tB r t) (-1) (eS (inR w 0 2) (-2) 0)) rf (rfU rf (eS (tB r t) (-1) (eS (inR w 0 2) (-2) 0)))) th sb ++ wR G (ad 1) kd r ++ wR G (ad 2) k1 r1 ++ wR G (ad 3) k2 r2 ++ wK (ad 4)) H := hP
  have hD : va_D A (wX G ad ho rn ln dr ro lt (sel (eS (tB r t) (-1) (eS (inR w 0 2) (-2) 0)) rf (rfU rf (eS (tB r t) (-1) (eS (inR w 0 2) (-2) 0)))) th sb ++ wR G (ad 1) kd r ++ wR G (ad 2) k1 r1 ++ wR G (ad 3) k2 r2 ++ wK (ad 4)) := hD
  refine W.widen (k := 2) (n := 14) (Nat.le_of_ble_eq_true rfl) (Nat.le_of_ble_eq_true rfl) ?_
  refine hret _ _ _ _ _ _ r_1 () dX0_tower_11 ?_ hP hD hS (Nat.le_of_ble_eq_true rfl) (Nat.le_of_ble_eq_true rfl)
  exact hw_1
set_option maxHeartbeats 4000000 in
set_option maxRecDepth 100000 in
theorem m_leastSpeed (l : Launch) (hl0 : l.stackTraces = false) (G : xG) (ad : Nat → Nat → Nat) (kd k1 k2 : Nat → Option Nat) (r r1 r2 : Rw) (ho rn ln dr : Int32) (ro lt rf th sb : Nat → Int32) (hr : Ok r) (hp : r 5 3 = 0) (hk : kOk (ad 4) kd r) (t : Int32) : zCi l G yX0_leastSpeed (ws_ yX0_leastSpeed cX0_leastSpeed 2 (some .int)) ({ frames := 13, cells := 2, slots := 14, locals := 243 } : Room) [.ref (ad 0 0), .int t] (wX G ad ho rn ln dr ro lt rf th sb ++ wR G (ad 1) kd r ++ wR G (ad 2) k1 r1 ++ wR G (ad 3) k2 r2 ++ wK (ad 4)) (S := ((Nat → Option Nat) × Rw)) (fun v _ => v = sel (eS (tB r t) (-1) (eS (pSt r (ix t)) (-3) 0)) (pSlow r (ix t)) (eS (tB r t) (-1) (eS (pSt r (ix t)) (-3) 0))) (fun u => (wX G ad ho rn ln dr ro lt (sel (eS (tB r t) (-1) (eS (pSt r (ix t)) (-3) 0)) rf (rfU rf (eS (tB r t) (-1) (eS (pSt r (ix t)) (-3) 0)))) th sb ++ wR G (ad 1) kd r ++ wR G (ad 2) u.1 u.2 ++ wR G (ad 3) k2 r2 ++ wK (ad 4))) := by
  refine z_openi (by decide) (Nat.le_of_ble_eq_true rfl) (fun _ _ _ => rfl) ?_
  intro p e s m args below meth c A Q ls C0 hK hZ hP hD hA hl hret
  obtain ⟨hx, hb, hml, hown, hts⟩ := id C0
  have hS : va_S A s.heap s.heap [] := va_S.rf
  have hP : va_P G.1 vwCl (wX G ad ho rn ln dr ro lt rf th sb ++ wR G (ad 1) kd r ++ wR G (ad 2) k1 r1 ++ wR G (ad 3) k2 r2 ++ wK (ad 4)) s.heap := hP
  have hD : va_D A (wX G ad ho rn ln dr ro lt rf th sb ++ wR G (ad 1) kd r ++ wR G (ad 2) k1 r1 ++ wR G (ad 3) k2 r2 ++ wK (ad 4)) := hD
  have hl : lv_has ls 2 [(0, .ref (ad 0 0)), (1, .int t)] := hl
  have hr0 := hr.n
  have hN := hr.le
  refine lv_aload_n hx hb dX0_leastSpeed_0 rfl (lv_at hl 0 rfl) ?_
  refine lv_bipush (v := 14) hx hb dX0_leastSpeed_1 (by decide) ?_
  refine lv_iload_n hx hb dX0_leastSpeed_3 rfl (lv_at hl 1 rfl) ?_
  refine lv_iconst (v := 0) hx hb dX0_leastSpeed_4 (by decide) ?_
  refine lv_iconst (v := 0) hx hb dX0_leastSpeed_5 (by decide) ?_
  refine lv_iconst (v := 0) hx hb dX0_leastSpeed_6 (by decide) ?_
  refine lv_iconst (v := 0) hx hb dX0_leastSpeed_7 (by decide) ?_
  refine z_VWi (wN := fun u_1 => (wX G ad ho rn ln dr ro lt (sel (eS (tB r t) (-1) (eS (pSt r (ix t)) (-3) 0)) rf (rfU rf (eS (tB r t) (-1) (eS (pSt r (ix t)) (-3) 0)))) th sb ++ wR G (ad 1) kd r ++ wR G (ad 2) u_1.1 u_1.2 ++ wR G (ad 3) k2 r2 ++ wK (ad 4))) ⟨C0, hK, hP, hD, hS, hA⟩ hZ 0 rfl (ci := 0) rfl rfl ((m_act_14 l hl0 G ad kd k1 k2 r r1 r2 ho rn ln dr ro lt rf th sb hr hp hk t 0 0 0 0)) (vy_cwVW 6 hts (lw_VW q269 q271 qs0 q86 q272) rfl rfl rfl (by decide +kernel) ⟨Nat.le_of_ble_eq_true rfl, Nat.le_of_ble_eq_true rfl⟩) [0, 1, 2, 3, 4, 5, 6, 7, 8, 9, 10, 11, 12, 13, 14, 15, 16, 17, 18, 19, 20, 21, 22, 23, 24, 25, 26, 27, 28, 29, 30] [1, 3, 5, 7, 9, 11, 13, 15, 17, 19, 21, 23, 25, 27, 29, 31, 33, 35, 37, 39, 41, 43, 45, 47, 49, 51, 53, 55, 57, 59, 61] rfl (fun _ => rfl) rfl rfl hl.1 rfl (Nat.le_of_ble_eq_true rfl) dX0_leastSpeed_8 ⟨(Nat.le_of_ble_eq_true rfl), (Nat.le_of_ble_eq_true rfl)⟩ (fun r_1 u_1 H locs hw_1 hP hD hS => ?_)
  have hP : va_P G.1 vwCl (wX G ad ho rn ln dr ro lt (sel (eS (tB r t) (-1) (eS (pSt r (ix t)) (-3) 0)) rf (rfU rf (eS (tB r t) (-1) (eS (pSt r (ix t)) (-3) 0)))) th sb ++ wR G (ad 1) kd r ++ wR G (ad 2) u_1.1 u_1.2 ++ wR G (ad 3) k2 r2 ++ wK (ad 4)) H := hP
  have hD : va_D A (wX G ad ho rn ln dr ro lt (sel (eS (tB r t) (-1) (eS (pSt r (ix t)) (-3) 0)) rf (rfU rf (eS (tB r t) (-1) (eS (pSt r (ix t)) (-3) 0)))) th sb ++ wR G (ad 1) kd r ++ wR G (ad 2) u_1.1 u_1.2 ++ wR G (ad 3) k2 r2 ++ wK (ad 4)) := hD
  refine W.widen (k := 2) (n := 14) (Nat.le_of_ble_eq_true rfl) (Nat.le_of_ble_eq_true rfl) ?_
  refine hret _ _ _ _ _ _ r_1 u_1 dX0_leastSpeed_11 ?_ hP hD hS (Nat.le_of_ble_eq_true rfl) (Nat.le_of_ble_eq_true rfl)
  exact hw_1
set_option maxHeartbeats 4000000 in
set_option maxRecDepth 100000 in
theorem m_atOnce (l : Launch) (hl0 : l.stackTraces = false) (G : xG) (ad : Nat → Nat → Nat) (kd k1 k2 : Nat → Option Nat) (r r1 r2 : Rw) (ho rn ln dr : Int32) (ro lt rf th sb : Nat → Int32) (hr : Ok r) (hp : r 5 3 = 0) (hk : kOk (ad 4) kd r) (t sp : Int32) : zCi l G yX0_atOnce (ws_ yX0_atOnce cX0_atOnce 3 (some .int)) ({ frames := 13, cells := 4, slots := 28, locals := 247 } : Room) [.ref (ad 0 0), .int t, .int sp] (wX G ad ho rn ln dr ro lt rf th sb ++ wR G (ad 1) kd r ++ wR G (ad 2) k1 r1 ++ wR G (ad 3) k2 r2 ++ wK (ad 4)) (S := ((Nat → Option Nat) × Rw)) (fun v _ => v = sel (eS (tB r t) (-1) (eW (wBy sp.toInt 0 9) (eS (pSt r (ix t)) (-3) 0))) (pFB r (ix t) sp) (eS (tB r t) (-1) (eW (wBy sp.toInt 0 9) (eS (pSt r (ix t)) (-3) 0)))) (fun u => (wX G ad ho rn ln dr ro lt (sel (eS (tB r t) (-1) (eW (wBy sp.toInt 0 9) (eS (pSt r (ix t)) (-3) 0))) rf (rfU rf (eS (tB r t) (-1) (eW (wBy sp.toInt 0 9) (eS (pSt r (ix t)) (-3) 0))))) th sb ++ wR G (ad 1) kd r ++ wR G (ad 2) u.1 u.2 ++ wR G (ad 3) k2 r2 ++ wK (ad 4))) := by
  refine z_openi (by decide) (Nat.le_of_ble_eq_true rfl) (fun _ _ _ => rfl) ?_
  intro p e s m args below meth c A Q ls C0 hK hZ hP hD hA hl hret
  obtain ⟨hx, hb, hml, hown, hts⟩ := id C0
  have hS : va_S A s.heap s.heap [] := va_S.rf
  have hP : va_P G.1 vwCl (wX G ad ho rn ln dr ro lt rf th sb ++ wR G (ad 1) kd r ++ wR G (ad 2) k1 r1 ++ wR G (ad 3) k2 r2 ++ wK (ad 4)) s.heap := hP
  have hD : va_D A (wX G ad ho rn ln dr ro lt rf th sb ++ wR G (ad 1) kd r ++ wR G (ad 2) k1 r1 ++ wR G (ad 3) k2 r2 ++ wK (ad 4)) := hD
  have hl : lv_has ls 3 [(0, .ref (ad 0 0)), (1, .int t), (2, .int sp)] := hl
  have hr0 := hr.n
  have hN := hr.le
  refine lv_aload_n hx hb dX0_atOnce_0 rfl (lv_at hl 0 rfl) ?_
  refine lv_bipush (v := 15) hx hb dX0_atOnce_1 (by decide) ?_
  refine lv_iload_n hx hb dX0_atOnce_3 rfl (lv_at hl 1 rfl) ?_
  refine lv_iload_n hx hb dX0_atOnce_4 rfl (lv_at hl 2 rfl) ?_
  refine lv_iconst (v := 0) hx hb dX0_atOnce_5 (by decide) ?_
  refine lv_iconst (v := 0) hx hb dX0_atOnce_6 (by decide) ?_
  refine lv_iconst (v := 0) hx hb dX0_atOnce_7 (by decide) ?_
  refine z_VWi (wN := fun u_1 => (wX G ad ho rn ln dr ro lt (sel (eS (tB r t) (-1) (eW (wBy sp.toInt 0 9) (eS (pSt r (ix t)) (-3) 0))) rf (rfU rf (eS (tB r t) (-1) (eW (wBy sp.toInt 0 9) (eS (pSt r (ix t)) (-3) 0))))) th sb ++ wR G (ad 1) kd r ++ wR G (ad 2) u_1.1 u_1.2 ++ wR G (ad 3) k2 r2 ++ wK (ad 4))) ⟨C0, hK, hP, hD, hS, hA⟩ hZ 0 rfl (ci := 0) rfl rfl ((m_act_15 l hl0 G ad kd k1 k2 r r1 r2 ho rn ln dr ro lt rf th sb hr hp hk t sp 0 0 0)) (vy_cwVW 6 hts (lw_VW q269 q271 qs0 q86 q272) rfl rfl rfl (by decide +kernel) ⟨Nat.le_of_ble_eq_true rfl, Nat.le_of_ble_eq_true rfl⟩) [0, 1, 2, 3, 4, 5, 6, 7, 8, 9, 10, 11, 12, 13, 14, 15, 16, 17, 18, 19, 20, 21, 22, 23, 24, 25, 26, 27, 28, 29, 30] [1, 3, 5, 7, 9, 11, 13, 15, 17, 19, 21, 23, 25, 27, 29, 31, 33, 35, 37, 39, 41, 43, 45, 47, 49, 51, 53, 55, 57, 59, 61] rfl (fun _ => rfl) rfl rfl hl.1 rfl (Nat.le_of_ble_eq_true rfl) dX0_atOnce_8 ⟨(Nat.le_of_ble_eq_true rfl), (Nat.le_of_ble_eq_true rfl)⟩ (fun r_1 u_1 H locs hw_1 hP hD hS => ?_)
  have hP : va_P G.1 vwCl (wX G ad ho rn ln dr ro lt (sel (eS (tB r t) (-1) (eW (wBy sp.toInt 0 9) (eS (pSt r (ix t)) (-3) 0))) rf (rfU rf (eS (tB r t) (-1) (eW (wBy sp.toInt 0 9) (eS (pSt r (ix t)) (-3) 0))))) th sb ++ wR G (ad 1) kd r ++ wR G (ad 2) u_1.1 u_1.2 ++ wR G (ad 3) k2 r2 ++ wK (ad 4)) H := hP
  have hD : va_D A (wX G ad ho rn ln dr ro lt (sel (eS (tB r t) (-1) (eW (wBy sp.toInt 0 9) (eS (pSt r (ix t)) (-3) 0))) rf (rfU rf (eS (tB r t) (-1) (eW (wBy sp.toInt 0 9) (eS (pSt r (ix t)) (-3) 0))))) th sb ++ wR G (ad 1) kd r ++ wR G (ad 2) u_1.1 u_1.2 ++ wR G (ad 3) k2 r2 ++ wK (ad 4)) := hD
  refine W.widen (k := 4) (n := 28) (Nat.le_of_ble_eq_true rfl) (Nat.le_of_ble_eq_true rfl) ?_
  refine hret _ _ _ _ _ _ r_1 u_1 dX0_atOnce_11 ?_ hP hD hS (Nat.le_of_ble_eq_true rfl) (Nat.le_of_ble_eq_true rfl)
  exact hw_1
set_option maxHeartbeats 4000000 in
set_option maxRecDepth 100000 in
theorem m_later (l : Launch) (hl0 : l.stackTraces = false) (G : xG) (ad : Nat → Nat → Nat) (kd k1 k2 : Nat → Option Nat) (r r1 r2 : Rw) (ho rn ln dr : Int32) (ro lt rf th sb : Nat → Int32) (hr : Ok r) (hp : r 5 3 = 0) (hk : kOk (ad 4) kd r) (t sp mi : Int32) : zCi l G yX0_later (ws_ yX0_later cX0_later 4 (some .int)) ({ frames := 13, cells := 4, slots := 28, locals := 254 } : Room) [.ref (ad 0 0), .int t, .int sp, .int mi] (wX G ad ho rn ln dr ro lt rf th sb ++ wR G (ad 1) kd r ++ wR G (ad 2) k1 r1 ++ wR G (ad 3) k2 r2 ++ wK (ad 4)) (S := ((Nat → Option Nat) × Rw)) (fun v _ => v = sel (eS (tB r t) (-1) (eS (decide (¬ sp < 0 ∧ ¬ mi < 0)) (-4) (eS (decide (sp ≤ 9 ∧ mi ≤ 99)) (-6) (eS (pSt r (ix t)) (-3) 0)))) (pFL r (ix t) sp (ix mi)) (eS (tB r t) (-1) (eS (decide (¬ sp < 0 ∧ ¬ mi < 0)) (-4) (eS (decide (sp ≤ 9 ∧ mi ≤ 99)) (-6) (eS (pSt r (ix t)) (-3) 0))))) (fun u => (wX G ad ho rn ln dr ro lt (sel (eS (tB r t) (-1) (eS (decide (¬ sp < 0 ∧ ¬ mi < 0)) (-4) (eS (decide (sp ≤ 9 ∧ mi ≤ 99)) (-6) (eS (pSt r (ix t)) (-3) 0)))) rf (rfU rf (eS (tB r t) (-1) (eS (decide (¬ sp < 0 ∧ ¬ mi < 0)) (-4) (eS (decide (sp ≤ 9 ∧ mi ≤ 99)) (-6) (eS (pSt r (ix t)) (-3) 0)))))) th sb ++ wR G (ad 1) kd r ++ wR G (ad 2) u.1 u.2 ++ wR G (ad 3) k2 r2 ++ wK (ad 4))) := by
  refine z_openi (by decide) (Nat.le_of_ble_eq_true rfl) (fun _ _ _ => rfl) ?_
  intro p e s m args below meth c A Q ls C0 hK hZ hP hD hA hl hret
  obtain ⟨hx, hb, hml, hown, hts⟩ := id C0
  have hS : va_S A s.heap s.heap [] := va_S.rf
  have hP : va_P G.1 vwCl (wX G ad ho rn ln dr ro lt rf th sb ++ wR G (ad 1) kd r ++ wR G (ad 2) k1 r1 ++ wR G (ad 3) k2 r2 ++ wK (ad 4)) s.heap := hP
  have hD : va_D A (wX G ad ho rn ln dr ro lt rf th sb ++ wR G (ad 1) kd r ++ wR G (ad 2) k1 r1 ++ wR G (ad 3) k2 r2 ++ wK (ad 4)) := hD
  have hl : lv_has ls 4 [(0, .ref (ad 0 0)), (1, .int t), (2, .int sp), (3, .int mi)] := hl
  have hr0 := hr.n
  have hN := hr.le
  refine lv_aload_n hx hb dX0_later_0 rfl (lv_at hl 0 rfl) ?_
  refine lv_bipush (v := 16) hx hb dX0_later_1 (by decide) ?_
  refine lv_iload_n hx hb dX0_later_3 rfl (lv_at hl 1 rfl) ?_
  refine lv_iload_n hx hb dX0_later_4 rfl (lv_at hl 2 rfl) ?_
  refine lv_iload_n hx hb dX0_later_5 rfl (lv_at hl 3 rfl) ?_
  refine lv_iconst (v := 0) hx hb dX0_later_6 (by decide) ?_
  refine lv_iconst (v := 0) hx hb dX0_later_7 (by decide) ?_
  refine z_VWi (wN := fun u_1 => (wX G ad ho rn ln dr ro lt (sel (eS (tB r t) (-1) (eS (decide (¬ sp < 0 ∧ ¬ mi < 0)) (-4) (eS (decide (sp ≤ 9 ∧ mi ≤ 99)) (-6) (eS (pSt r (ix t)) (-3) 0)))) rf (rfU rf (eS (tB r t) (-1) (eS (decide (¬ sp < 0 ∧ ¬ mi < 0)) (-4) (eS (decide (sp ≤ 9 ∧ mi ≤ 99)) (-6) (eS (pSt r (ix t)) (-3) 0)))))) th sb ++ wR G (ad 1) kd r ++ wR G (ad 2) u_1.1 u_1.2 ++ wR G (ad 3) k2 r2 ++ wK (ad 4))) ⟨C0, hK, hP, hD, hS, hA⟩ hZ 0 rfl (ci := 0) rfl rfl ((m_act_16 l hl0 G ad kd k1 k2 r r1 r2 ho rn ln dr ro lt rf th sb hr hp hk t sp mi 0 0)) (vy_cwVW 6 hts (lw_VW q269 q271 qs0 q86 q272) rfl rfl rfl (by decide +kernel) ⟨Nat.le_of_ble_eq_true rfl, Nat.le_of_ble_eq_true rfl⟩) [0, 1, 2, 3, 4, 5, 6, 7, 8, 9, 10, 11, 12, 13, 14, 15, 16, 17, 18, 19, 20, 21, 22, 23, 24, 25, 26, 27, 28, 29, 30] [1, 3, 5, 7, 9, 11, 13, 15, 17, 19, 21, 23, 25, 27, 29, 31, 33, 35, 37, 39, 41, 43, 45, 47, 49, 51, 53, 55, 57, 59, 61] rfl (fun _ => rfl) rfl rfl hl.1 rfl (Nat.le_of_ble_eq_true rfl) dX0_later_8 ⟨(Nat.le_of_ble_eq_true rfl), (Nat.le_of_ble_eq_true rfl)⟩ (fun r_1 u_1 H locs hw_1 hP hD hS => ?_)
  have hP : va_P G.1 vwCl (wX G ad ho rn ln dr ro lt (sel (eS (tB r t) (-1) (eS (decide (¬ sp < 0 ∧ ¬ mi < 0)) (-4) (eS (decide (sp ≤ 9 ∧ mi ≤ 99)) (-6) (eS (pSt r (ix t)) (-3) 0)))) rf (rfU rf (eS (tB r t) (-1) (eS (decide (¬ sp < 0 ∧ ¬ mi < 0)) (-4) (eS (decide (sp ≤ 9 ∧ mi ≤ 99)) (-6) (eS (pSt r (ix t)) (-3) 0)))))) th sb ++ wR G (ad 1) kd r ++ wR G (ad 2) u_1.1 u_1.2 ++ wR G (ad 3) k2 r2 ++ wK (ad 4)) H := hP
  have hD : va_D A (wX G ad ho rn ln dr ro lt (sel (eS (tB r t) (-1) (eS (decide (¬ sp < 0 ∧ ¬ mi < 0)) (-4) (eS (decide (sp ≤ 9 ∧ mi ≤ 99)) (-6) (eS (pSt r (ix t)) (-3) 0)))) rf (rfU rf (eS (tB r t) (-1) (eS (decide (¬ sp < 0 ∧ ¬ mi < 0)) (-4) (eS (decide (sp ≤ 9 ∧ mi ≤ 99)) (-6) (eS (pSt r (ix t)) (-3) 0)))))) th sb ++ wR G (ad 1) kd r ++ wR G (ad 2) u_1.1 u_1.2 ++ wR G (ad 3) k2 r2 ++ wK (ad 4)) := hD
  refine W.widen (k := 4) (n := 28) (Nat.le_of_ble_eq_true rfl) (Nat.le_of_ble_eq_true rfl) ?_
  refine hret _ _ _ _ _ _ r_1 u_1 dX0_later_11 ?_ hP hD hS (Nat.le_of_ble_eq_true rfl) (Nat.le_of_ble_eq_true rfl)
  exact hw_1
set_option maxHeartbeats 4000000 in
set_option maxRecDepth 100000 in
theorem m_pullMost (l : Launch) (hl0 : l.stackTraces = false) (G : xG) (ad : Nat → Nat → Nat) (kd k1 k2 : Nat → Option Nat) (r r1 r2 : Rw) (ho rn ln dr : Int32) (ro lt rf th sb : Nat → Int32) (hr : Ok r) (hp : r 5 3 = 0) (hk : kOk (ad 4) kd r) (t mi w : Int32) : zCi l G yX0_pullMost (ws_ yX0_pullMost cX0_pullMost 4 (some .int)) ({ frames := 13, cells := 4, slots := 28, locals := 259 } : Room) [.ref (ad 0 0), .int t, .int mi, .int w] (wX G ad ho rn ln dr ro lt rf th sb ++ wR G (ad 1) kd r ++ wR G (ad 2) k1 r1 ++ wR G (ad 3) k2 r2 ++ wK (ad 4)) (S := ((Nat → Option Nat) × Rw)) (fun v _ => v = sel (eS (tB r t) (-1) (eW (wBy mi.toInt 0 30) (eS (inR w 0 1) (-2) 0))) (pMost r (ix t) (ix mi) w) (eS (tB r t) (-1) (eW (wBy mi.toInt 0 30) (eS (inR w 0 1) (-2) 0)))) (fun u => (wX G ad ho rn ln dr ro lt (sel (eS (tB r t) (-1) (eW (wBy mi.toInt 0 30) (eS (inR w 0 1) (-2) 0))) rf (rfU rf (eS (tB r t) (-1) (eW (wBy mi.toInt 0 30) (eS (inR w 0 1) (-2) 0))))) th sb ++ wR G (ad 1) kd r ++ wR G (ad 2) u.1 u.2 ++ wR G (ad 3) k2 r2 ++ wK (ad 4))) := by
  refine z_openi (by decide) (Nat.le_of_ble_eq_true rfl) (fun _ _ _ => rfl) ?_
  intro p e s m args below meth c A Q ls C0 hK hZ hP hD hA hl hret
  obtain ⟨hx, hb, hml, hown, hts⟩ := id C0
  have hS : va_S A s.heap s.heap [] := va_S.rf
  have hP : va_P G.1 vwCl (wX G ad ho rn ln dr ro lt rf th sb ++ wR G (ad 1) kd r ++ wR G (ad 2) k1 r1 ++ wR G (ad 3) k2 r2 ++ wK (ad 4)) s.heap := hP
  have hD : va_D A (wX G ad ho rn ln dr ro lt rf th sb ++ wR G (ad 1) kd r ++ wR G (ad 2) k1 r1 ++ wR G (ad 3) k2 r2 ++ wK (ad 4)) := hD
  have hl : lv_has ls 4 [(0, .ref (ad 0 0)), (1, .int t), (2, .int mi), (3, .int w)] := hl
  have hr0 := hr.n
  have hN := hr.le
  refine lv_aload_n hx hb dX0_pullMost_0 rfl (lv_at hl 0 rfl) ?_
  refine lv_bipush (v := 17) hx hb dX0_pullMost_1 (by decide) ?_
  refine lv_iload_n hx hb dX0_pullMost_3 rfl (lv_at hl 1 rfl) ?_
  refine lv_iload_n hx hb dX0_pullMost_4 rfl (lv_at hl 2 rfl) ?_
  refine lv_iload_n hx hb dX0_pullMost_5 rfl (lv_at hl 3 rfl) ?_
  refine lv_iconst (v := 0) hx hb dX0_pullMost_6 (by decide) ?_
  refine lv_iconst (v := 0) hx hb dX0_pullMost_7 (by decide) ?_
  refine z_VWi (wN := fun u_1 => (wX G ad ho rn ln dr ro lt (sel (eS (tB r t) (-1) (eW (wBy mi.toInt 0 30) (eS (inR w 0 1) (-2) 0))) rf (rfU rf (eS (tB r t) (-1) (eW (wBy mi.toInt 0 30) (eS (inR w 0 1) (-2) 0))))) th sb ++ wR G (ad 1) kd r ++ wR G (ad 2) u_1.1 u_1.2 ++ wR G (ad 3) k2 r2 ++ wK (ad 4))) ⟨C0, hK, hP, hD, hS, hA⟩ hZ 0 rfl (ci := 0) rfl rfl ((m_act_17 l hl0 G ad kd k1 k2 r r1 r2 ho rn ln dr ro lt rf th sb hr hp hk t mi w 0 0)) (vy_cwVW 6 hts (lw_VW q269 q271 qs0 q86 q272) rfl rfl rfl (by decide +kernel) ⟨Nat.le_of_ble_eq_true rfl, Nat.le_of_ble_eq_true rfl⟩) [0, 1, 2, 3, 4, 5, 6, 7, 8, 9, 10, 11, 12, 13, 14, 15, 16, 17, 18, 19, 20, 21, 22, 23, 24, 25, 26, 27, 28, 29, 30] [1, 3, 5, 7, 9, 11, 13, 15, 17, 19, 21, 23, 25, 27, 29, 31, 33, 35, 37, 39, 41, 43, 45, 47, 49, 51, 53, 55, 57, 59, 61] rfl (fun _ => rfl) rfl rfl hl.1 rfl (Nat.le_of_ble_eq_true rfl) dX0_pullMost_8 ⟨(Nat.le_of_ble_eq_true rfl), (Nat.le_of_ble_eq_true rfl)⟩ (fun r_1 u_1 H locs hw_1 hP hD hS => ?_)
  have hP : va_P G.1 vwCl (wX G ad ho rn ln dr ro lt (sel (eS (tB r t) (-1) (eW (wBy mi.toInt 0 30) (eS (inR w 0 1) (-2) 0))) rf (rfU rf (eS (tB r t) (-1) (eW (wBy mi.toInt 0 30) (eS (inR w 0 1) (-2) 0))))) th sb ++ wR G (ad 1) kd r ++ wR G (ad 2) u_1.1 u_1.2 ++ wR G (ad 3) k2 r2 ++ wK (ad 4)) H := hP
  have hD : va_D A (wX G ad ho rn ln dr ro lt (sel (eS (tB r t) (-1) (eW (wBy mi.toInt 0 30) (eS (inR w 0 1) (-2) 0))) rf (rfU rf (eS (tB r t) (-1) (eW (wBy mi.toInt 0 30) (eS (inR w 0 1) (-2) 0))))) th sb ++ wR G (ad 1) kd r ++ wR G (ad 2) u_1.1 u_1.2 ++ wR G (ad 3) k2 r2 ++ wK (ad 4)) := hD
  refine W.widen (k := 4) (n := 28) (Nat.le_of_ble_eq_true rfl) (Nat.le_of_ble_eq_true rfl) ?_
  refine hret _ _ _ _ _ _ r_1 u_1 dX0_pullMost_11 ?_ hP hD hS (Nat.le_of_ble_eq_true rfl) (Nat.le_of_ble_eq_true rfl)
  exact hw_1
set_option maxHeartbeats 4000000 in
set_option maxRecDepth 100000 in
theorem m_key (l : Launch) (hl0 : l.stackTraces = false) (G : xG) (ad : Nat → Nat → Nat) (kd k1 k2 : Nat → Option Nat) (r r1 r2 : Rw) (ho rn ln dr : Int32) (ro lt rf th sb : Nat → Int32) (hr : Ok r) (hp : r 5 3 = 0) (hk : kOk (ad 4) kd r) (mi : Int32) : zCi l G yX0_key (ws_ yX0_key cX0_key 2 (some .int)) ({ frames := 12, cells := 2, slots := 14, locals := 227 } : Room) [.ref (ad 0 0), .int mi] (wX G ad ho rn ln dr ro lt rf th sb ++ wR G (ad 1) kd r ++ wR G (ad 2) k1 r1 ++ wR G (ad 3) k2 r2 ++ wK (ad 4)) (S := ((Nat → Option Nat) × Rw)) (fun v _ => v = sel (eW (wBy mi.toInt 0 99) 0) ((pKy r (ix mi) (mny r)).1) (eW (wBy mi.toInt 0 99) 0)) (fun u => (wX G ad ho rn ln dr ro lt (sel (eW (wBy mi.toInt 0 99) 0) rf (rfU rf (eW (wBy mi.toInt 0 99) 0))) th sb ++ wR G (ad 1) kd r ++ wR G (ad 2) u.1 u.2 ++ wR G (ad 3) k2 r2 ++ wK (ad 4))) := by
  refine z_openi (by decide) (Nat.le_of_ble_eq_true rfl) (fun _ _ _ => rfl) ?_
  intro p e s m args below meth c A Q ls C0 hK hZ hP hD hA hl hret
  obtain ⟨hx, hb, hml, hown, hts⟩ := id C0
  have hS : va_S A s.heap s.heap [] := va_S.rf
  have hP : va_P G.1 vwCl (wX G ad ho rn ln dr ro lt rf th sb ++ wR G (ad 1) kd r ++ wR G (ad 2) k1 r1 ++ wR G (ad 3) k2 r2 ++ wK (ad 4)) s.heap := hP
  have hD : va_D A (wX G ad ho rn ln dr ro lt rf th sb ++ wR G (ad 1) kd r ++ wR G (ad 2) k1 r1 ++ wR G (ad 3) k2 r2 ++ wK (ad 4)) := hD
  have hl : lv_has ls 2 [(0, .ref (ad 0 0)), (1, .int mi)] := hl
  have hr0 := hr.n
  have hN := hr.le
  refine lv_aload_n hx hb dX0_key_0 rfl (lv_at hl 0 rfl) ?_
  refine lv_bipush (v := 18) hx hb dX0_key_1 (by decide) ?_
  refine lv_iload_n hx hb dX0_key_3 rfl (lv_at hl 1 rfl) ?_
  refine lv_iconst (v := 0) hx hb dX0_key_4 (by decide) ?_
  refine lv_iconst (v := 0) hx hb dX0_key_5 (by decide) ?_
  refine lv_iconst (v := 0) hx hb dX0_key_6 (by decide) ?_
  refine lv_iconst (v := 0) hx hb dX0_key_7 (by decide) ?_
  refine z_VWi (wN := fun u_1 => (wX G ad ho rn ln dr ro lt (sel (eW (wBy mi.toInt 0 99) 0) rf (rfU rf (eW (wBy mi.toInt 0 99) 0))) th sb ++ wR G (ad 1) kd r ++ wR G (ad 2) u_1.1 u_1.2 ++ wR G (ad 3) k2 r2 ++ wK (ad 4))) ⟨C0, hK, hP, hD, hS, hA⟩ hZ 0 rfl (ci := 0) rfl rfl ((m_act_18 l hl0 G ad kd k1 k2 r r1 r2 ho rn ln dr ro lt rf th sb hr hp hk mi 0 0 0 0)) (vy_cwVW 6 hts (lw_VW q269 q271 qs0 q86 q272) rfl rfl rfl (by decide +kernel) ⟨Nat.le_of_ble_eq_true rfl, Nat.le_of_ble_eq_true rfl⟩) [0, 1, 2, 3, 4, 5, 6, 7, 8, 9, 10, 11, 12, 13, 14, 15, 16, 17, 18, 19, 20, 21, 22, 23, 24, 25, 26, 27, 28, 29, 30] [1, 3, 5, 7, 9, 11, 13, 15, 17, 19, 21, 23, 25, 27, 29, 31, 33, 35, 37, 39, 41, 43, 45, 47, 49, 51, 53, 55, 57, 59, 61] rfl (fun _ => rfl) rfl rfl hl.1 rfl (Nat.le_of_ble_eq_true rfl) dX0_key_8 ⟨(Nat.le_of_ble_eq_true rfl), (Nat.le_of_ble_eq_true rfl)⟩ (fun r_1 u_1 H locs hw_1 hP hD hS => ?_)
  have hP : va_P G.1 vwCl (wX G ad ho rn ln dr ro lt (sel (eW (wBy mi.toInt 0 99) 0) rf (rfU rf (eW (wBy mi.toInt 0 99) 0))) th sb ++ wR G (ad 1) kd r ++ wR G (ad 2) u_1.1 u_1.2 ++ wR G (ad 3) k2 r2 ++ wK (ad 4)) H := hP
  have hD : va_D A (wX G ad ho rn ln dr ro lt (sel (eW (wBy mi.toInt 0 99) 0) rf (rfU rf (eW (wBy mi.toInt 0 99) 0))) th sb ++ wR G (ad 1) kd r ++ wR G (ad 2) u_1.1 u_1.2 ++ wR G (ad 3) k2 r2 ++ wK (ad 4)) := hD
  refine W.widen (k := 2) (n := 14) (Nat.le_of_ble_eq_true rfl) (Nat.le_of_ble_eq_true rfl) ?_
  refine hret _ _ _ _ _ _ r_1 u_1 dX0_key_11 ?_ hP hD hS (Nat.le_of_ble_eq_true rfl) (Nat.le_of_ble_eq_true rfl)
  exact hw_1
set_option maxHeartbeats 4000000 in
set_option maxRecDepth 100000 in
theorem m_prop (l : Launch) (hl0 : l.stackTraces = false) (G : xG) (ad : Nat → Nat → Nat) (kd k1 k2 : Nat → Option Nat) (r r1 r2 : Rw) (ho rn ln dr : Int32) (ro lt rf th sb : Nat → Int32) (hr : Ok r) (hp : r 5 3 = 0) (hk : kOk (ad 4) kd r) (mi : Int32) : zCi l G yX0_prop (ws_ yX0_prop cX0_prop 2 (some .int)) ({ frames := 12, cells := 2, slots := 14, locals := 227 } : Room) [.ref (ad 0 0), .int mi] (wX G ad ho rn ln dr ro lt rf th sb ++ wR G (ad 1) kd r ++ wR G (ad 2) k1 r1 ++ wR G (ad 3) k2 r2 ++ wK (ad 4)) (S := ((Nat → Option Nat) × Rw)) (fun v _ => v = sel (eW (wBy mi.toInt 0 99) 0) (nI (pProp r (ix mi))) (eW (wBy mi.toInt 0 99) 0)) (fun u => (wX G ad ho rn ln dr ro lt (sel (eW (wBy mi.toInt 0 99) 0) rf (rfU rf (eW (wBy mi.toInt 0 99) 0))) th sb ++ wR G (ad 1) kd r ++ wR G (ad 2) u.1 u.2 ++ wR G (ad 3) k2 r2 ++ wK (ad 4))) := by
  refine z_openi (by decide) (Nat.le_of_ble_eq_true rfl) (fun _ _ _ => rfl) ?_
  intro p e s m args below meth c A Q ls C0 hK hZ hP hD hA hl hret
  obtain ⟨hx, hb, hml, hown, hts⟩ := id C0
  have hS : va_S A s.heap s.heap [] := va_S.rf
  have hP : va_P G.1 vwCl (wX G ad ho rn ln dr ro lt rf th sb ++ wR G (ad 1) kd r ++ wR G (ad 2) k1 r1 ++ wR G (ad 3) k2 r2 ++ wK (ad 4)) s.heap := hP
  have hD : va_D A (wX G ad ho rn ln dr ro lt rf th sb ++ wR G (ad 1) kd r ++ wR G (ad 2) k1 r1 ++ wR G (ad 3) k2 r2 ++ wK (ad 4)) := hD
  have hl : lv_has ls 2 [(0, .ref (ad 0 0)), (1, .int mi)] := hl
  have hr0 := hr.n
  have hN := hr.le
  refine lv_aload_n hx hb dX0_prop_0 rfl (lv_at hl 0 rfl) ?_
  refine lv_bipush (v := 19) hx hb dX0_prop_1 (by decide) ?_
  refine lv_iload_n hx hb dX0_prop_3 rfl (lv_at hl 1 rfl) ?_
  refine lv_iconst (v := 0) hx hb dX0_prop_4 (by decide) ?_
  refine lv_iconst (v := 0) hx hb dX0_prop_5 (by decide) ?_
  refine lv_iconst (v := 0) hx hb dX0_prop_6 (by decide) ?_
  refine lv_iconst (v := 0) hx hb dX0_prop_7 (by decide) ?_
  refine z_VWi (wN := fun u_1 => (wX G ad ho rn ln dr ro lt (sel (eW (wBy mi.toInt 0 99) 0) rf (rfU rf (eW (wBy mi.toInt 0 99) 0))) th sb ++ wR G (ad 1) kd r ++ wR G (ad 2) u_1.1 u_1.2 ++ wR G (ad 3) k2 r2 ++ wK (ad 4))) ⟨C0, hK, hP, hD, hS, hA⟩ hZ 0 rfl (ci := 0) rfl rfl ((m_act_19 l hl0 G ad kd k1 k2 r r1 r2 ho rn ln dr ro lt rf th sb hr hp hk mi 0 0 0 0)) (vy_cwVW 6 hts (lw_VW q269 q271 qs0 q86 q272) rfl rfl rfl (by decide +kernel) ⟨Nat.le_of_ble_eq_true rfl, Nat.le_of_ble_eq_true rfl⟩) [0, 1, 2, 3, 4, 5, 6, 7, 8, 9, 10, 11, 12, 13, 14, 15, 16, 17, 18, 19, 20, 21, 22, 23, 24, 25, 26, 27, 28, 29, 30] [1, 3, 5, 7, 9, 11, 13, 15, 17, 19, 21, 23, 25, 27, 29, 31, 33, 35, 37, 39, 41, 43, 45, 47, 49, 51, 53, 55, 57, 59, 61] rfl (fun _ => rfl) rfl rfl hl.1 rfl (Nat.le_of_ble_eq_true rfl) dX0_prop_8 ⟨(Nat.le_of_ble_eq_true rfl), (Nat.le_of_ble_eq_true rfl)⟩ (fun r_1 u_1 H locs hw_1 hP hD hS => ?_)
  have hP : va_P G.1 vwCl (wX G ad ho rn ln dr ro lt (sel (eW (wBy mi.toInt 0 99) 0) rf (rfU rf (eW (wBy mi.toInt 0 99) 0))) th sb ++ wR G (ad 1) kd r ++ wR G (ad 2) u_1.1 u_1.2 ++ wR G (ad 3) k2 r2 ++ wK (ad 4)) H := hP
  have hD : va_D A (wX G ad ho rn ln dr ro lt (sel (eW (wBy mi.toInt 0 99) 0) rf (rfU rf (eW (wBy mi.toInt 0 99) 0))) th sb ++ wR G (ad 1) kd r ++ wR G (ad 2) u_1.1 u_1.2 ++ wR G (ad 3) k2 r2 ++ wK (ad 4)) := hD
  refine W.widen (k := 2) (n := 14) (Nat.le_of_ble_eq_true rfl) (Nat.le_of_ble_eq_true rfl) ?_
  refine hret _ _ _ _ _ _ r_1 u_1 dX0_prop_11 ?_ hP hD hS (Nat.le_of_ble_eq_true rfl) (Nat.le_of_ble_eq_true rfl)
  exact hw_1
set_option maxHeartbeats 4000000 in
set_option maxRecDepth 100000 in
theorem m_order (l : Launch) (hl0 : l.stackTraces = false) (G : xG) (ad : Nat → Nat → Nat) (kd k1 k2 : Nat → Option Nat) (r r1 r2 : Rw) (ho rn ln dr : Int32) (ro lt rf th sb : Nat → Int32) (hr : Ok r) (hp : r 5 3 = 0) (hk : kOk (ad 4) kd r) (x1 x2 x3 sp w : Int32) : zCi l G yX0_order (ws_ yX0_order cX0_order 6 (some .int)) ({ frames := 13, cells := 7, slots := 49, locals := 261 } : Room) [.ref (ad 0 0), .int x1, .int x2, .int x3, .int sp, .int w] (wX G ad ho rn ln dr ro lt rf th sb ++ wR G (ad 1) kd r ++ wR G (ad 2) k1 r1 ++ wR G (ad 3) k2 r2 ++ wK (ad 4)) (S := ((Nat → Option Nat) × Rw)) (fun v _ => v = sel (eS (tB r x1) (-1) (eS (tB r x2) (-1) (eS (tB r x3) (-1) (eS (decide (x1 ≠ x2 ∧ x1 ≠ x3 ∧ x2 ≠ x3)) (-1) (eW (wBy sp.toInt 0 9) (eS (inR w 0 1) (-2) 0)))))) (pOrd r (x3f x1 x2 x3) sp w) (eS (tB r x1) (-1) (eS (tB r x2) (-1) (eS (tB r x3) (-1) (eS (decide (x1 ≠ x2 ∧ x1 ≠ x3 ∧ x2 ≠ x3)) (-1) (eW (wBy sp.toInt 0 9) (eS (inR w 0 1) (-2) 0))))))) (fun u => (wX G ad ho rn ln dr ro lt (sel (eS (tB r x1) (-1) (eS (tB r x2) (-1) (eS (tB r x3) (-1) (eS (decide (x1 ≠ x2 ∧ x1 ≠ x3 ∧ x2 ≠ x3)) (-1) (eW (wBy sp.toInt 0 9) (eS (inR w 0 1) (-2) 0)))))) rf (rfU rf (eS (tB r x1) (-1) (eS (tB r x2) (-1) (eS (tB r x3) (-1) (eS (decide (x1 ≠ x2 ∧ x1 ≠ x3 ∧ x2 ≠ x3)) (-1) (eW (wBy sp.toInt 0 9) (eS (inR w 0 1) (-2) 0)))))))) (sel (eS (tB r x1) (-1) (eS (tB r x2) (-1) (eS (tB r x3) (-1) (eS (decide (x1 ≠ x2 ∧ x1 ≠ x3 ∧ x2 ≠ x3)) (-1) (eW (wBy sp.toInt 0 9) (eS (inR w 0 1) (-2) 0)))))) (upd (upd (upd th 0 x1) 1 x2) 2 x3) th) sb ++ wR G (ad 1) kd r ++ wR G (ad 2) u.1 u.2 ++ wR G (ad 3) k2 r2 ++ wK (ad 4))) := by
  refine z_openi (by decide) (Nat.le_of_ble_eq_true rfl) (fun _ _ _ => rfl) ?_
  intro p e s m args below meth c A Q ls C0 hK hZ hP hD hA hl hret
  obtain ⟨hx, hb, hml, hown, hts⟩ := id C0
  have hS : va_S A s.heap s.heap [] := va_S.rf
  have hP : va_P G.1 vwCl (wX G ad ho rn ln dr ro lt rf th sb ++ wR G (ad 1) kd r ++ wR G (ad 2) k1 r1 ++ wR G (ad 3) k2 r2 ++ wK (ad 4)) s.heap := hP
  have hD : va_D A (wX G ad ho rn ln dr ro lt rf th sb ++ wR G (ad 1) kd r ++ wR G (ad 2) k1 r1 ++ wR G (ad 3) k2 r2 ++ wK (ad 4)) := hD
  have hl : lv_has ls 6 [(0, .ref (ad 0 0)), (1, .int x1), (2, .int x2), (3, .int x3), (4, .int sp), (5, .int w)] := hl
  have hr0 := hr.n
  have hN := hr.le
  refine lv_aload_n hx hb dX0_order_0 rfl (lv_at hl 0 rfl) ?_
  refine lv_bipush (v := 20) hx hb dX0_order_1 (by decide) ?_
  refine lv_iload_n hx hb dX0_order_3 rfl (lv_at hl 1 rfl) ?_
  refine lv_iload_n hx hb dX0_order_4 rfl (lv_at hl 2 rfl) ?_
  refine lv_iload_n hx hb dX0_order_5 rfl (lv_at hl 3 rfl) ?_
  refine lv_iload hx hb dX0_order_6 (lv_at hl 4 rfl) ?_
  refine lv_iload hx hb dX0_order_8 (lv_at hl 5 rfl) ?_
  refine z_VWi (wN := fun u_1 => (wX G ad ho rn ln dr ro lt (sel (eS (tB r x1) (-1) (eS (tB r x2) (-1) (eS (tB r x3) (-1) (eS (decide (x1 ≠ x2 ∧ x1 ≠ x3 ∧ x2 ≠ x3)) (-1) (eW (wBy sp.toInt 0 9) (eS (inR w 0 1) (-2) 0)))))) rf (rfU rf (eS (tB r x1) (-1) (eS (tB r x2) (-1) (eS (tB r x3) (-1) (eS (decide (x1 ≠ x2 ∧ x1 ≠ x3 ∧ x2 ≠ x3)) (-1) (eW (wBy sp.toInt 0 9) (eS (inR w 0 1) (-2) 0)))))))) (sel (eS (tB r x1) (-1) (eS (tB r x2) (-1) (eS (tB r x3) (-1) (eS (decide (x1 ≠ x2 ∧ x1 ≠ x3 ∧ x2 ≠ x3)) (-1) (eW (wBy sp.toInt 0 9) (eS (inR w 0 1) (-2) 0)))))) (upd (upd (upd th 0 x1) 1 x2) 2 x3) th) sb ++ wR G (ad 1) kd r ++ wR G (ad 2) u_1.1 u_1.2 ++ wR G (ad 3) k2 r2 ++ wK (ad 4))) ⟨C0, hK, hP, hD, hS, hA⟩ hZ 0 rfl (ci := 0) rfl rfl ((m_act_20 l hl0 G ad kd k1 k2 r r1 r2 ho rn ln dr ro lt rf th sb hr hp hk x1 x2 x3 sp w)) (vy_cwVW 6 hts (lw_VW q269 q271 qs0 q86 q272) rfl rfl rfl (by decide +kernel) ⟨Nat.le_of_ble_eq_true rfl, Nat.le_of_ble_eq_true rfl⟩) [0, 1, 2, 3, 4, 5, 6, 7, 8, 9, 10, 11, 12, 13, 14, 15, 16, 17, 18, 19, 20, 21, 22, 23, 24, 25, 26, 27, 28, 29, 30] [1, 3, 5, 7, 9, 11, 13, 15, 17, 19, 21, 23, 25, 27, 29, 31, 33, 35, 37, 39, 41, 43, 45, 47, 49, 51, 53, 55, 57, 59, 61] rfl (fun _ => rfl) rfl rfl hl.1 rfl (Nat.le_of_ble_eq_true rfl) dX0_order_10 ⟨(Nat.le_of_ble_eq_true rfl), (Nat.le_of_ble_eq_true rfl)⟩ (fun r_1 u_1 H locs hw_1 hP hD hS => ?_)
  have hP : va_P G.1 vwCl (wX G ad ho rn ln dr ro lt (sel (eS (tB r x1) (-1) (eS (tB r x2) (-1) (eS (tB r x3) (-1) (eS (decide (x1 ≠ x2 ∧ x1 ≠ x3 ∧ x2 ≠ x3)) (-1) (eW (wBy sp.toInt 0 9) (eS (inR w 0 1) (-2) 0)))))) rf (rfU rf (eS (tB r x1) (-1) (eS (tB r x2) (-1) (eS (tB r x3) (-1) (eS (decide (x1 ≠ x2 ∧ x1 ≠ x3 ∧ x2 ≠ x3)) (-1) (eW (wBy sp.toInt 0 9) (eS (inR w 0 1) (-2) 0)))))))) (sel (eS (tB r x1) (-1) (eS (tB r x2) (-1) (eS (tB r x3) (-1) (eS (decide (x1 ≠ x2 ∧ x1 ≠ x3 ∧ x2 ≠ x3)) (-1) (eW (wBy sp.toInt 0 9) (eS (inR w 0 1) (-2) 0)))))) (upd (upd (upd th 0 x1) 1 x2) 2 x3) th) sb ++ wR G (ad 1) kd r ++ wR G (ad 2) u_1.1 u_1.2 ++ wR G (ad 3) k2 r2 ++ wK (ad 4)) H := hP
  have hD : va_D A (wX G ad ho rn ln dr ro lt (sel (eS (tB r x1) (-1) (eS (tB r x2) (-1) (eS (tB r x3) (-1) (eS (decide (x1 ≠ x2 ∧ x1 ≠ x3 ∧ x2 ≠ x3)) (-1) (eW (wBy sp.toInt 0 9) (eS (inR w 0 1) (-2) 0)))))) rf (rfU rf (eS (tB r x1) (-1) (eS (tB r x2) (-1) (eS (tB r x3) (-1) (eS (decide (x1 ≠ x2 ∧ x1 ≠ x3 ∧ x2 ≠ x3)) (-1) (eW (wBy sp.toInt 0 9) (eS (inR w 0 1) (-2) 0)))))))) (sel (eS (tB r x1) (-1) (eS (tB r x2) (-1) (eS (tB r x3) (-1) (eS (decide (x1 ≠ x2 ∧ x1 ≠ x3 ∧ x2 ≠ x3)) (-1) (eW (wBy sp.toInt 0 9) (eS (inR w 0 1) (-2) 0)))))) (upd (upd (upd th 0 x1) 1 x2) 2 x3) th) sb ++ wR G (ad 1) kd r ++ wR G (ad 2) u_1.1 u_1.2 ++ wR G (ad 3) k2 r2 ++ wK (ad 4)) := hD
  refine W.widen (k := 7) (n := 49) (Nat.le_of_ble_eq_true rfl) (Nat.le_of_ble_eq_true rfl) ?_
  refine hret _ _ _ _ _ _ r_1 u_1 dX0_order_13 ?_ hP hD hS (Nat.le_of_ble_eq_true rfl) (Nat.le_of_ble_eq_true rfl)
  exact hw_1
set_option maxHeartbeats 4000000 in
set_option maxRecDepth 100000 in
theorem m_floorFalls (l : Launch) (hl0 : l.stackTraces = false) (G : xG) (ad : Nat → Nat → Nat) (kd k1 k2 : Nat → Option Nat) (r r1 r2 : Rw) (ho rn ln dr : Int32) (ro lt rf th sb : Nat → Int32) (hr : Ok r) (hp : r 5 3 = 0) (hk : kOk (ad 4) kd r) (sp : Int32) : zCi l G yX0_floorFalls (ws_ yX0_floorFalls cX0_floorFalls 2 (some .int)) ({ frames := 13, cells := 2, slots := 14, locals := 248 } : Room) [.ref (ad 0 0), .int sp] (wX G ad ho rn ln dr ro lt rf th sb ++ wR G (ad 1) kd r ++ wR G (ad 2) k1 r1 ++ wR G (ad 3) k2 r2 ++ wK (ad 4)) (S := ((Nat → Option Nat) × Rw)) (fun v _ => v = sel (eW (wBy sp.toInt 0 9) 0) (pFlo r sp) (eW (wBy sp.toInt 0 9) 0)) (fun u => (wX G ad ho rn ln dr ro lt (sel (eW (wBy sp.toInt 0 9) 0) rf (rfU rf (eW (wBy sp.toInt 0 9) 0))) th sb ++ wR G (ad 1) kd r ++ wR G (ad 2) u.1 u.2 ++ wR G (ad 3) k2 r2 ++ wK (ad 4))) := by
  refine z_openi (by decide) (Nat.le_of_ble_eq_true rfl) (fun _ _ _ => rfl) ?_
  intro p e s m args below meth c A Q ls C0 hK hZ hP hD hA hl hret
  obtain ⟨hx, hb, hml, hown, hts⟩ := id C0
  have hS : va_S A s.heap s.heap [] := va_S.rf
  have hP : va_P G.1 vwCl (wX G ad ho rn ln dr ro lt rf th sb ++ wR G (ad 1) kd r ++ wR G (ad 2) k1 r1 ++ wR G (ad 3) k2 r2 ++ wK (ad 4)) s.heap := hP
  have hD : va_D A (wX G ad ho rn ln dr ro lt rf th sb ++ wR G (ad 1) kd r ++ wR G (ad 2) k1 r1 ++ wR G (ad 3) k2 r2 ++ wK (ad 4)) := hD
  have hl : lv_has ls 2 [(0, .ref (ad 0 0)), (1, .int sp)] := hl
  have hr0 := hr.n
  have hN := hr.le
  refine lv_aload_n hx hb dX0_floorFalls_0 rfl (lv_at hl 0 rfl) ?_
  refine lv_bipush (v := 21) hx hb dX0_floorFalls_1 (by decide) ?_
  refine lv_iload_n hx hb dX0_floorFalls_3 rfl (lv_at hl 1 rfl) ?_
  refine lv_iconst (v := 0) hx hb dX0_floorFalls_4 (by decide) ?_
  refine lv_iconst (v := 0) hx hb dX0_floorFalls_5 (by decide) ?_
  refine lv_iconst (v := 0) hx hb dX0_floorFalls_6 (by decide) ?_
  refine lv_iconst (v := 0) hx hb dX0_floorFalls_7 (by decide) ?_
  refine z_VWi (wN := fun u_1 => (wX G ad ho rn ln dr ro lt (sel (eW (wBy sp.toInt 0 9) 0) rf (rfU rf (eW (wBy sp.toInt 0 9) 0))) th sb ++ wR G (ad 1) kd r ++ wR G (ad 2) u_1.1 u_1.2 ++ wR G (ad 3) k2 r2 ++ wK (ad 4))) ⟨C0, hK, hP, hD, hS, hA⟩ hZ 0 rfl (ci := 0) rfl rfl ((m_act_21 l hl0 G ad kd k1 k2 r r1 r2 ho rn ln dr ro lt rf th sb hr hp hk sp 0 0 0 0)) (vy_cwVW 6 hts (lw_VW q269 q271 qs0 q86 q272) rfl rfl rfl (by decide +kernel) ⟨Nat.le_of_ble_eq_true rfl, Nat.le_of_ble_eq_true rfl⟩) [0, 1, 2, 3, 4, 5, 6, 7, 8, 9, 10, 11, 12, 13, 14, 15, 16, 17, 18, 19, 20, 21, 22, 23, 24, 25, 26, 27, 28, 29, 30] [1, 3, 5, 7, 9, 11, 13, 15, 17, 19, 21, 23, 25, 27, 29, 31, 33, 35, 37, 39, 41, 43, 45, 47, 49, 51, 53, 55, 57, 59, 61] rfl (fun _ => rfl) rfl rfl hl.1 rfl (Nat.le_of_ble_eq_true rfl) dX0_floorFalls_8 ⟨(Nat.le_of_ble_eq_true rfl), (Nat.le_of_ble_eq_true rfl)⟩ (fun r_1 u_1 H locs hw_1 hP hD hS => ?_)
  have hP : va_P G.1 vwCl (wX G ad ho rn ln dr ro lt (sel (eW (wBy sp.toInt 0 9) 0) rf (rfU rf (eW (wBy sp.toInt 0 9) 0))) th sb ++ wR G (ad 1) kd r ++ wR G (ad 2) u_1.1 u_1.2 ++ wR G (ad 3) k2 r2 ++ wK (ad 4)) H := hP
  have hD : va_D A (wX G ad ho rn ln dr ro lt (sel (eW (wBy sp.toInt 0 9) 0) rf (rfU rf (eW (wBy sp.toInt 0 9) 0))) th sb ++ wR G (ad 1) kd r ++ wR G (ad 2) u_1.1 u_1.2 ++ wR G (ad 3) k2 r2 ++ wK (ad 4)) := hD
  refine W.widen (k := 2) (n := 14) (Nat.le_of_ble_eq_true rfl) (Nat.le_of_ble_eq_true rfl) ?_
  refine hret _ _ _ _ _ _ r_1 u_1 dX0_floorFalls_11 ?_ hP hD hS (Nat.le_of_ble_eq_true rfl) (Nat.le_of_ble_eq_true rfl)
  exact hw_1
set_option maxHeartbeats 4000000 in
set_option maxRecDepth 100000 in
theorem m_watched (l : Launch) (hl0 : l.stackTraces = false) (G : xG) (ad : Nat → Nat → Nat) (kd k1 k2 : Nat → Option Nat) (r r1 r2 : Rw) (ho rn ln dr : Int32) (ro lt rf th sb : Nat → Int32) (hr : Ok r) (hp : r 5 3 = 0) (hk : kOk (ad 4) kd r) (w : Int32) : zCi l G yX0_watched (ws_ yX0_watched cX0_watched 2 (some .int)) ({ frames := 12, cells := 1, slots := 7, locals := 223 } : Room) [.ref (ad 0 0), .int w] (wX G ad ho rn ln dr ro lt rf th sb ++ wR G (ad 1) kd r ++ wR G (ad 2) k1 r1 ++ wR G (ad 3) k2 r2 ++ wK (ad 4)) (S := Unit) (fun v _ => v = sel (eS (inR w 0 1) (-2) 0) (pWat r w) (eS (inR w 0 1) (-2) 0)) (fun _ => (wX G ad ho rn ln dr ro lt (sel (eS (inR w 0 1) (-2) 0) rf (rfU rf (eS (inR w 0 1) (-2) 0))) th sb ++ wR G (ad 1) kd r ++ wR G (ad 2) k1 r1 ++ wR G (ad 3) k2 r2 ++ wK (ad 4))) := by
  refine z_openi (by decide) (Nat.le_of_ble_eq_true rfl) (fun _ _ _ => rfl) ?_
  intro p e s m args below meth c A Q ls C0 hK hZ hP hD hA hl hret
  obtain ⟨hx, hb, hml, hown, hts⟩ := id C0
  have hS : va_S A s.heap s.heap [] := va_S.rf
  have hP : va_P G.1 vwCl (wX G ad ho rn ln dr ro lt rf th sb ++ wR G (ad 1) kd r ++ wR G (ad 2) k1 r1 ++ wR G (ad 3) k2 r2 ++ wK (ad 4)) s.heap := hP
  have hD : va_D A (wX G ad ho rn ln dr ro lt rf th sb ++ wR G (ad 1) kd r ++ wR G (ad 2) k1 r1 ++ wR G (ad 3) k2 r2 ++ wK (ad 4)) := hD
  have hl : lv_has ls 2 [(0, .ref (ad 0 0)), (1, .int w)] := hl
  have hr0 := hr.n
  have hN := hr.le
  refine lv_aload_n hx hb dX0_watched_0 rfl (lv_at hl 0 rfl) ?_
  refine lv_bipush (v := 22) hx hb dX0_watched_1 (by decide) ?_
  refine lv_iload_n hx hb dX0_watched_3 rfl (lv_at hl 1 rfl) ?_
  refine lv_iconst (v := 0) hx hb dX0_watched_4 (by decide) ?_
  refine lv_iconst (v := 0) hx hb dX0_watched_5 (by decide) ?_
  refine lv_iconst (v := 0) hx hb dX0_watched_6 (by decide) ?_
  refine lv_iconst (v := 0) hx hb dX0_watched_7 (by decide) ?_
  refine z_VWi (wN := fun u_1 => (wX G ad ho rn ln dr ro lt (sel (eS (inR w 0 1) (-2) 0) rf (rfU rf (eS (inR w 0 1) (-2) 0))) th sb ++ wR G (ad 1) kd r ++ wR G (ad 2) k1 r1 ++ wR G (ad 3) k2 r2 ++ wK (ad 4))) ⟨C0, hK, hP, hD, hS, hA⟩ hZ 0 rfl (ci := 0) rfl rfl ((m_act_22 l hl0 G ad kd k1 k2 r r1 r2 ho rn ln dr ro lt rf th sb hr hp hk w 0 0 0 0)) (vy_cwVW 6 hts (lw_VW q269 q271 qs0 q86 q272) rfl rfl rfl (by decide +kernel) ⟨Nat.le_of_ble_eq_true rfl, Nat.le_of_ble_eq_true rfl⟩) [0, 1, 2, 3, 4, 5, 6, 7, 8, 9, 10, 11, 12, 13, 14, 15, 16, 17, 18, 19, 20, 21, 22, 23, 24, 25, 26, 27, 28, 29, 30] [1, 3, 5, 7, 9, 11, 13, 15, 17, 19, 21, 23, 25, 27, 29, 31, 33, 35, 37, 39, 41, 43, 45, 47, 49, 51, 53, 55, 57, 59, 61] rfl (fun _ => rfl) rfl rfl hl.1 rfl (Nat.le_of_ble_eq_true rfl) dX0_watched_8 ⟨(Nat.le_of_ble_eq_true rfl), (Nat.le_of_ble_eq_true rfl)⟩ (fun r_1 u_1 H locs hw_1 hP hD hS => ?_)
  have hP : va_P G.1 vwCl (wX G ad ho rn ln dr ro lt (sel (eS (inR w 0 1) (-2) 0) rf (rfU rf (eS (inR w 0 1) (-2) 0))) th sb ++ wR G (ad 1) kd r ++ wR G (ad 2) k1 r1 ++ wR G (ad 3) k2 r2 ++ wK (ad 4)) H := hP
  have hD : va_D A (wX G ad ho rn ln dr ro lt (sel (eS (inR w 0 1) (-2) 0) rf (rfU rf (eS (inR w 0 1) (-2) 0))) th sb ++ wR G (ad 1) kd r ++ wR G (ad 2) k1 r1 ++ wR G (ad 3) k2 r2 ++ wK (ad 4)) := hD
  refine W.widen (k := 1) (n := 7) (Nat.le_of_ble_eq_true rfl) (Nat.le_of_ble_eq_true rfl) ?_
  refine hret _ _ _ _ _ _ r_1 () dX0_watched_11 ?_ hP hD hS (Nat.le_of_ble_eq_true rfl) (Nat.le_of_ble_eq_true rfl)
  exact hw_1
set_option maxHeartbeats 4000000 in
set_option maxRecDepth 100000 in
theorem m_rebuild (l : Launch) (hl0 : l.stackTraces = false) (G : xG) (ad : Nat → Nat → Nat) (kd k1 k2 : Nat → Option Nat) (r r1 r2 : Rw) (ho rn ln dr : Int32) (ro lt rf th sb : Nat → Int32) (hr : Ok r) (hp : r 5 3 = 0) (hk : kOk (ad 4) kd r) (t : Int32) : zCi l G yX0_rebuild (ws_ yX0_rebuild cX0_rebuild 2 (some .int)) ({ frames := 11, cells := 1, slots := 7, locals := 202 } : Room) [.ref (ad 0 0), .int t] (wX G ad ho rn ln dr ro lt rf th sb ++ wR G (ad 1) kd r ++ wR G (ad 2) k1 r1 ++ wR G (ad 3) k2 r2 ++ wK (ad 4)) (S := ((Nat → Option Nat) × Rw)) (fun v _ => v = sel (eS (inR t 0 1) (-2) 0) (pReb r t) (eS (inR t 0 1) (-2) 0)) (fun u => (wX G ad ho rn ln dr ro lt (sel (eS (inR t 0 1) (-2) 0) rf (rfU rf (eS (inR t 0 1) (-2) 0))) th sb ++ wR G (ad 1) kd r ++ wR G (ad 2) u.1 u.2 ++ wR G (ad 3) k2 r2 ++ wK (ad 4))) := by
  refine z_openi (by decide) (Nat.le_of_ble_eq_true rfl) (fun _ _ _ => rfl) ?_
  intro p e s m args below meth c A Q ls C0 hK hZ hP hD hA hl hret
  obtain ⟨hx, hb, hml, hown, hts⟩ := id C0
  have hS : va_S A s.heap s.heap [] := va_S.rf
  have hP : va_P G.1 vwCl (wX G ad ho rn ln dr ro lt rf th sb ++ wR G (ad 1) kd r ++ wR G (ad 2) k1 r1 ++ wR G (ad 3) k2 r2 ++ wK (ad 4)) s.heap := hP
  have hD : va_D A (wX G ad ho rn ln dr ro lt rf th sb ++ wR G (ad 1) kd r ++ wR G (ad 2) k1 r1 ++ wR G (ad 3) k2 r2 ++ wK (ad 4)) := hD
  have hl : lv_has ls 2 [(0, .ref (ad 0 0)), (1, .int t)] := hl
  have hr0 := hr.n
  have hN := hr.le
  refine lv_aload_n hx hb dX0_rebuild_0 rfl (lv_at hl 0 rfl) ?_
  refine lv_bipush (v := 23) hx hb dX0_rebuild_1 (by decide) ?_
  refine lv_iload_n hx hb dX0_rebuild_3 rfl (lv_at hl 1 rfl) ?_
  refine lv_iconst (v := 0) hx hb dX0_rebuild_4 (by decide) ?_
  refine lv_iconst (v := 0) hx hb dX0_rebuild_5 (by decide) ?_
  refine lv_iconst (v := 0) hx hb dX0_rebuild_6 (by decide) ?_
  refine lv_iconst (v := 0) hx hb dX0_rebuild_7 (by decide) ?_
  refine z_VWi (wN := fun u_1 => (wX G ad ho rn ln dr ro lt (sel (eS (inR t 0 1) (-2) 0) rf (rfU rf (eS (inR t 0 1) (-2) 0))) th sb ++ wR G (ad 1) kd r ++ wR G (ad 2) u_1.1 u_1.2 ++ wR G (ad 3) k2 r2 ++ wK (ad 4))) ⟨C0, hK, hP, hD, hS, hA⟩ hZ 0 rfl (ci := 0) rfl rfl ((m_act_23 l hl0 G ad kd k1 k2 r r1 r2 ho rn ln dr ro lt rf th sb hr hp hk t 0 0 0 0)) (vy_cwVW 6 hts (lw_VW q269 q271 qs0 q86 q272) rfl rfl rfl (by decide +kernel) ⟨Nat.le_of_ble_eq_true rfl, Nat.le_of_ble_eq_true rfl⟩) [0, 1, 2, 3, 4, 5, 6, 7, 8, 9, 10, 11, 12, 13, 14, 15, 16, 17, 18, 19, 20, 21, 22, 23, 24, 25, 26, 27, 28, 29, 30] [1, 3, 5, 7, 9, 11, 13, 15, 17, 19, 21, 23, 25, 27, 29, 31, 33, 35, 37, 39, 41, 43, 45, 47, 49, 51, 53, 55, 57, 59, 61] rfl (fun _ => rfl) rfl rfl hl.1 rfl (Nat.le_of_ble_eq_true rfl) dX0_rebuild_8 ⟨(Nat.le_of_ble_eq_true rfl), (Nat.le_of_ble_eq_true rfl)⟩ (fun r_1 u_1 H locs hw_1 hP hD hS => ?_)
  have hP : va_P G.1 vwCl (wX G ad ho rn ln dr ro lt (sel (eS (inR t 0 1) (-2) 0) rf (rfU rf (eS (inR t 0 1) (-2) 0))) th sb ++ wR G (ad 1) kd r ++ wR G (ad 2) u_1.1 u_1.2 ++ wR G (ad 3) k2 r2 ++ wK (ad 4)) H := hP
  have hD : va_D A (wX G ad ho rn ln dr ro lt (sel (eS (inR t 0 1) (-2) 0) rf (rfU rf (eS (inR t 0 1) (-2) 0))) th sb ++ wR G (ad 1) kd r ++ wR G (ad 2) u_1.1 u_1.2 ++ wR G (ad 3) k2 r2 ++ wK (ad 4)) := hD
  refine W.widen (k := 1) (n := 7) (Nat.le_of_ble_eq_true rfl) (Nat.le_of_ble_eq_true rfl) ?_
  refine hret _ _ _ _ _ _ r_1 u_1 dX0_rebuild_11 ?_ hP hD hS (Nat.le_of_ble_eq_true rfl) (Nat.le_of_ble_eq_true rfl)
  exact hw_1
set_option maxHeartbeats 4000000 in
set_option maxRecDepth 100000 in
theorem m_two (l : Launch) (hl0 : l.stackTraces = false) (G : xG) (ad : Nat → Nat → Nat) (kd k1 k2 : Nat → Option Nat) (r r1 r2 : Rw) (ho rn ln dr : Int32) (ro lt rf th sb : Nat → Int32) (hr : Ok r) (hp : r 5 3 = 0) (hk : kOk (ad 4) kd r) (t t2 mi : Int32) : zCi l G yX0_two (ws_ yX0_two cX0_two 4 (some .int)) ({ frames := 13, cells := 5, slots := 35, locals := 250 } : Room) [.ref (ad 0 0), .int t, .int t2, .int mi] (wX G ad ho rn ln dr ro lt rf th sb ++ wR G (ad 1) kd r ++ wR G (ad 2) k1 r1 ++ wR G (ad 3) k2 r2 ++ wK (ad 4)) (S := (((Nat → Option Nat) × Rw) × (Nat → Int32))) (fun v _ => v = sel (eS (tB r t) (-1) (eS (tB r t2) (-1) (eS (decide (t ≠ t2)) (-1) (eW (wBy mi.toInt 0 99) 0)))) (pTwo r (ix t) (ix t2) (ix mi)) (eS (tB r t) (-1) (eS (tB r t2) (-1) (eS (decide (t ≠ t2)) (-1) (eW (wBy mi.toInt 0 99) 0))))) (fun u => (wX G ad ho rn ln dr ro lt (sel (eS (tB r t) (-1) (eS (tB r t2) (-1) (eS (decide (t ≠ t2)) (-1) (eW (wBy mi.toInt 0 99) 0)))) rf (rfU rf (eS (tB r t) (-1) (eS (tB r t2) (-1) (eS (decide (t ≠ t2)) (-1) (eW (wBy mi.toInt 0 99) 0)))))) th u.2 ++ wR G (ad 1) kd r ++ wR G (ad 2) u.1.1 u.1.2 ++ wR G (ad 3) k2 r2 ++ wK (ad 4))) := by
  refine z_openi (by decide) (Nat.le_of_ble_eq_true rfl) (fun _ _ _ => rfl) ?_
  intro p e s m args below meth c A Q ls C0 hK hZ hP hD hA hl hret
  obtain ⟨hx, hb, hml, hown, hts⟩ := id C0
  have hS : va_S A s.heap s.heap [] := va_S.rf
  have hP : va_P G.1 vwCl (wX G ad ho rn ln dr ro lt rf th sb ++ wR G (ad 1) kd r ++ wR G (ad 2) k1 r1 ++ wR G (ad 3) k2 r2 ++ wK (ad 4)) s.heap := hP
  have hD : va_D A (wX G ad ho rn ln dr ro lt rf th sb ++ wR G (ad 1) kd r ++ wR G (ad 2) k1 r1 ++ wR G (ad 3) k2 r2 ++ wK (ad 4)) := hD
  have hl : lv_has ls 4 [(0, .ref (ad 0 0)), (1, .int t), (2, .int t2), (3, .int mi)] := hl
  have hr0 := hr.n
  have hN := hr.le
  refine lv_aload_n hx hb dX0_two_0 rfl (lv_at hl 0 rfl) ?_
  refine lv_bipush (v := 24) hx hb dX0_two_1 (by decide) ?_
  refine lv_iload_n hx hb dX0_two_3 rfl (lv_at hl 1 rfl) ?_
  refine lv_iload_n hx hb dX0_two_4 rfl (lv_at hl 2 rfl) ?_
  refine lv_iload_n hx hb dX0_two_5 rfl (lv_at hl 3 rfl) ?_
  refine lv_iconst (v := 0) hx hb dX0_two_6 (by decide) ?_
  refine lv_iconst (v := 0) hx hb dX0_two_7 (by decide) ?_
  refine z_VWi (wN := fun u_1 => (wX G ad ho rn ln dr ro lt (sel (eS (tB r t) (-1) (eS (tB r t2) (-1) (eS (decide (t ≠ t2)) (-1) (eW (wBy mi.toInt 0 99) 0)))) rf (rfU rf (eS (tB r t) (-1) (eS (tB r t2) (-1) (eS (decide (t ≠ t2)) (-1) (eW (wBy mi.toInt 0 99) 0)))))) th u_1.2 ++ wR G (ad 1) kd r ++ wR G (ad 2) u_1.1.1 u_1.1.2 ++ wR G (ad 3) k2 r2 ++ wK (ad 4))) ⟨C0, hK, hP, hD, hS, hA⟩ hZ 0 rfl (ci := 0) rfl rfl ((m_act_24 l hl0 G ad kd k1 k2 r r1 r2 ho rn ln dr ro lt rf th sb hr hp hk t t2 mi 0 0)) (vy_cwVW 6 hts (lw_VW q269 q271 qs0 q86 q272) rfl rfl rfl (by decide +kernel) ⟨Nat.le_of_ble_eq_true rfl, Nat.le_of_ble_eq_true rfl⟩) [0, 1, 2, 3, 4, 5, 6, 7, 8, 9, 10, 11, 12, 13, 14, 15, 16, 17, 18, 19, 20, 21, 22, 23, 24, 25, 26, 27, 28, 29, 30] [1, 3, 5, 7, 9, 11, 13, 15, 17, 19, 21, 23, 25, 27, 29, 31, 33, 35, 37, 39, 41, 43, 45, 47, 49, 51, 53, 55, 57, 59, 61] rfl (fun _ => rfl) rfl rfl hl.1 rfl (Nat.le_of_ble_eq_true rfl) dX0_two_8 ⟨(Nat.le_of_ble_eq_true rfl), (Nat.le_of_ble_eq_true rfl)⟩ (fun r_1 u_1 H locs hw_1 hP hD hS => ?_)
  have hP : va_P G.1 vwCl (wX G ad ho rn ln dr ro lt (sel (eS (tB r t) (-1) (eS (tB r t2) (-1) (eS (decide (t ≠ t2)) (-1) (eW (wBy mi.toInt 0 99) 0)))) rf (rfU rf (eS (tB r t) (-1) (eS (tB r t2) (-1) (eS (decide (t ≠ t2)) (-1) (eW (wBy mi.toInt 0 99) 0)))))) th u_1.2 ++ wR G (ad 1) kd r ++ wR G (ad 2) u_1.1.1 u_1.1.2 ++ wR G (ad 3) k2 r2 ++ wK (ad 4)) H := hP
  have hD : va_D A (wX G ad ho rn ln dr ro lt (sel (eS (tB r t) (-1) (eS (tB r t2) (-1) (eS (decide (t ≠ t2)) (-1) (eW (wBy mi.toInt 0 99) 0)))) rf (rfU rf (eS (tB r t) (-1) (eS (tB r t2) (-1) (eS (decide (t ≠ t2)) (-1) (eW (wBy mi.toInt 0 99) 0)))))) th u_1.2 ++ wR G (ad 1) kd r ++ wR G (ad 2) u_1.1.1 u_1.1.2 ++ wR G (ad 3) k2 r2 ++ wK (ad 4)) := hD
  refine W.widen (k := 5) (n := 35) (Nat.le_of_ble_eq_true rfl) (Nat.le_of_ble_eq_true rfl) ?_
  refine hret _ _ _ _ _ _ r_1 u_1 dX0_two_11 ?_ hP hD hS (Nat.le_of_ble_eq_true rfl) (Nat.le_of_ble_eq_true rfl)
  exact hw_1
set_option maxHeartbeats 4000000 in
set_option maxRecDepth 100000 in
theorem m_whatWas (l : Launch) (hl0 : l.stackTraces = false) (G : xG) (ad : Nat → Nat → Nat) (kd k1 k2 : Nat → Option Nat) (r r1 r2 : Rw) (ho rn ln dr : Int32) (ro lt rf th sb : Nat → Int32) (hr : Ok r) (hp : r 5 3 = 0) (hk : kOk (ad 4) kd r) (t w : Int32) : zCi l G yX0_whatWas (ws_ yX0_whatWas cX0_whatWas 3 (some .int)) ({ frames := 14, cells := 13, slots := 121, locals := 271 } : Room) [.ref (ad 0 0), .int t, .int w] (wX G ad ho rn ln dr ro lt rf th sb ++ wR G (ad 1) kd r ++ wR G (ad 2) k1 r1 ++ wR G (ad 3) k2 r2 ++ wK (ad 4)) (S := ((Nat → Option Nat) × Rw)) (fun v _ => v = sel (eS (tB r t) (-1) (eS (inR w 0 1) (-2) (eS (decide (rn = nI (mny r))) (-3) 0))) (pFits r ro (ix t) w) (eS (tB r t) (-1) (eS (inR w 0 1) (-2) (eS (decide (rn = nI (mny r))) (-3) 0)))) (fun u => (wX G ad ho rn ln dr ro lt (sel (eS (tB r t) (-1) (eS (inR w 0 1) (-2) (eS (decide (rn = nI (mny r))) (-3) 0))) rf (rfU rf (eS (tB r t) (-1) (eS (inR w 0 1) (-2) (eS (decide (rn = nI (mny r))) (-3) 0))))) th sb ++ wR G (ad 1) kd r ++ wR G (ad 2) u.1 u.2 ++ wR G (ad 3) k2 r2 ++ wK (ad 4))) := by
  refine z_openi (by decide) (Nat.le_of_ble_eq_true rfl) (fun _ _ _ => rfl) ?_
  intro p e s m args below meth c A Q ls C0 hK hZ hP hD hA hl hret
  obtain ⟨hx, hb, hml, hown, hts⟩ := id C0
  have hS : va_S A s.heap s.heap [] := va_S.rf
  have hP : va_P G.1 vwCl (wX G ad ho rn ln dr ro lt rf th sb ++ wR G (ad 1) kd r ++ wR G (ad 2) k1 r1 ++ wR G (ad 3) k2 r2 ++ wK (ad 4)) s.heap := hP
  have hD : va_D A (wX G ad ho rn ln dr ro lt rf th sb ++ wR G (ad 1) kd r ++ wR G (ad 2) k1 r1 ++ wR G (ad 3) k2 r2 ++ wK (ad 4)) := hD
  have hl : lv_has ls 3 [(0, .ref (ad 0 0)), (1, .int t), (2, .int w)] := hl
  have hr0 := hr.n
  have hN := hr.le
  refine lv_aload_n hx hb dX0_whatWas_0 rfl (lv_at hl 0 rfl) ?_
  refine lv_bipush (v := 25) hx hb dX0_whatWas_1 (by decide) ?_
  refine lv_iload_n hx hb dX0_whatWas_3 rfl (lv_at hl 1 rfl) ?_
  refine lv_iload_n hx hb dX0_whatWas_4 rfl (lv_at hl 2 rfl) ?_
  refine lv_iconst (v := 0) hx hb dX0_whatWas_5 (by decide) ?_
  refine lv_iconst (v := 0) hx hb dX0_whatWas_6 (by decide) ?_
  refine lv_iconst (v := 0) hx hb dX0_whatWas_7 (by decide) ?_
  refine z_VWi (wN := fun u_1 => (wX G ad ho rn ln dr ro lt (sel (eS (tB r t) (-1) (eS (inR w 0 1) (-2) (eS (decide (rn = nI (mny r))) (-3) 0))) rf (rfU rf (eS (tB r t) (-1) (eS (inR w 0 1) (-2) (eS (decide (rn = nI (mny r))) (-3) 0))))) th sb ++ wR G (ad 1) kd r ++ wR G (ad 2) u_1.1 u_1.2 ++ wR G (ad 3) k2 r2 ++ wK (ad 4))) ⟨C0, hK, hP, hD, hS, hA⟩ hZ 0 rfl (ci := 0) rfl rfl ((m_act_25 l hl0 G ad kd k1 k2 r r1 r2 ho rn ln dr ro lt rf th sb hr hp hk t w 0 0 0)) (vy_cwVW 6 hts (lw_VW q269 q271 qs0 q86 q272) rfl rfl rfl (by decide +kernel) ⟨Nat.le_of_ble_eq_true rfl, Nat.le_of_ble_eq_true rfl⟩) [0, 1, 2, 3, 4, 5, 6, 7, 8, 9, 10, 11, 12, 13, 14, 15, 16, 17, 18, 19, 20, 21, 22, 23, 24, 25, 26, 27, 28, 29, 30] [1, 3, 5, 7, 9, 11, 13, 15, 17, 19, 21, 23, 25, 27, 29, 31, 33, 35, 37, 39, 41, 43, 45, 47, 49, 51, 53, 55, 57, 59, 61] rfl (fun _ => rfl) rfl rfl hl.1 rfl (Nat.le_of_ble_eq_true rfl) dX0_whatWas_8 ⟨(Nat.le_of_ble_eq_true rfl), (Nat.le_of_ble_eq_true rfl)⟩ (fun r_1 u_1 H locs hw_1 hP hD hS => ?_)
  have hP : va_P G.1 vwCl (wX G ad ho rn ln dr ro lt (sel (eS (tB r t) (-1) (eS (inR w 0 1) (-2) (eS (decide (rn = nI (mny r))) (-3) 0))) rf (rfU rf (eS (tB r t) (-1) (eS (inR w 0 1) (-2) (eS (decide (rn = nI (mny r))) (-3) 0))))) th sb ++ wR G (ad 1) kd r ++ wR G (ad 2) u_1.1 u_1.2 ++ wR G (ad 3) k2 r2 ++ wK (ad 4)) H := hP
  have hD : va_D A (wX G ad ho rn ln dr ro lt (sel (eS (tB r t) (-1) (eS (inR w 0 1) (-2) (eS (decide (rn = nI (mny r))) (-3) 0))) rf (rfU rf (eS (tB r t) (-1) (eS (inR w 0 1) (-2) (eS (decide (rn = nI (mny r))) (-3) 0))))) th sb ++ wR G (ad 1) kd r ++ wR G (ad 2) u_1.1 u_1.2 ++ wR G (ad 3) k2 r2 ++ wK (ad 4)) := hD
  refine W.widen (k := 13) (n := 121) (Nat.le_of_ble_eq_true rfl) (Nat.le_of_ble_eq_true rfl) ?_
  refine hret _ _ _ _ _ _ r_1 u_1 dX0_whatWas_11 ?_ hP hD hS (Nat.le_of_ble_eq_true rfl) (Nat.le_of_ble_eq_true rfl)
  exact hw_1
set_option maxHeartbeats 4000000 in
set_option maxRecDepth 100000 in
theorem m_row (l : Launch) (hl0 : l.stackTraces = false) (G : xG) (ad : Nat → Nat → Nat) (kd k1 k2 : Nat → Option Nat) (r r1 r2 : Rw) (ho rn ln dr : Int32) (ro lt rf th sb : Nat → Int32) (hr : Ok r) (hp : r 5 3 = 0) (hk : kOk (ad 4) kd r) (mi : Int32) (jn : Nat) (hjn : rn = nI jn) (hjm : jn ≤ 16) : zCi l G yX0_row (ws_ yX0_row cX0_row 2 (some .int)) ({ frames := 12, cells := 3, slots := 21, locals := 232 } : Room) [.ref (ad 0 0), .int mi] (wX G ad ho rn ln dr ro lt rf th sb ++ wR G (ad 1) kd r ++ wR G (ad 2) k1 r1 ++ wR G (ad 3) k2 r2 ++ wK (ad 4)) (S := Unit) (fun v _ => v = sel (eW (wBy mi.toInt 0 99) (eS (decide (jn < 16)) (-6) 0)) (nI (jn + 1)) (eW (wBy mi.toInt 0 99) (eS (decide (jn < 16)) (-6) 0))) (fun _ => (wX G ad ho (sel (eW (wBy mi.toInt 0 99) (eS (decide (jn < 16)) (-6) 0)) (nI (jn + 1)) rn) ln dr (sel (eW (wBy mi.toInt 0 99) (eS (decide (jn < 16)) (-6) 0)) (upd ro jn mi) ro) lt (sel (eW (wBy mi.toInt 0 99) (eS (decide (jn < 16)) (-6) 0)) rf (rfU rf (eW (wBy mi.toInt 0 99) (eS (decide (jn < 16)) (-6) 0)))) th sb ++ wR G (ad 1) kd r ++ wR G (ad 2) k1 r1 ++ wR G (ad 3) k2 r2 ++ wK (ad 4))) := by
  refine z_openi (by decide) (Nat.le_of_ble_eq_true rfl) (fun _ _ _ => rfl) ?_
  intro p e s m args below meth c A Q ls C0 hK hZ hP hD hA hl hret
  obtain ⟨hx, hb, hml, hown, hts⟩ := id C0
  have hS : va_S A s.heap s.heap [] := va_S.rf
  have hP : va_P G.1 vwCl (wX G ad ho rn ln dr ro lt rf th sb ++ wR G (ad 1) kd r ++ wR G (ad 2) k1 r1 ++ wR G (ad 3) k2 r2 ++ wK (ad 4)) s.heap := hP
  have hD : va_D A (wX G ad ho rn ln dr ro lt rf th sb ++ wR G (ad 1) kd r ++ wR G (ad 2) k1 r1 ++ wR G (ad 3) k2 r2 ++ wK (ad 4)) := hD
  have hl : lv_has ls 2 [(0, .ref (ad 0 0)), (1, .int mi)] := hl
  have hr0 := hr.n
  have hN := hr.le
  refine lv_aload_n hx hb dX0_row_0 rfl (lv_at hl 0 rfl) ?_
  refine lv_bipush (v := 26) hx hb dX0_row_1 (by decide) ?_
  refine lv_iload_n hx hb dX0_row_3 rfl (lv_at hl 1 rfl) ?_
  refine lv_iconst (v := 0) hx hb dX0_row_4 (by decide) ?_
  refine lv_iconst (v := 0) hx hb dX0_row_5 (by decide) ?_
  refine lv_iconst (v := 0) hx hb dX0_row_6 (by decide) ?_
  refine lv_iconst (v := 0) hx hb dX0_row_7 (by decide) ?_
  refine z_VWi (wN := fun u_1 => (wX G ad ho (sel (eW (wBy mi.toInt 0 99) (eS (decide (jn < 16)) (-6) 0)) (nI (jn + 1)) rn) ln dr (sel (eW (wBy mi.toInt 0 99) (eS (decide (jn < 16)) (-6) 0)) (upd ro jn mi) ro) lt (sel (eW (wBy mi.toInt 0 99) (eS (decide (jn < 16)) (-6) 0)) rf (rfU rf (eW (wBy mi.toInt 0 99) (eS (decide (jn < 16)) (-6) 0)))) th sb ++ wR G (ad 1) kd r ++ wR G (ad 2) k1 r1 ++ wR G (ad 3) k2 r2 ++ wK (ad 4))) ⟨C0, hK, hP, hD, hS, hA⟩ hZ 0 rfl (ci := 0) rfl rfl ((m_act_26 l hl0 G ad kd k1 k2 r r1 r2 ho rn ln dr ro lt rf th sb hr hp hk mi 0 0 0 0 jn hjn hjm)) (vy_cwVW 6 hts (lw_VW q269 q271 qs0 q86 q272) rfl rfl rfl (by decide +kernel) ⟨Nat.le_of_ble_eq_true rfl, Nat.le_of_ble_eq_true rfl⟩) [0, 1, 2, 3, 4, 5, 6, 7, 8, 9, 10, 11, 12, 13, 14, 15, 16, 17, 18, 19, 20, 21, 22, 23, 24, 25, 26, 27, 28, 29, 30] [1, 3, 5, 7, 9, 11, 13, 15, 17, 19, 21, 23, 25, 27, 29, 31, 33, 35, 37, 39, 41, 43, 45, 47, 49, 51, 53, 55, 57, 59, 61] rfl (fun _ => rfl) rfl rfl hl.1 rfl (Nat.le_of_ble_eq_true rfl) dX0_row_8 ⟨(Nat.le_of_ble_eq_true rfl), (Nat.le_of_ble_eq_true rfl)⟩ (fun r_1 u_1 H locs hw_1 hP hD hS => ?_)
  have hP : va_P G.1 vwCl (wX G ad ho (sel (eW (wBy mi.toInt 0 99) (eS (decide (jn < 16)) (-6) 0)) (nI (jn + 1)) rn) ln dr (sel (eW (wBy mi.toInt 0 99) (eS (decide (jn < 16)) (-6) 0)) (upd ro jn mi) ro) lt (sel (eW (wBy mi.toInt 0 99) (eS (decide (jn < 16)) (-6) 0)) rf (rfU rf (eW (wBy mi.toInt 0 99) (eS (decide (jn < 16)) (-6) 0)))) th sb ++ wR G (ad 1) kd r ++ wR G (ad 2) k1 r1 ++ wR G (ad 3) k2 r2 ++ wK (ad 4)) H := hP
  have hD : va_D A (wX G ad ho (sel (eW (wBy mi.toInt 0 99) (eS (decide (jn < 16)) (-6) 0)) (nI (jn + 1)) rn) ln dr (sel (eW (wBy mi.toInt 0 99) (eS (decide (jn < 16)) (-6) 0)) (upd ro jn mi) ro) lt (sel (eW (wBy mi.toInt 0 99) (eS (decide (jn < 16)) (-6) 0)) rf (rfU rf (eW (wBy mi.toInt 0 99) (eS (decide (jn < 16)) (-6) 0)))) th sb ++ wR G (ad 1) kd r ++ wR G (ad 2) k1 r1 ++ wR G (ad 3) k2 r2 ++ wK (ad 4)) := hD
  refine W.widen (k := 3) (n := 21) (Nat.le_of_ble_eq_true rfl) (Nat.le_of_ble_eq_true rfl) ?_
  refine hret _ _ _ _ _ _ r_1 () dX0_row_11 ?_ hP hD hS (Nat.le_of_ble_eq_true rfl) (Nat.le_of_ble_eq_true rfl)
  exact hw_1
set_option maxHeartbeats 4000000 in
set_option maxRecDepth 100000 in
theorem m_judge (l : Launch) (hl0 : l.stackTraces = false) (G : xG) (ad : Nat → Nat → Nat) (kd k1 k2 : Nat → Option Nat) (r r1 r2 : Rw) (ho rn ln dr : Int32) (ro lt rf th sb : Nat → Int32) (hr : Ok r) (hp : r 5 3 = 0) (hk : kOk (ad 4) kd r)  (jn : Nat) (hjn : rn = nI jn) (hjm : jn ≤ 16) : zCi l G yX0_judge (ws_ yX0_judge cX0_judge 1 (some .int)) ({ frames := 10, cells := 0, slots := 0, locals := 234 } : Room) [.ref (ad 0 0)] (wX G ad ho rn ln dr ro lt rf th sb ++ wR G (ad 1) kd r ++ wR G (ad 2) k1 r1 ++ wR G (ad 3) k2 r2 ++ wK (ad 4)) (S := ((Nat → Option Nat) × Rw)) (fun v _ => v = sel ((0 : Int32)) (jdN r ro jn) ((0 : Int32))) (fun u => (wX G ad ho (sel (0 : Int32) 0 rn) ln dr ro lt (sel (0 : Int32) rf (rfU rf (0 : Int32))) th sb ++ wR G (ad 1) kd r ++ wR G (ad 2) u.1 u.2 ++ wR G (ad 3) k2 r2 ++ wK (ad 4))) := by
  refine z_openi (by decide) (Nat.le_of_ble_eq_true rfl) (fun _ _ _ => rfl) ?_
  intro p e s m args below meth c A Q ls C0 hK hZ hP hD hA hl hret
  obtain ⟨hx, hb, hml, hown, hts⟩ := id C0
  have hS : va_S A s.heap s.heap [] := va_S.rf
  have hP : va_P G.1 vwCl (wX G ad ho rn ln dr ro lt rf th sb ++ wR G (ad 1) kd r ++ wR G (ad 2) k1 r1 ++ wR G (ad 3) k2 r2 ++ wK (ad 4)) s.heap := hP
  have hD : va_D A (wX G ad ho rn ln dr ro lt rf th sb ++ wR G (ad 1) kd r ++ wR G (ad 2) k1 r1 ++ wR G (ad 3) k2 r2 ++ wK (ad 4)) := hD
  have hl : lv_has ls 1 [(0, .ref (ad 0 0))] := hl
  have hr0 := hr.n
  have hN := hr.le
  refine lv_aload_n hx hb dX0_judge_0 rfl (lv_at hl 0 rfl) ?_
  refine lv_bipush (v := 27) hx hb dX0_judge_1 (by decide) ?_
  refine lv_iconst (v := 0) hx hb dX0_judge_3 (by decide) ?_
  refine lv_iconst (v := 0) hx hb dX0_judge_4 (by decide) ?_
  refine lv_iconst (v := 0) hx hb dX0_judge_5 (by decide) ?_
  refine lv_iconst (v := 0) hx hb dX0_judge_6 (by decide) ?_
  refine lv_iconst (v := 0) hx hb dX0_judge_7 (by decide) ?_
  refine z_VWi (wN := fun u_1 => (wX G ad ho (sel (0 : Int32) 0 rn) ln dr ro lt (sel (0 : Int32) rf (rfU rf (0 : Int32))) th sb ++ wR G (ad 1) kd r ++ wR G (ad 2) u_1.1 u_1.2 ++ wR G (ad 3) k2 r2 ++ wK (ad 4))) ⟨C0, hK, hP, hD, hS, hA⟩ hZ 0 rfl (ci := 0) rfl rfl ((m_act_27 l hl0 G ad kd k1 k2 r r1 r2 ho rn ln dr ro lt rf th sb hr hp hk 0 0 0 0 0 jn hjn hjm)) (vy_cwVW 6 hts (lw_VW q269 q271 qs0 q86 q272) rfl rfl rfl (by decide +kernel) ⟨Nat.le_of_ble_eq_true rfl, Nat.le_of_ble_eq_true rfl⟩) [0, 1, 2, 3, 4, 5, 6, 7, 8, 9, 10, 11, 12, 13, 14, 15, 16, 17, 18, 19, 20, 21, 22, 23, 24, 25, 26, 27, 28, 29, 30] [1, 3, 5, 7, 9, 11, 13, 15, 17, 19, 21, 23, 25, 27, 29, 31, 33, 35, 37, 39, 41, 43, 45, 47, 49, 51, 53, 55, 57, 59, 61] rfl (fun _ => rfl) rfl rfl hl.1 rfl (Nat.le_of_ble_eq_true rfl) dX0_judge_8 ⟨(Nat.le_of_ble_eq_true rfl), (Nat.le_of_ble_eq_true rfl)⟩ (fun r_1 u_1 H locs hw_1 hP hD hS => ?_)
  have hP : va_P G.1 vwCl (wX G ad ho (sel (0 : Int32) 0 rn) ln dr ro lt (sel (0 : Int32) rf (rfU rf (0 : Int32))) th sb ++ wR G (ad 1) kd r ++ wR G (ad 2) u_1.1 u_1.2 ++ wR G (ad 3) k2 r2 ++ wK (ad 4)) H := hP
  have hD : va_D A (wX G ad ho (sel (0 : Int32) 0 rn) ln dr ro lt (sel (0 : Int32) rf (rfU rf (0 : Int32))) th sb ++ wR G (ad 1) kd r ++ wR G (ad 2) u_1.1 u_1.2 ++ wR G (ad 3) k2 r2 ++ wK (ad 4)) := hD
  refine hret _ _ _ _ _ _ r_1 u_1 dX0_judge_11 ?_ hP hD hS (Nat.le_of_ble_eq_true rfl) (Nat.le_of_ble_eq_true rfl)
  exact hw_1
set_option maxHeartbeats 4000000 in
set_option maxRecDepth 100000 in
theorem m_clear (l : Launch) (hl0 : l.stackTraces = false) (G : xG) (ad : Nat → Nat → Nat) (kd k1 k2 : Nat → Option Nat) (r r1 r2 : Rw) (ho rn ln dr : Int32) (ro lt rf th sb : Nat → Int32) (hr : Ok r) (hp : r 5 3 = 0) (hk : kOk (ad 4) kd r) : zCi l G yX0_clear (ws_ yX0_clear cX0_clear 1 (some .int)) ({ frames := 3, cells := 0, slots := 0, locals := 78 } : Room) [.ref (ad 0 0)] (wX G ad ho rn ln dr ro lt rf th sb ++ wR G (ad 1) kd r ++ wR G (ad 2) k1 r1 ++ wR G (ad 3) k2 r2 ++ wK (ad 4)) (S := Unit) (fun v _ => v = sel ((0 : Int32)) (rn) ((0 : Int32))) (fun _ => (wX G ad ho (sel (0 : Int32) 0 rn) ln dr ro lt (sel (0 : Int32) rf (rfU rf (0 : Int32))) th sb ++ wR G (ad 1) kd r ++ wR G (ad 2) k1 r1 ++ wR G (ad 3) k2 r2 ++ wK (ad 4))) := by
  refine z_openi (by decide) (Nat.le_of_ble_eq_true rfl) (fun _ _ _ => rfl) ?_
  intro p e s m args below meth c A Q ls C0 hK hZ hP hD hA hl hret
  obtain ⟨hx, hb, hml, hown, hts⟩ := id C0
  have hS : va_S A s.heap s.heap [] := va_S.rf
  have hP : va_P G.1 vwCl (wX G ad ho rn ln dr ro lt rf th sb ++ wR G (ad 1) kd r ++ wR G (ad 2) k1 r1 ++ wR G (ad 3) k2 r2 ++ wK (ad 4)) s.heap := hP
  have hD : va_D A (wX G ad ho rn ln dr ro lt rf th sb ++ wR G (ad 1) kd r ++ wR G (ad 2) k1 r1 ++ wR G (ad 3) k2 r2 ++ wK (ad 4)) := hD
  have hl : lv_has ls 1 [(0, .ref (ad 0 0))] := hl
  have hr0 := hr.n
  have hN := hr.le
  refine lv_aload_n hx hb dX0_clear_0 rfl (lv_at hl 0 rfl) ?_
  refine lv_bipush (v := 28) hx hb dX0_clear_1 (by decide) ?_
  refine lv_iconst (v := 0) hx hb dX0_clear_3 (by decide) ?_
  refine lv_iconst (v := 0) hx hb dX0_clear_4 (by decide) ?_
  refine lv_iconst (v := 0) hx hb dX0_clear_5 (by decide) ?_
  refine lv_iconst (v := 0) hx hb dX0_clear_6 (by decide) ?_
  refine lv_iconst (v := 0) hx hb dX0_clear_7 (by decide) ?_
  refine z_VWi (wN := fun u_1 => (wX G ad ho (sel (0 : Int32) 0 rn) ln dr ro lt (sel (0 : Int32) rf (rfU rf (0 : Int32))) th sb ++ wR G (ad 1) kd r ++ wR G (ad 2) k1 r1 ++ wR G (ad 3) k2 r2 ++ wK (ad 4))) ⟨C0, hK, hP, hD, hS, hA⟩ hZ 0 rfl (ci := 0) rfl rfl ((m_act_28 l hl0 G ad kd k1 k2 r r1 r2 ho rn ln dr ro lt rf th sb hr hp hk 0 0 0 0 0)) (vy_cwVW 6 hts (lw_VW q269 q271 qs0 q86 q272) rfl rfl rfl (by decide +kernel) ⟨Nat.le_of_ble_eq_true rfl, Nat.le_of_ble_eq_true rfl⟩) [0, 1, 2, 3, 4, 5, 6, 7, 8, 9, 10, 11, 12, 13, 14, 15, 16, 17, 18, 19, 20, 21, 22, 23, 24, 25, 26, 27, 28, 29, 30] [1, 3, 5, 7, 9, 11, 13, 15, 17, 19, 21, 23, 25, 27, 29, 31, 33, 35, 37, 39, 41, 43, 45, 47, 49, 51, 53, 55, 57, 59, 61] rfl (fun _ => rfl) rfl rfl hl.1 rfl (Nat.le_of_ble_eq_true rfl) dX0_clear_8 ⟨(Nat.le_of_ble_eq_true rfl), (Nat.le_of_ble_eq_true rfl)⟩ (fun r_1 u_1 H locs hw_1 hP hD hS => ?_)
  have hP : va_P G.1 vwCl (wX G ad ho (sel (0 : Int32) 0 rn) ln dr ro lt (sel (0 : Int32) rf (rfU rf (0 : Int32))) th sb ++ wR G (ad 1) kd r ++ wR G (ad 2) k1 r1 ++ wR G (ad 3) k2 r2 ++ wK (ad 4)) H := hP
  have hD : va_D A (wX G ad ho (sel (0 : Int32) 0 rn) ln dr ro lt (sel (0 : Int32) rf (rfU rf (0 : Int32))) th sb ++ wR G (ad 1) kd r ++ wR G (ad 2) k1 r1 ++ wR G (ad 3) k2 r2 ++ wK (ad 4)) := hD
  refine hret _ _ _ _ _ _ r_1 () dX0_clear_11 ?_ hP hD hS (Nat.le_of_ble_eq_true rfl) (Nat.le_of_ble_eq_true rfl)
  exact hw_1
set_option maxHeartbeats 4000000 in
set_option maxRecDepth 100000 in
theorem m_lots (l : Launch) (hl0 : l.stackTraces = false) (G : xG) (ad : Nat → Nat → Nat) (kd k1 k2 : Nat → Option Nat) (r r1 r2 : Rw) (ho rn ln dr : Int32) (ro lt rf th sb : Nat → Int32) (hr : Ok r) (hp : r 5 3 = 0) (hk : kOk (ad 4) kd r) (cnt z w : Int32) : zCi l G yX0_lots (ws_ yX0_lots cX0_lots 4 (some .int)) ({ frames := 13, cells := 4, slots := 28, locals := 260 } : Room) [.ref (ad 0 0), .int cnt, .int z, .int w] (wX G ad ho rn ln dr ro lt rf th sb ++ wR G (ad 1) kd r ++ wR G (ad 2) k1 r1 ++ wR G (ad 3) k2 r2 ++ wK (ad 4)) (S := (((Nat → Option Nat) × Rw) × Int32)) (fun v _ => v = sel (eW (wBy cnt.toInt 1 20) (eS (inR w 0 1) (-2) (eS (decide (0 < nI (mny r))) (-3) 0))) ((lSum r w z (ix cnt)).2) (eW (wBy cnt.toInt 1 20) (eS (inR w 0 1) (-2) (eS (decide (0 < nI (mny r))) (-3) 0)))) (fun u => (wX G ad ho rn ln u.2 ro lt (sel (eW (wBy cnt.toInt 1 20) (eS (inR w 0 1) (-2) (eS (decide (0 < nI (mny r))) (-3) 0))) rf (rfU rf (eW (wBy cnt.toInt 1 20) (eS (inR w 0 1) (-2) (eS (decide (0 < nI (mny r))) (-3) 0))))) th sb ++ wR G (ad 1) kd r ++ wR G (ad 2) u.1.1 u.1.2 ++ wR G (ad 3) k2 r2 ++ wK (ad 4))) := by
  refine z_openi (by decide) (Nat.le_of_ble_eq_true rfl) (fun _ _ _ => rfl) ?_
  intro p e s m args below meth c A Q ls C0 hK hZ hP hD hA hl hret
  obtain ⟨hx, hb, hml, hown, hts⟩ := id C0
  have hS : va_S A s.heap s.heap [] := va_S.rf
  have hP : va_P G.1 vwCl (wX G ad ho rn ln dr ro lt rf th sb ++ wR G (ad 1) kd r ++ wR G (ad 2) k1 r1 ++ wR G (ad 3) k2 r2 ++ wK (ad 4)) s.heap := hP
  have hD : va_D A (wX G ad ho rn ln dr ro lt rf th sb ++ wR G (ad 1) kd r ++ wR G (ad 2) k1 r1 ++ wR G (ad 3) k2 r2 ++ wK (ad 4)) := hD
  have hl : lv_has ls 4 [(0, .ref (ad 0 0)), (1, .int cnt), (2, .int z), (3, .int w)] := hl
  have hr0 := hr.n
  have hN := hr.le
  refine lv_aload_n hx hb dX0_lots_0 rfl (lv_at hl 0 rfl) ?_
  refine lv_bipush (v := 29) hx hb dX0_lots_1 (by decide) ?_
  refine lv_iload_n hx hb dX0_lots_3 rfl (lv_at hl 1 rfl) ?_
  refine lv_iload_n hx hb dX0_lots_4 rfl (lv_at hl 2 rfl) ?_
  refine lv_iload_n hx hb dX0_lots_5 rfl (lv_at hl 3 rfl) ?_
  refine lv_iconst (v := 0) hx hb dX0_lots_6 (by decide) ?_
  refine lv_iconst (v := 0) hx hb dX0_lots_7 (by decide) ?_
  refine z_VWi (wN := fun u_1 => (wX G ad ho rn ln u_1.2 ro lt (sel (eW (wBy cnt.toInt 1 20) (eS (inR w 0 1) (-2) (eS (decide (0 < nI (mny r))) (-3) 0))) rf (rfU rf (eW (wBy cnt.toInt 1 20) (eS (inR w 0 1) (-2) (eS (decide (0 < nI (mny r))) (-3) 0))))) th sb ++ wR G (ad 1) kd r ++ wR G (ad 2) u_1.1.1 u_1.1.2 ++ wR G (ad 3) k2 r2 ++ wK (ad 4))) ⟨C0, hK, hP, hD, hS, hA⟩ hZ 0 rfl (ci := 0) rfl rfl ((m_act_29 l hl0 G ad kd k1 k2 r r1 r2 ho rn ln dr ro lt rf th sb hr hp hk cnt z w 0 0)) (vy_cwVW 6 hts (lw_VW q269 q271 qs0 q86 q272) rfl rfl rfl (by decide +kernel) ⟨Nat.le_of_ble_eq_true rfl, Nat.le_of_ble_eq_true rfl⟩) [0, 1, 2, 3, 4, 5, 6, 7, 8, 9, 10, 11, 12, 13, 14, 15, 16, 17, 18, 19, 20, 21, 22, 23, 24, 25, 26, 27, 28, 29, 30] [1, 3, 5, 7, 9, 11, 13, 15, 17, 19, 21, 23, 25, 27, 29, 31, 33, 35, 37, 39, 41, 43, 45, 47, 49, 51, 53, 55, 57, 59, 61] rfl (fun _ => rfl) rfl rfl hl.1 rfl (Nat.le_of_ble_eq_true rfl) dX0_lots_8 ⟨(Nat.le_of_ble_eq_true rfl), (Nat.le_of_ble_eq_true rfl)⟩ (fun r_1 u_1 H locs hw_1 hP hD hS => ?_)
  have hP : va_P G.1 vwCl (wX G ad ho rn ln u_1.2 ro lt (sel (eW (wBy cnt.toInt 1 20) (eS (inR w 0 1) (-2) (eS (decide (0 < nI (mny r))) (-3) 0))) rf (rfU rf (eW (wBy cnt.toInt 1 20) (eS (inR w 0 1) (-2) (eS (decide (0 < nI (mny r))) (-3) 0))))) th sb ++ wR G (ad 1) kd r ++ wR G (ad 2) u_1.1.1 u_1.1.2 ++ wR G (ad 3) k2 r2 ++ wK (ad 4)) H := hP
  have hD : va_D A (wX G ad ho rn ln u_1.2 ro lt (sel (eW (wBy cnt.toInt 1 20) (eS (inR w 0 1) (-2) (eS (decide (0 < nI (mny r))) (-3) 0))) rf (rfU rf (eW (wBy cnt.toInt 1 20) (eS (inR w 0 1) (-2) (eS (decide (0 < nI (mny r))) (-3) 0))))) th sb ++ wR G (ad 1) kd r ++ wR G (ad 2) u_1.1.1 u_1.1.2 ++ wR G (ad 3) k2 r2 ++ wK (ad 4)) := hD
  refine W.widen (k := 4) (n := 28) (Nat.le_of_ble_eq_true rfl) (Nat.le_of_ble_eq_true rfl) ?_
  refine hret _ _ _ _ _ _ r_1 u_1 dX0_lots_11 ?_ hP hD hS (Nat.le_of_ble_eq_true rfl) (Nat.le_of_ble_eq_true rfl)
  exact hw_1
set_option maxHeartbeats 4000000 in
set_option maxRecDepth 100000 in
theorem m_image (l : Launch) (hl0 : l.stackTraces = false) (G : xG) (ad : Nat → Nat → Nat) (kd k1 k2 : Nat → Option Nat) (r r1 r2 : Rw) (ho rn ln dr : Int32) (ro lt rf th sb : Nat → Int32) (hr : Ok r) (hp : r 5 3 = 0) (hk : kOk (ad 4) kd r) : zCi l G yX0_image (ws_ yX0_image cX0_image 1 (some .int)) ({ frames := 5, cells := 0, slots := 0, locals := 179 } : Room) [.ref (ad 0 0)] (wX G ad ho rn ln dr ro lt rf th sb ++ wR G (ad 1) kd r ++ wR G (ad 2) k1 r1 ++ wR G (ad 3) k2 r2 ++ wK (ad 4)) (S := Unit) (fun v _ => v = sel ((0 : Int32)) (r 5 1) ((0 : Int32))) (fun _ => (wX G ad (sel (0 : Int32) 1 ho) rn ln dr ro lt (sel (0 : Int32) rf (rfU rf (0 : Int32))) th sb ++ wR G (ad 1) kd r ++ wR G (ad 2) k1 r1 ++ wR G (ad 3) (sel (0 : Int32) kd k2) (sel (0 : Int32) r r2) ++ wK (ad 4))) := by
  refine z_openi (by decide) (Nat.le_of_ble_eq_true rfl) (fun _ _ _ => rfl) ?_
  intro p e s m args below meth c A Q ls C0 hK hZ hP hD hA hl hret
  obtain ⟨hx, hb, hml, hown, hts⟩ := id C0
  have hS : va_S A s.heap s.heap [] := va_S.rf
  have hP : va_P G.1 vwCl (wX G ad ho rn ln dr ro lt rf th sb ++ wR G (ad 1) kd r ++ wR G (ad 2) k1 r1 ++ wR G (ad 3) k2 r2 ++ wK (ad 4)) s.heap := hP
  have hD : va_D A (wX G ad ho rn ln dr ro lt rf th sb ++ wR G (ad 1) kd r ++ wR G (ad 2) k1 r1 ++ wR G (ad 3) k2 r2 ++ wK (ad 4)) := hD
  have hl : lv_has ls 1 [(0, .ref (ad 0 0))] := hl
  have hr0 := hr.n
  have hN := hr.le
  refine lv_aload_n hx hb dX0_image_0 rfl (lv_at hl 0 rfl) ?_
  refine lv_bipush (v := 30) hx hb dX0_image_1 (by decide) ?_
  refine lv_iconst (v := 0) hx hb dX0_image_3 (by decide) ?_
  refine lv_iconst (v := 0) hx hb dX0_image_4 (by decide) ?_
  refine lv_iconst (v := 0) hx hb dX0_image_5 (by decide) ?_
  refine lv_iconst (v := 0) hx hb dX0_image_6 (by decide) ?_
  refine lv_iconst (v := 0) hx hb dX0_image_7 (by decide) ?_
  refine z_VWi (wN := fun u_1 => (wX G ad (sel (0 : Int32) 1 ho) rn ln dr ro lt (sel (0 : Int32) rf (rfU rf (0 : Int32))) th sb ++ wR G (ad 1) kd r ++ wR G (ad 2) k1 r1 ++ wR G (ad 3) (sel (0 : Int32) kd k2) (sel (0 : Int32) r r2) ++ wK (ad 4))) ⟨C0, hK, hP, hD, hS, hA⟩ hZ 0 rfl (ci := 0) rfl rfl ((m_act_30 l hl0 G ad kd k1 k2 r r1 r2 ho rn ln dr ro lt rf th sb hr hp hk 0 0 0 0 0)) (vy_cwVW 6 hts (lw_VW q269 q271 qs0 q86 q272) rfl rfl rfl (by decide +kernel) ⟨Nat.le_of_ble_eq_true rfl, Nat.le_of_ble_eq_true rfl⟩) [0, 1, 2, 3, 4, 5, 6, 7, 8, 9, 10, 11, 12, 13, 14, 15, 16, 17, 18, 19, 20, 21, 22, 23, 24, 25, 26, 27, 28, 29, 30] [1, 3, 5, 7, 9, 11, 13, 15, 17, 19, 21, 23, 25, 27, 29, 31, 33, 35, 37, 39, 41, 43, 45, 47, 49, 51, 53, 55, 57, 59, 61] rfl (fun _ => rfl) rfl rfl hl.1 rfl (Nat.le_of_ble_eq_true rfl) dX0_image_8 ⟨(Nat.le_of_ble_eq_true rfl), (Nat.le_of_ble_eq_true rfl)⟩ (fun r_1 u_1 H locs hw_1 hP hD hS => ?_)
  have hP : va_P G.1 vwCl (wX G ad (sel (0 : Int32) 1 ho) rn ln dr ro lt (sel (0 : Int32) rf (rfU rf (0 : Int32))) th sb ++ wR G (ad 1) kd r ++ wR G (ad 2) k1 r1 ++ wR G (ad 3) (sel (0 : Int32) kd k2) (sel (0 : Int32) r r2) ++ wK (ad 4)) H := hP
  have hD : va_D A (wX G ad (sel (0 : Int32) 1 ho) rn ln dr ro lt (sel (0 : Int32) rf (rfU rf (0 : Int32))) th sb ++ wR G (ad 1) kd r ++ wR G (ad 2) k1 r1 ++ wR G (ad 3) (sel (0 : Int32) kd k2) (sel (0 : Int32) r r2) ++ wK (ad 4)) := hD
  refine hret _ _ _ _ _ _ r_1 () dX0_image_11 ?_ hP hD hS (Nat.le_of_ble_eq_true rfl) (Nat.le_of_ble_eq_true rfl)
  exact hw_1
set_option maxHeartbeats 4000000 in
set_option maxRecDepth 100000 in
theorem m_on (l : Launch) (hl0 : l.stackTraces = false) (G : xG) (ad : Nat → Nat → Nat) (kd k1 k2 : Nat → Option Nat) (r r1 r2 : Rw) (ho rn ln dr : Int32) (ro lt rf th sb : Nat → Int32) (hr : Ok r) (hp : r 5 3 = 0) (hk : kOk (ad 4) kd r)  (hB : Bool) (hho : ho = bI hB) (h2 : hB = true → Ok r2 ∧ kOk (ad 4) k2 r2 ∧ r2 5 3 = 0) : zCi l G yX0_on (ws_ yX0_on cX0_on 1 (some .int)) ({ frames := 11, cells := 1, slots := 7, locals := 207 } : Room) [.ref (ad 0 0)] (wX G ad ho rn ln dr ro lt rf th sb ++ wR G (ad 1) kd r ++ wR G (ad 2) k1 r1 ++ wR G (ad 3) k2 r2 ++ wK (ad 4)) (S := Unit) (fun v _ => v = sel (eS hB (-3) 0) (r2 5 1) (eS hB (-3) 0)) (fun _ => (wX G ad ho rn ln dr ro lt (sel (eS hB (-3) 0) rf (rfU rf (eS hB (-3) 0))) th sb ++ wR G (ad 1) (sel (eS hB (-3) 0) k2 kd) (sel (eS hB (-3) 0) r2 r) ++ wR G (ad 2) k1 r1 ++ wR G (ad 3) k2 r2 ++ wK (ad 4))) := by
  refine z_openi (by decide) (Nat.le_of_ble_eq_true rfl) (fun _ _ _ => rfl) ?_
  intro p e s m args below meth c A Q ls C0 hK hZ hP hD hA hl hret
  obtain ⟨hx, hb, hml, hown, hts⟩ := id C0
  have hS : va_S A s.heap s.heap [] := va_S.rf
  have hP : va_P G.1 vwCl (wX G ad ho rn ln dr ro lt rf th sb ++ wR G (ad 1) kd r ++ wR G (ad 2) k1 r1 ++ wR G (ad 3) k2 r2 ++ wK (ad 4)) s.heap := hP
  have hD : va_D A (wX G ad ho rn ln dr ro lt rf th sb ++ wR G (ad 1) kd r ++ wR G (ad 2) k1 r1 ++ wR G (ad 3) k2 r2 ++ wK (ad 4)) := hD
  have hl : lv_has ls 1 [(0, .ref (ad 0 0))] := hl
  have hr0 := hr.n
  have hN := hr.le
  refine lv_aload_n hx hb dX0_on_0 rfl (lv_at hl 0 rfl) ?_
  refine lv_bipush (v := 31) hx hb dX0_on_1 (by decide) ?_
  refine lv_iconst (v := 0) hx hb dX0_on_3 (by decide) ?_
  refine lv_iconst (v := 0) hx hb dX0_on_4 (by decide) ?_
  refine lv_iconst (v := 0) hx hb dX0_on_5 (by decide) ?_
  refine lv_iconst (v := 0) hx hb dX0_on_6 (by decide) ?_
  refine lv_iconst (v := 0) hx hb dX0_on_7 (by decide) ?_
  refine z_VWi (wN := fun u_1 => (wX G ad ho rn ln dr ro lt (sel (eS hB (-3) 0) rf (rfU rf (eS hB (-3) 0))) th sb ++ wR G (ad 1) (sel (eS hB (-3) 0) k2 kd) (sel (eS hB (-3) 0) r2 r) ++ wR G (ad 2) k1 r1 ++ wR G (ad 3) k2 r2 ++ wK (ad 4))) ⟨C0, hK, hP, hD, hS, hA⟩ hZ 0 rfl (ci := 0) rfl rfl ((m_act_31 l hl0 G ad kd k1 k2 r r1 r2 ho rn ln dr ro lt rf th sb hr hp hk 0 0 0 0 0 hB hho h2)) (vy_cwVW 6 hts (lw_VW q269 q271 qs0 q86 q272) rfl rfl rfl (by decide +kernel) ⟨Nat.le_of_ble_eq_true rfl, Nat.le_of_ble_eq_true rfl⟩) [0, 1, 2, 3, 4, 5, 6, 7, 8, 9, 10, 11, 12, 13, 14, 15, 16, 17, 18, 19, 20, 21, 22, 23, 24, 25, 26, 27, 28, 29, 30] [1, 3, 5, 7, 9, 11, 13, 15, 17, 19, 21, 23, 25, 27, 29, 31, 33, 35, 37, 39, 41, 43, 45, 47, 49, 51, 53, 55, 57, 59, 61] rfl (fun _ => rfl) rfl rfl hl.1 rfl (Nat.le_of_ble_eq_true rfl) dX0_on_8 ⟨(Nat.le_of_ble_eq_true rfl), (Nat.le_of_ble_eq_true rfl)⟩ (fun r_1 u_1 H locs hw_1 hP hD hS => ?_)
  have hP : va_P G.1 vwCl (wX G ad ho rn ln dr ro lt (sel (eS hB (-3) 0) rf (rfU rf (eS hB (-3) 0))) th sb ++ wR G (ad 1) (sel (eS hB (-3) 0) k2 kd) (sel (eS hB (-3) 0) r2 r) ++ wR G (ad 2) k1 r1 ++ wR G (ad 3) k2 r2 ++ wK (ad 4)) H := hP
  have hD : va_D A (wX G ad ho rn ln dr ro lt (sel (eS hB (-3) 0) rf (rfU rf (eS hB (-3) 0))) th sb ++ wR G (ad 1) (sel (eS hB (-3) 0) k2 kd) (sel (eS hB (-3) 0) r2 r) ++ wR G (ad 2) k1 r1 ++ wR G (ad 3) k2 r2 ++ wK (ad 4)) := hD
  refine W.widen (k := 1) (n := 7) (Nat.le_of_ble_eq_true rfl) (Nat.le_of_ble_eq_true rfl) ?_
  refine hret _ _ _ _ _ _ r_1 () dX0_on_11 ?_ hP hD hS (Nat.le_of_ble_eq_true rfl) (Nat.le_of_ble_eq_true rfl)
  exact hw_1
def pCnt (r : Rw) (rn ln : Int32) (rf : Nat → Int32) (w : Int32) : Int32 := if w = 0 then r 5 0 else if w = 1 then r 5 1 else if w = 2 then pSet r 0 else if w = 3 then pSet r 1 else if w = 4 then pSet r 2 else if w = 5 then r 5 2 else if w = 6 then rn else if w = 7 then ln else if inR w 11 16 = true then rf (ix (w - 10)) else -9
theorem cn_out {w : Int32} {k : Nat} (h : w.toInt < 0 ∨ (7 : Int) < w.toInt) (hk : k ≤ 7) : ¬ w = nI k := by
  intro q
  rw [q, nI_toInt (by omega)] at h
  omega
theorem cn_in {w : Int32} (h : inR w 11 16 = true) : w - 10 = nI (ix (w - 10)) ∧ ix (w - 10) < 7 := by
  have h1 := of_decide_eq_true h
  have h2 : (w - 10).toInt = w.toInt - 10 := by
    rw [Int32.toInt_sub]
    have e : (10 : Int32).toInt = 10 := by decide
    rw [e, Int.bmod_def]
    omega
  have e : w - 10 = nI (w.toInt - 10).toNat := by
    apply Int32.toInt_inj.mp
    rw [h2, nI_toInt (by omega)]
    omega
  have e2 : ix (w - 10) = (w.toInt - 10).toNat := by
    rw [e, ix_nI (by omega)]
  rw [e2]
  exact ⟨e, by omega⟩
set_option maxHeartbeats 4000000 in
set_option maxRecDepth 100000 in
theorem m_count (l : Launch) (G : xG) (ad : Nat → Nat → Nat) (kd k1 k2 : Nat → Option Nat) (r r1 r2 : Rw) (ho rn ln dr : Int32) (ro lt rf th sb : Nat → Int32) (hr : Ok r) (hp : r 5 3 = 0) (hk : kOk (ad 4) kd r) (w : Int32) : xCi l G yX0_count cX0_count 2 (some .int) ({ frames := 1, cells := 0, slots := 0, locals := 25 } : Room) [.ref (ad 0 0), .int w] (wX G ad ho rn ln dr ro lt rf th sb ++ wR G (ad 1) kd r ++ wR G (ad 2) k1 r1 ++ wR G (ad 3) k2 r2 ++ wK (ad 4)) (S := Unit) (fun v _ => v = pCnt r rn ln rf w) (fun _ => (wX G ad ho rn ln dr ro lt rf th sb ++ wR G (ad 1) kd r ++ wR G (ad 2) k1 r1 ++ wR G (ad 3) k2 r2 ++ wK (ad 4))) := by
  refine x_openi (by decide) (Nat.le_of_ble_eq_true rfl) (fun _ _ _ => rfl) ?_
  intro p e s m args below meth c A Q ls C0 hK hP hD hA hl hret
  obtain ⟨hx, hb, hml, hown, hts⟩ := id C0
  have hS : va_S A s.heap s.heap [] := va_S.rf
  have hP : va_P G.1 vwCl (wX G ad ho rn ln dr ro lt rf th sb ++ wR G (ad 1) kd r ++ wR G (ad 2) k1 r1 ++ wR G (ad 3) k2 r2 ++ wK (ad 4)) s.heap := hP
  have hD : va_D A (wX G ad ho rn ln dr ro lt rf th sb ++ wR G (ad 1) kd r ++ wR G (ad 2) k1 r1 ++ wR G (ad 3) k2 r2 ++ wK (ad 4)) := hD
  have hl : lv_has ls 2 [(0, .ref (ad 0 0)), (1, .int w)] := hl
  have hr0 := hr.n
  have hN := hr.le
  refine lv_iload_n hx hb dX0_count_0 rfl (lv_at hl 1 rfl) ?_
  rcases sw w 7 with ⟨k_1, hk_1, e_1⟩ | e_1
  · skip
    rcases (show k_1 = 0 ∨ k_1 = 1 ∨ k_1 = 2 ∨ k_1 = 3 ∨ k_1 = 4 ∨ k_1 = 5 ∨ k_1 = 6 ∨ k_1 = 7 by omega) with rfl | rfl | rfl | rfl | rfl | rfl | rfl | rfl
    · skip
      refine lv_tableIn (tgt := 48) hx hb dX0_count_1 (by rw [e_1]; decide) (by rw [e_1]; decide) (by rw [e_1]; rfl) (by decide) ?_
      refine lv_aload_n hx hb dX0_count_48 rfl (lv_at hl 0 rfl) ?_
      refine va_get (D := G.1) (ci := 0) (v := .ref ((ad 1) 0)) (C := RX0) (T := TX0) (N := 13) hx hb hts in_X0 hown hK.1 hP 0 rfl rfl 1 (by decide) (hts _ q222) (fun _ h9 => h9) rfl dX0_count_49 ?_
      refine va_getN (D := G.1) (ci := 7) (v := .int (nI (mny r))) (C := RX8) (T := TX8) (N := 9) hx hb hts in_X8 hown hK.1 hP 7 rfl rfl 0 (by decide) (va_Nw.use rfl (hK.2.F 4 rfl)) (fun _ h9 => h9) (x_some hr0) dX0_count_52 ?_
      refine hret _ _ _ _ _ _ (nI (mny r)) () dX0_count_55 ?_ hP hD hS (Nat.le_of_ble_eq_true rfl) (Nat.le_of_ble_eq_true rfl)
      rw [e_1]
      exact hr0.symm
    · skip
      refine lv_tableIn (tgt := 56) hx hb dX0_count_1 (by rw [e_1]; decide) (by rw [e_1]; decide) (by rw [e_1]; rfl) (by decide) ?_
      refine lv_aload_n hx hb dX0_count_56 rfl (lv_at hl 0 rfl) ?_
      refine va_get (D := G.1) (ci := 0) (v := .ref ((ad 1) 0)) (C := RX0) (T := TX0) (N := 13) hx hb hts in_X0 hown hK.1 hP 0 rfl rfl 1 (by decide) (hts _ q222) (fun _ h9 => h9) rfl dX0_count_57 ?_
      refine va_getN (D := G.1) (ci := 7) (v := .int (r 5 1)) (C := RX8) (T := TX8) (N := 9) hx hb hts in_X8 hown hK.1 hP 7 rfl rfl 7 (by decide) (va_Nw.use rfl (hK.2.F 15 rfl)) (fun _ h9 => h9) rfl dX0_count_60 ?_
      refine hret _ _ _ _ _ _ (r 5 1) () dX0_count_63 ?_ hP hD hS (Nat.le_of_ble_eq_true rfl) (Nat.le_of_ble_eq_true rfl)
      rw [e_1]
      rfl
    · skip
      refine lv_tableIn (tgt := 64) hx hb dX0_count_1 (by rw [e_1]; decide) (by rw [e_1]; decide) (by rw [e_1]; rfl) (by decide) ?_
      refine lv_aload_n hx hb dX0_count_64 rfl (lv_at hl 0 rfl) ?_
      refine va_get (D := G.1) (ci := 0) (v := .ref ((ad 1) 0)) (C := RX0) (T := TX0) (N := 13) hx hb hts in_X0 hown hK.1 hP 0 rfl rfl 1 (by decide) (hts _ q222) (fun _ h9 => h9) rfl dX0_count_65 ?_
      refine lv_iconst (v := 0) hx hb dX0_count_68 (by decide) ?_
      refine x_Vi (wN := fun _ => (wX G ad ho rn ln dr ro lt rf th sb ++ wR G (ad 1) kd r ++ wR G (ad 2) k1 r1 ++ wR G (ad 3) k2 r2 ++ wK (ad 4))) ⟨C0, hK, hP, hD, hS, hA⟩ 7 rfl (ci := 7) rfl rfl ((m_bits l G (ad 1) (ad 4) kd r hr hk 0)) (cwV 1 hts (lw_V q815 q643 q644 q94 q645) rfl rfl rfl (by decide +kernel) ⟨Nat.le_of_ble_eq_true rfl, Nat.le_of_ble_eq_true rfl⟩) [7, 8, 9, 10, 11, 12, 25, 26, 27, 28, 29, 30] [0, 2, 4, 6, 8, 10, 12, 1, 3, 5, 7, 9, 11, 26, 28, 30, 32, 34, 36, 38, 40, 42, 44, 46, 48, 13, 15, 17, 19, 21, 23] rfl (fun _ => rfl) rfl rfl hl.1 rfl (Nat.le_of_ble_eq_true rfl) dX0_count_69 ⟨(Nat.le_of_ble_eq_true rfl), (Nat.le_of_ble_eq_true rfl)⟩ (fun r_2 u_2 H locs hw_2 hP hD hS => ?_)
      have hw_2 : (pSet r 0 : Int32) = r_2 := hw_2.symm
      subst hw_2
      refine hret _ _ _ _ _ _ (pSet r 0) () dX0_count_72 ?_ hP hD hS (Nat.le_of_ble_eq_true rfl) (Nat.le_of_ble_eq_true rfl)
      rw [e_1]
      rfl
    · skip
      refine lv_tableIn (tgt := 73) hx hb dX0_count_1 (by rw [e_1]; decide) (by rw [e_1]; decide) (by rw [e_1]; rfl) (by decide) ?_
      refine lv_aload_n hx hb dX0_count_73 rfl (lv_at hl 0 rfl) ?_
      refine va_get (D := G.1) (ci := 0) (v := .ref ((ad 1) 0)) (C := RX0) (T := TX0) (N := 13) hx hb hts in_X0 hown hK.1 hP 0 rfl rfl 1 (by decide) (hts _ q222) (fun _ h9 => h9) rfl dX0_count_74 ?_
      refine lv_iconst (v := 1) hx hb dX0_count_77 (by decide) ?_
      refine x_Vi (wN := fun _ => (wX G ad ho rn ln dr ro lt rf th sb ++ wR G (ad 1) kd r ++ wR G (ad 2) k1 r1 ++ wR G (ad 3) k2 r2 ++ wK (ad 4))) ⟨C0, hK, hP, hD, hS, hA⟩ 7 rfl (ci := 7) rfl rfl ((m_bits l G (ad 1) (ad 4) kd r hr hk 1)) (cwV 1 hts (lw_V q815 q643 q644 q94 q645) rfl rfl rfl (by decide +kernel) ⟨Nat.le_of_ble_eq_true rfl, Nat.le_of_ble_eq_true rfl⟩) [7, 8, 9, 10, 11, 12, 25, 26, 27, 28, 29, 30] [0, 2, 4, 6, 8, 10, 12, 1, 3, 5, 7, 9, 11, 26, 28, 30, 32, 34, 36, 38, 40, 42, 44, 46, 48, 13, 15, 17, 19, 21, 23] rfl (fun _ => rfl) rfl rfl hl.1 rfl (Nat.le_of_ble_eq_true rfl) dX0_count_78 ⟨(Nat.le_of_ble_eq_true rfl), (Nat.le_of_ble_eq_true rfl)⟩ (fun r_3 u_3 H locs hw_3 hP hD hS => ?_)
      have hw_3 : (pSet r 1 : Int32) = r_3 := hw_3.symm
      subst hw_3
      refine hret _ _ _ _ _ _ (pSet r 1) () dX0_count_81 ?_ hP hD hS (Nat.le_of_ble_eq_true rfl) (Nat.le_of_ble_eq_true rfl)
      rw [e_1]
      rfl
    · skip
      refine lv_tableIn (tgt := 82) hx hb dX0_count_1 (by rw [e_1]; decide) (by rw [e_1]; decide) (by rw [e_1]; rfl) (by decide) ?_
      refine lv_aload_n hx hb dX0_count_82 rfl (lv_at hl 0 rfl) ?_
      refine va_get (D := G.1) (ci := 0) (v := .ref ((ad 1) 0)) (C := RX0) (T := TX0) (N := 13) hx hb hts in_X0 hown hK.1 hP 0 rfl rfl 1 (by decide) (hts _ q222) (fun _ h9 => h9) rfl dX0_count_83 ?_
      refine lv_iconst (v := 2) hx hb dX0_count_86 (by decide) ?_
      refine x_Vi (wN := fun _ => (wX G ad ho rn ln dr ro lt rf th sb ++ wR G (ad 1) kd r ++ wR G (ad 2) k1 r1 ++ wR G (ad 3) k2 r2 ++ wK (ad 4))) ⟨C0, hK, hP, hD, hS, hA⟩ 7 rfl (ci := 7) rfl rfl ((m_bits l G (ad 1) (ad 4) kd r hr hk 2)) (cwV 1 hts (lw_V q815 q643 q644 q94 q645) rfl rfl rfl (by decide +kernel) ⟨Nat.le_of_ble_eq_true rfl, Nat.le_of_ble_eq_true rfl⟩) [7, 8, 9, 10, 11, 12, 25, 26, 27, 28, 29, 30] [0, 2, 4, 6, 8, 10, 12, 1, 3, 5, 7, 9, 11, 26, 28, 30, 32, 34, 36, 38, 40, 42, 44, 46, 48, 13, 15, 17, 19, 21, 23] rfl (fun _ => rfl) rfl rfl hl.1 rfl (Nat.le_of_ble_eq_true rfl) dX0_count_87 ⟨(Nat.le_of_ble_eq_true rfl), (Nat.le_of_ble_eq_true rfl)⟩ (fun r_4 u_4 H locs hw_4 hP hD hS => ?_)
      have hw_4 : (pSet r 2 : Int32) = r_4 := hw_4.symm
      subst hw_4
      refine hret _ _ _ _ _ _ (pSet r 2) () dX0_count_90 ?_ hP hD hS (Nat.le_of_ble_eq_true rfl) (Nat.le_of_ble_eq_true rfl)
      rw [e_1]
      rfl
    · skip
      refine lv_tableIn (tgt := 91) hx hb dX0_count_1 (by rw [e_1]; decide) (by rw [e_1]; decide) (by rw [e_1]; rfl) (by decide) ?_
      refine lv_aload_n hx hb dX0_count_91 rfl (lv_at hl 0 rfl) ?_
      refine va_get (D := G.1) (ci := 0) (v := .ref ((ad 1) 0)) (C := RX0) (T := TX0) (N := 13) hx hb hts in_X0 hown hK.1 hP 0 rfl rfl 1 (by decide) (hts _ q222) (fun _ h9 => h9) rfl dX0_count_92 ?_
      refine va_getN (D := G.1) (ci := 7) (v := .int (r 5 2)) (C := RX8) (T := TX8) (N := 9) hx hb hts in_X8 hown hK.1 hP 7 rfl rfl 6 (by decide) (va_Nw.use rfl (hK.2.F 13 rfl)) (fun _ h9 => h9) rfl dX0_count_95 ?_
      refine lv_if_eq (tgt := 105) hx hb dX0_count_98 (by decide) (fun c_5 => ?_) (fun c_5 => ?_)
      · skip
        refine lv_iconst (v := 0) hx hb dX0_count_105 (by decide) ?_
        refine hret _ _ _ _ _ _ 0 () dX0_count_106 ?_ hP hD hS (Nat.le_of_ble_eq_true rfl) (Nat.le_of_ble_eq_true rfl)
        rw [e_1]
        show _ = r 5 2
        exact ((c_5).symm)
      · skip
        refine lv_iconst (v := 1) hx hb dX0_count_101 (by decide) ?_
        refine lv_goto (tgt := 106) hx hb dX0_count_102 (by decide) ?_
        refine hret _ _ _ _ _ _ 1 () dX0_count_106 ?_ hP hD hS (Nat.le_of_ble_eq_true rfl) (Nat.le_of_ble_eq_true rfl)
        rw [e_1]
        show _ = r 5 2
        exact (hr.2.1.resolve_left c_5 |>.symm)
    · skip
      refine lv_tableIn (tgt := 107) hx hb dX0_count_1 (by rw [e_1]; decide) (by rw [e_1]; decide) (by rw [e_1]; rfl) (by decide) ?_
      refine lv_aload_n hx hb dX0_count_107 rfl (lv_at hl 0 rfl) ?_
      refine va_get (D := G.1) (ci := 0) (v := .int rn) (C := RX0) (T := TX0) (N := 13) hx hb hts in_X0 hown hK.1 hP 0 rfl rfl 6 (by decide) (hts _ q227) (fun _ h9 => h9) rfl dX0_count_108 ?_
      refine hret _ _ _ _ _ _ rn () dX0_count_111 ?_ hP hD hS (Nat.le_of_ble_eq_true rfl) (Nat.le_of_ble_eq_true rfl)
      rw [e_1]
      rfl
    · skip
      refine lv_tableIn (tgt := 112) hx hb dX0_count_1 (by rw [e_1]; decide) (by rw [e_1]; decide) (by rw [e_1]; rfl) (by decide) ?_
      refine lv_aload_n hx hb dX0_count_112 rfl (lv_at hl 0 rfl) ?_
      refine va_get (D := G.1) (ci := 0) (v := .int ln) (C := RX0) (T := TX0) (N := 13) hx hb hts in_X0 hown hK.1 hP 0 rfl rfl 8 (by decide) (hts _ q231) (fun _ h9 => h9) rfl dX0_count_113 ?_
      refine hret _ _ _ _ _ _ ln () dX0_count_116 ?_ hP hD hS (Nat.le_of_ble_eq_true rfl) (Nat.le_of_ble_eq_true rfl)
      rw [e_1]
      rfl
  · skip
    refine lv_tableOut (tgt := 117) hx hb dX0_count_1 e_1 (by decide) ?_
    refine lv_iload_n hx hb dX0_count_117 rfl (lv_at hl 1 rfl) ?_
    refine lv_i2l (v := w.toInt64) hx hb dX0_count_118 rfl ?_
    refine lv_ldc2 (v := 11) hx hb hown (hts _ q1154) dX0_count_119 ?_
    refine lv_ldc2 (v := 16) hx hb hown (hts _ q1155) dX0_count_122 ?_
    refine x_Si (wN := fun _ => (wX G ad ho rn ln dr ro lt rf th sb ++ wR G (ad 1) kd r ++ wR G (ad 2) k1 r1 ++ wR G (ad 3) k2 r2 ++ wK (ad 4))) ⟨C0, hK, hP, hD, hS, hA⟩ ((m_in l G w.toInt64 11 16)) (va_cwS 3 hts (lw_S q706 q427 q86 q428) rfl rfl rfl (by decide +kernel) ⟨Nat.le_of_ble_eq_true rfl, Nat.le_of_ble_eq_true rfl⟩) [] [0, 2, 4, 6, 8, 10, 12, 14, 16, 18, 20, 22, 24, 26, 28, 30, 32, 34, 36, 38, 40, 42, 44, 46, 48, 50, 52, 54, 56, 58, 60] rfl (fun _ => rfl) rfl rfl hl.1 rfl (Nat.le_of_ble_eq_true rfl) dX0_count_125 ⟨(Nat.le_of_ble_eq_true rfl), (Nat.le_of_ble_eq_true rfl)⟩ (fun r_6 u_6 H locs hw_6 hP hD hS => ?_)
    have hw_6 : r_6 = bI (inR w 11 16) := hw_6.trans (congrArg bI (inL_inR rfl rfl))
    have hw_6 : (bI (inR w 11 16) : Int32) = r_6 := hw_6.symm
    subst hw_6
    refine lv_if_eq (tgt := 143) hx hb dX0_count_128 (by decide) (fun c_7 => ?_) (fun c_7 => ?_)
    · skip
      have hi9 : inR w 11 16 = false := by have h9 := c_7; simpa [bI_0] using h9
      refine lv_bipush (v := (-9)) hx hb dX0_count_143 (by decide) ?_
      refine hret _ _ _ _ _ _ (-9) () dX0_count_145 ?_ hP hD hS (Nat.le_of_ble_eq_true rfl) (Nat.le_of_ble_eq_true rfl)
      unfold pCnt
      rw [if_neg (show ¬ w = 0 from cn_out e_1 (k := 0) (by omega)), if_neg (show ¬ w = 1 from cn_out e_1 (k := 1) (by omega)), if_neg (show ¬ w = 2 from cn_out e_1 (k := 2) (by omega)), if_neg (show ¬ w = 3 from cn_out e_1 (k := 3) (by omega)), if_neg (show ¬ w = 4 from cn_out e_1 (k := 4) (by omega)), if_neg (show ¬ w = 5 from cn_out e_1 (k := 5) (by omega)), if_neg (show ¬ w = 6 from cn_out e_1 (k := 6) (by omega)), if_neg (show ¬ w = 7 from cn_out e_1 (k := 7) (by omega)), if_neg (by rw [hi9]; decide)]
    · skip
      have hi9 : inR w 11 16 = true := by have h9 := c_7; simpa [bI_0] using h9
      obtain ⟨ecn, hcn⟩ := cn_in hi9
      refine lv_aload_n hx hb dX0_count_131 rfl (lv_at hl 0 rfl) ?_
      refine va_get (D := G.1) (ci := 0) (v := .ref (ad 0 4)) (C := RX0) (T := TX0) (N := 13) hx hb hts in_X0 hown hK.1 hP 0 rfl rfl 9 (by decide) (hts _ q232) (fun _ h9 => h9) rfl dX0_count_132 ?_
      refine lv_iload_n hx hb dX0_count_135 rfl (lv_at hl 1 rfl) ?_
      refine lv_bipush (v := 10) hx hb dX0_count_136 (by decide) ?_
      refine x_isub hx hb dX0_count_138 (v := nI (ix (w - 10))) ecn ?_
      refine x_ialdn (k := (ix (w - 10))) hx hb hK.1 hP 4 0 rfl rfl (by omega) (by decide) (v := rf (ix (w - 10))) rfl dX0_count_139 ?_
      refine lv_goto (tgt := 145) hx hb dX0_count_140 (by decide) ?_
      refine hret _ _ _ _ _ _ (rf (ix (w - 10))) () dX0_count_145 ?_ hP hD hS (Nat.le_of_ble_eq_true rfl) (Nat.le_of_ble_eq_true rfl)
      unfold pCnt
      rw [if_neg (show ¬ w = 0 from cn_out e_1 (k := 0) (by omega)), if_neg (show ¬ w = 1 from cn_out e_1 (k := 1) (by omega)), if_neg (show ¬ w = 2 from cn_out e_1 (k := 2) (by omega)), if_neg (show ¬ w = 3 from cn_out e_1 (k := 3) (by omega)), if_neg (show ¬ w = 4 from cn_out e_1 (k := 4) (by omega)), if_neg (show ¬ w = 5 from cn_out e_1 (k := 5) (by omega)), if_neg (show ¬ w = 6 from cn_out e_1 (k := 6) (by omega)), if_neg (show ¬ w = 7 from cn_out e_1 (k := 7) (by omega)), if_pos hi9]
set_option maxHeartbeats 4000000 in
set_option maxRecDepth 100000 in
theorem m_far (l : Launch) (G : xG) (ad : Nat → Nat → Nat) (kd k1 k2 : Nat → Option Nat) (r r1 r2 : Rw) (ho rn ln dr : Int32) (ro lt rf th sb : Nat → Int32) (hr : Ok r) (hp : r 5 3 = 0) (hk : kOk (ad 4) kd r) (q : Nat) (ee : yE) (hrf : rfOk ee.2.1) : xCl l G yX0_far cX0_far 2 (some .long) ({ frames := 1, cells := 0, slots := 0, locals := 21 } : Room) [.ref (ad 0 0), .ref q] (wX G ad ho rn ln dr ro lt rf th sb ++ wR G (ad 1) kd r ++ wR G (ad 2) k1 r1 ++ wR G (ad 3) k2 r2 ++ wK (ad 4) ++ [yEc q ee]) (S := Unit) (fun v _ => v = 4000000000000000000 - (ee.2.1).toInt64) (fun _ => (wX G ad ho rn ln dr ro lt (rfU rf ee.2.1) th sb ++ wR G (ad 1) kd r ++ wR G (ad 2) k1 r1 ++ wR G (ad 3) k2 r2 ++ wK (ad 4) ++ [yEc q ee])) := by
  refine x_openl (by decide) (Nat.le_of_ble_eq_true rfl) ?_
  intro p e s m args below meth c A Q ls C0 hK hP hD hA hl hret
  obtain ⟨hx, hb, hml, hown, hts⟩ := id C0
  have hS : va_S A s.heap s.heap [] := va_S.rf
  have hP : va_P G.1 vwCl (wX G ad ho rn ln dr ro lt rf th sb ++ wR G (ad 1) kd r ++ wR G (ad 2) k1 r1 ++ wR G (ad 3) k2 r2 ++ wK (ad 4) ++ [yEc q ee]) s.heap := hP
  have hD : va_D A (wX G ad ho rn ln dr ro lt rf th sb ++ wR G (ad 1) kd r ++ wR G (ad 2) k1 r1 ++ wR G (ad 3) k2 r2 ++ wK (ad 4) ++ [yEc q ee]) := hD
  have hl : lv_has ls 2 [(0, .ref (ad 0 0)), (1, .ref q)] := hl
  have hr0 := hr.n
  have hN := hr.le
  refine lv_ldc2 (v := 4000000000000000000) hx hb hown (hts _ q1117) dX0_far_0 ?_
  refine lv_aload_n hx hb dX0_far_3 rfl (lv_at hl 0 rfl) ?_
  refine lv_aload_n hx hb dX0_far_4 rfl (lv_at hl 1 rfl) ?_
  obtain ⟨ek, en, e1, e2, e3⟩ := ee
  cases ek
  · skip
    have hP : va_P G.1 vwCl (wX G ad ho rn ln dr ro lt rf th sb ++ wR G (ad 1) kd r ++ wR G (ad 2) k1 r1 ++ wR G (ad 3) k2 r2 ++ wK (ad 4) ++ [(q, .inr (9, [e1, e2, e3, .null, .null, .int 0, .int en]))]) _ := hP
    have hD : va_D A (wX G ad ho rn ln dr ro lt rf th sb ++ wR G (ad 1) kd r ++ wR G (ad 2) k1 r1 ++ wR G (ad 3) k2 r2 ++ wK (ad 4) ++ [(q, .inr (9, [e1, e2, e3, .null, .null, .int 0, .int en]))]) := hD
    have hrf9 : rfOk en := hrf
    refine x_Ui (wN := fun _ => (wX G ad ho rn ln dr ro lt rf th sb ++ wR G (ad 1) kd r ++ wR G (ad 2) k1 r1 ++ wR G (ad 3) k2 r2 ++ wK (ad 4) ++ [(q, .inr (9, [e1, e2, e3, .null, .null, .int 0, .int en]))])) ⟨C0, hK, hP, hD, hS, hA⟩ 31 rfl (ci := 9) rfl rfl ((m_X11_number l G q e1 e2 e3 en)) (va_cwA (owner := "PulledFromUnder$Refusal") 0 hts (lw_U q990 q992 q996 q997 q100 q998) rfl rfl rfl (hK.2.D 13 rfl) (by decide +kernel) ⟨Nat.le_of_ble_eq_true rfl, Nat.le_of_ble_eq_true rfl⟩) [31] [0, 2, 4, 6, 8, 10, 12, 14, 16, 18, 20, 22, 24, 26, 28, 30, 32, 34, 36, 38, 40, 42, 44, 46, 48, 50, 52, 54, 56, 58, 60, 1] rfl (fun _ => rfl) rfl rfl hl.1 rfl (Nat.le_of_ble_eq_true rfl) dX0_far_5 ⟨(Nat.le_of_ble_eq_true rfl), (Nat.le_of_ble_eq_true rfl)⟩ (fun r_1 u_1 H locs hw_1 hP hD hS => ?_)
    have hw_1 : (en : Int32) = r_1 := hw_1.symm
    subst hw_1
    refine x_Vi (wN := fun _ => (wX G ad ho rn ln dr ro lt (rfU rf en) th sb ++ wR G (ad 1) kd r ++ wR G (ad 2) k1 r1 ++ wR G (ad 3) k2 r2 ++ wK (ad 4) ++ [(q, .inr (9, [e1, e2, e3, .null, .null, .int 0, .int en]))])) ⟨C0, hK, hP, hD, hS, hA⟩ 0 rfl (ci := 0) rfl rfl ((m_refuse l G ad kd k1 k2 r r1 r2 ho rn ln dr ro lt rf th sb hr hp hk en hrf9)) (cwV 1 hts (lw_V q999 q1001 qs62 q86 q1002) rfl rfl rfl (by decide +kernel) ⟨Nat.le_of_ble_eq_true rfl, Nat.le_of_ble_eq_true rfl⟩) [0, 1, 2, 3, 4, 5, 6, 7, 8, 9, 10, 11, 12, 13, 14, 15, 16, 17, 18, 19, 20, 21, 22, 23, 24, 25, 26, 27, 28, 29, 30] [1, 3, 5, 7, 9, 11, 13, 15, 17, 19, 21, 23, 25, 27, 29, 31, 33, 35, 37, 39, 41, 43, 45, 47, 49, 51, 53, 55, 57, 59, 61, 62] rfl (fun _ => rfl) rfl rfl hl.1 rfl (Nat.le_of_ble_eq_true rfl) dX0_far_8 ⟨(Nat.le_of_ble_eq_true rfl), (Nat.le_of_ble_eq_true rfl)⟩ (fun r_2 u_2 H locs hw_2 hP hD hS => ?_)
    have hw_2 : (en : Int32) = r_2 := hw_2.symm
    subst hw_2
    have hP : va_P G.1 vwCl (wX G ad ho rn ln dr ro lt (rfU rf en) th sb ++ wR G (ad 1) kd r ++ wR G (ad 2) k1 r1 ++ wR G (ad 3) k2 r2 ++ wK (ad 4) ++ [(q, .inr (9, [e1, e2, e3, .null, .null, .int 0, .int en]))]) _ := hP
    have hD : va_D A (wX G ad ho rn ln dr ro lt (rfU rf en) th sb ++ wR G (ad 1) kd r ++ wR G (ad 2) k1 r1 ++ wR G (ad 3) k2 r2 ++ wK (ad 4) ++ [(q, .inr (9, [e1, e2, e3, .null, .null, .int 0, .int en]))]) := hD
    refine lv_i2l (v := en.toInt64) hx hb dX0_far_11 rfl ?_
    refine x_lsub hx hb dX0_far_12 (v := 4000000000000000000 - en.toInt64) rfl ?_
    refine hret _ _ _ _ _ _ (4000000000000000000 - en.toInt64) () dX0_far_13 ?_ hP hD hS (Nat.le_of_ble_eq_true rfl) (Nat.le_of_ble_eq_true rfl)
    rfl
  · skip
    have hP : va_P G.1 vwCl (wX G ad ho rn ln dr ro lt rf th sb ++ wR G (ad 1) kd r ++ wR G (ad 2) k1 r1 ++ wR G (ad 3) k2 r2 ++ wK (ad 4) ++ [(q, .inr (11, [e1, e2, e3, .null, .null, .int 0, .int en]))]) _ := hP
    have hD : va_D A (wX G ad ho rn ln dr ro lt rf th sb ++ wR G (ad 1) kd r ++ wR G (ad 2) k1 r1 ++ wR G (ad 3) k2 r2 ++ wK (ad 4) ++ [(q, .inr (11, [e1, e2, e3, .null, .null, .int 0, .int en]))]) := hD
    have hrf9 : rfOk en := hrf
    refine x_Ui (wN := fun _ => (wX G ad ho rn ln dr ro lt rf th sb ++ wR G (ad 1) kd r ++ wR G (ad 2) k1 r1 ++ wR G (ad 3) k2 r2 ++ wK (ad 4) ++ [(q, .inr (11, [e1, e2, e3, .null, .null, .int 0, .int en]))])) ⟨C0, hK, hP, hD, hS, hA⟩ 31 rfl (ci := 11) rfl rfl ((m_X13_number l G q e1 e2 e3 en)) (va_cwA (owner := "PulledFromUnder$Refusal") 0 hts (lw_U q990 q992 q993 q994 q102 q995) rfl rfl rfl (hK.2.D 13 rfl) (by decide +kernel) ⟨Nat.le_of_ble_eq_true rfl, Nat.le_of_ble_eq_true rfl⟩) [31] [0, 2, 4, 6, 8, 10, 12, 14, 16, 18, 20, 22, 24, 26, 28, 30, 32, 34, 36, 38, 40, 42, 44, 46, 48, 50, 52, 54, 56, 58, 60, 1] rfl (fun _ => rfl) rfl rfl hl.1 rfl (Nat.le_of_ble_eq_true rfl) dX0_far_5 ⟨(Nat.le_of_ble_eq_true rfl), (Nat.le_of_ble_eq_true rfl)⟩ (fun r_3 u_3 H locs hw_3 hP hD hS => ?_)
    have hw_3 : (en : Int32) = r_3 := hw_3.symm
    subst hw_3
    refine x_Vi (wN := fun _ => (wX G ad ho rn ln dr ro lt (rfU rf en) th sb ++ wR G (ad 1) kd r ++ wR G (ad 2) k1 r1 ++ wR G (ad 3) k2 r2 ++ wK (ad 4) ++ [(q, .inr (11, [e1, e2, e3, .null, .null, .int 0, .int en]))])) ⟨C0, hK, hP, hD, hS, hA⟩ 0 rfl (ci := 0) rfl rfl ((m_refuse l G ad kd k1 k2 r r1 r2 ho rn ln dr ro lt rf th sb hr hp hk en hrf9)) (cwV 1 hts (lw_V q999 q1001 qs62 q86 q1002) rfl rfl rfl (by decide +kernel) ⟨Nat.le_of_ble_eq_true rfl, Nat.le_of_ble_eq_true rfl⟩) [0, 1, 2, 3, 4, 5, 6, 7, 8, 9, 10, 11, 12, 13, 14, 15, 16, 17, 18, 19, 20, 21, 22, 23, 24, 25, 26, 27, 28, 29, 30] [1, 3, 5, 7, 9, 11, 13, 15, 17, 19, 21, 23, 25, 27, 29, 31, 33, 35, 37, 39, 41, 43, 45, 47, 49, 51, 53, 55, 57, 59, 61, 62] rfl (fun _ => rfl) rfl rfl hl.1 rfl (Nat.le_of_ble_eq_true rfl) dX0_far_8 ⟨(Nat.le_of_ble_eq_true rfl), (Nat.le_of_ble_eq_true rfl)⟩ (fun r_4 u_4 H locs hw_4 hP hD hS => ?_)
    have hw_4 : (en : Int32) = r_4 := hw_4.symm
    subst hw_4
    have hP : va_P G.1 vwCl (wX G ad ho rn ln dr ro lt (rfU rf en) th sb ++ wR G (ad 1) kd r ++ wR G (ad 2) k1 r1 ++ wR G (ad 3) k2 r2 ++ wK (ad 4) ++ [(q, .inr (11, [e1, e2, e3, .null, .null, .int 0, .int en]))]) _ := hP
    have hD : va_D A (wX G ad ho rn ln dr ro lt (rfU rf en) th sb ++ wR G (ad 1) kd r ++ wR G (ad 2) k1 r1 ++ wR G (ad 3) k2 r2 ++ wK (ad 4) ++ [(q, .inr (11, [e1, e2, e3, .null, .null, .int 0, .int en]))]) := hD
    refine lv_i2l (v := en.toInt64) hx hb dX0_far_11 rfl ?_
    refine x_lsub hx hb dX0_far_12 (v := 4000000000000000000 - en.toInt64) rfl ?_
    refine hret _ _ _ _ _ _ (4000000000000000000 - en.toInt64) () dX0_far_13 ?_ hP hD hS (Nat.le_of_ble_eq_true rfl) (Nat.le_of_ble_eq_true rfl)
    rfl
theorem dr_b {x : Int32} (h : ¬ x < 0) (h2 : x ≤ 7) : ix x ≤ 7 ∧ x = nI (ix x) := by
  obtain ⟨j, hj, rfl⟩ := nI_of2 (n := 7) (by decide) h h2
  rw [ix_nI (by omega)]
  exact ⟨hj, rfl⟩
theorem dr_x {x : Int32} (h : ¬ x < 2) (h2 : x ≤ 20) : 2 ≤ ix x ∧ ix x ≤ 20 ∧ x = nI (ix x) := by
  have h0 : ¬ x < 0 := fun q => by
    rw [Int32.lt_iff_toInt_lt] at h q
    have e2 : (2 : Int32).toInt = 2 := by decide
    have e0 : (0 : Int32).toInt = 0 := by decide
    omega
  obtain ⟨j, hj, rfl⟩ := nI_of2 (n := 20) (by decide) h0 h2
  rw [ix_nI (by omega)]
  refine ⟨?_, hj, rfl⟩
  apply Classical.byContradiction
  intro q
  exact h ((nI_ltI (b := 2) (by omega) (by omega)).mpr (by omega))
set_option maxHeartbeats 4000000 in
set_option maxRecDepth 100000 in
theorem m_draughtTold (l : Launch) (hl0 : l.stackTraces = false) (G : xG) (ad : Nat → Nat → Nat) (kd k1 k2 : Nat → Option Nat) (r r1 r2 : Rw) (ho rn ln dr : Int32) (ro lt rf th sb : Nat → Int32) (hr : Ok r) (hp : r 5 3 = 0) (hk : kOk (ad 4) kd r) (t b x w : Int32) : zCl l G yX0_draughtTold (wsW_ yX0_draughtTold cX0_draughtTold 6 (some .long) [(0, 60, 61, 239)]) ({ frames := 10, cells := 4, slots := 28, locals := 171 } : Room) [.ref (ad 0 0), .int t, .int b, .int x, .int w] (wX G ad ho rn ln dr ro lt rf th sb ++ wR G (ad 1) kd r ++ wR G (ad 2) k1 r1 ++ wR G (ad 3) k2 r2 ++ wK (ad 4)) (S := ((Nat → Option Nat) × Rw)) (fun v _ => v = sel (eS (tB r t) (-1) (eS (decide (¬ b < 0 ∧ ¬ x < 2)) (-4) (eS (decide (b ≤ 7 ∧ x ≤ 20)) (-6) (eS (inR w 0 1) (-2) 0)))) (pDr r (ix t) (ix b) (ix x) w) (4000000000000000000 - (eS (tB r t) (-1) (eS (decide (¬ b < 0 ∧ ¬ x < 2)) (-4) (eS (decide (b ≤ 7 ∧ x ≤ 20)) (-6) (eS (inR w 0 1) (-2) 0)))).toInt64)) (fun u => (wX G ad ho rn ln dr ro lt (sel (eS (tB r t) (-1) (eS (decide (¬ b < 0 ∧ ¬ x < 2)) (-4) (eS (decide (b ≤ 7 ∧ x ≤ 20)) (-6) (eS (inR w 0 1) (-2) 0)))) rf (rfU rf (eS (tB r t) (-1) (eS (decide (¬ b < 0 ∧ ¬ x < 2)) (-4) (eS (decide (b ≤ 7 ∧ x ≤ 20)) (-6) (eS (inR w 0 1) (-2) 0)))))) th sb ++ wR G (ad 1) kd r ++ wR G (ad 2) u.1 u.2 ++ wR G (ad 3) k2 r2 ++ wK (ad 4))) := by
  refine z_openlW (hh := [(0, 60, 61, 239)]) (by decide) (Nat.le_of_ble_eq_true rfl) ?_
  intro p e s m args below meth c A Q ls C0 hK hZ hP hD hA hl htb hret
  obtain ⟨hx, hb, hml, hown, hts⟩ := id C0
  have hS : va_S A s.heap s.heap [] := va_S.rf
  have hP : va_P G.1 vwCl (wX G ad ho rn ln dr ro lt rf th sb ++ wR G (ad 1) kd r ++ wR G (ad 2) k1 r1 ++ wR G (ad 3) k2 r2 ++ wK (ad 4)) s.heap := hP
  have hD : va_D A (wX G ad ho rn ln dr ro lt rf th sb ++ wR G (ad 1) kd r ++ wR G (ad 2) k1 r1 ++ wR G (ad 3) k2 r2 ++ wK (ad 4)) := hD
  have hl : lv_has ls 6 [(0, .ref (ad 0 0)), (1, .int t), (2, .int b), (3, .int x), (4, .int w)] := hl
  have hr0 := hr.n
  have hN := hr.le
  refine lv_aload_n hx hb dX0_draughtTold_0 rfl (lv_at hl 0 rfl) ?_
  refine lv_iload_n hx hb dX0_draughtTold_1 rfl (lv_at hl 1 rfl) ?_
  refine y_Vv (wN := fun _ => (wX G ad ho rn ln dr ro lt rf th sb ++ wR G (ad 1) kd r ++ wR G (ad 2) k1 r1 ++ wR G (ad 3) k2 r2 ++ wK (ad 4))) (wNx := fun u9 => (wX G ad ho rn ln dr ro lt rf th sb ++ wR G (ad 1) kd r ++ wR G (ad 2) k1 r1 ++ wR G (ad 3) k2 r2 ++ wK (ad 4))) ⟨C0, hK, hP, hD, hS, hA⟩ hZ 0 rfl (ci := 0) rfl rfl ((m_mustBeThing l hl0 G ad kd k1 k2 r r1 r2 ho rn ln dr ro lt rf th sb hr hp hk t)) (cwV 1 hts (lw_V q699 q701 qs14 q86 q702) rfl rfl rfl (by decide +kernel) ⟨Nat.le_of_ble_eq_true rfl, Nat.le_of_ble_eq_true rfl⟩) [0, 1, 2, 3, 4, 5, 6, 7, 8, 9, 10, 11, 12, 13, 14, 15, 16, 17, 18, 19, 20, 21, 22, 23, 24, 25, 26, 27, 28, 29, 30] [1, 3, 5, 7, 9, 11, 13, 15, 17, 19, 21, 23, 25, 27, 29, 31, 33, 35, 37, 39, 41, 43, 45, 47, 49, 51, 53, 55, 57, 59, 61] [1, 3, 5, 7, 9, 11, 13, 15, 17, 19, 21, 23, 25, 27, 29, 31, 33, 35, 37, 39, 41, 43, 45, 47, 49, 51, 53, 55, 57, 59, 61, 63] rfl (fun _ => rfl) (fun _ _ _ => rfl) rfl rfl rfl hl.1 rfl (Nat.le_of_ble_eq_true rfl) dX0_draughtTold_2 ⟨(Nat.le_of_ble_eq_true rfl), (Nat.le_of_ble_eq_true rfl)⟩ (fun q9 u9 ee H locs hw_1 hP hD hS => ?_) (fun u_1 H locs hw_1 hP hD hS => ?_)
  · skip
    refine z_catch ⟨0, 60, 61, 239⟩ hown hK htb rfl (by decide) (by decide) (hts _ q273) hP ?_
    obtain ⟨h8, h9⟩ := hw_1
    have hE : eS (tB r t) (-1) (eS (decide (¬ b < 0 ∧ ¬ x < 2)) (-4) (eS (decide (b ≤ 7 ∧ x ≤ 20)) (-6) (eS (inR w 0 1) (-2) 0))) = ee.2.1 := by rw [eS_f h8]; exact h9.symm
    have hne : ee.2.1 ≠ 0 := by rw [h9]; decide
    refine lv_astore (lv' := [(5, .ref q9), (0, .ref (ad 0 0)), (1, .int t), (2, .int b), (3, .int x), (4, .int w)]) hx hb dX0_draughtTold_61 hl (by decide) rfl (fun ls hl => ?_)
    refine lv_aload_n hx hb dX0_draughtTold_63 rfl (lv_at hl 1 rfl) ?_
    refine lv_aload hx hb dX0_draughtTold_64 (lv_at hl 0 rfl) ?_
    refine x_Vl (wN := fun _ => (wX G ad ho rn ln dr ro lt (rfU rf ee.2.1) th sb ++ wR G (ad 1) kd r ++ wR G (ad 2) k1 r1 ++ wR G (ad 3) k2 r2 ++ wK (ad 4) ++ [yEc q9 ee])) ⟨C0, hK, hP, hD, hS, hA⟩ 0 rfl (ci := 0) rfl rfl ((m_far l G ad kd k1 k2 r r1 r2 ho rn ln dr ro lt rf th sb hr hp hk q9 ee (by rw [← hE]; exact (rfOk_S rfOk_k.1 (rfOk_S rfOk_k.2.2.2.1 (rfOk_S rfOk_k.2.2.2.2 (rfOk_S rfOk_k.2.1 rfOk_0))))))) (cwV 1 hts (lw_V q1113 q1115 qs65 q86 q1116) rfl rfl rfl (by decide +kernel) ⟨Nat.le_of_ble_eq_true rfl, Nat.le_of_ble_eq_true rfl⟩) [0, 1, 2, 3, 4, 5, 6, 7, 8, 9, 10, 11, 12, 13, 14, 15, 16, 17, 18, 19, 20, 21, 22, 23, 24, 25, 26, 27, 28, 29, 30, 31] [1, 3, 5, 7, 9, 11, 13, 15, 17, 19, 21, 23, 25, 27, 29, 31, 33, 35, 37, 39, 41, 43, 45, 47, 49, 51, 53, 55, 57, 59, 61, 63] rfl (fun _ => rfl) rfl rfl hl.1 rfl (Nat.le_of_ble_eq_true rfl) dX0_draughtTold_66 ⟨(Nat.le_of_ble_eq_true rfl), (Nat.le_of_ble_eq_true rfl)⟩ (fun r_2 u_2 H locs hw_2 hP hD hS => ?_)
    have hw_2 : (4000000000000000000 - (ee.2.1).toInt64 : Int64) = r_2 := hw_2.symm
    subst hw_2
    have hP : va_P G.1 vwCl (wX G ad ho rn ln dr ro lt (rfU rf ee.2.1) th sb ++ wR G (ad 1) kd r ++ wR G (ad 2) k1 r1 ++ wR G (ad 3) k2 r2 ++ wK (ad 4) ++ [yEc q9 ee]) H := hP
    have hD : va_D A (wX G ad ho rn ln dr ro lt (rfU rf ee.2.1) th sb ++ wR G (ad 1) kd r ++ wR G (ad 2) k1 r1 ++ wR G (ad 3) k2 r2 ++ wK (ad 4) ++ [yEc q9 ee]) := hD
    have hP := x_dropP hP
    have hD := x_dropD hD
    have hP : va_P G.1 vwCl (wX G ad ho rn ln dr ro lt (sel (eS (tB r t) (-1) (eS (decide (¬ b < 0 ∧ ¬ x < 2)) (-4) (eS (decide (b ≤ 7 ∧ x ≤ 20)) (-6) (eS (inR w 0 1) (-2) 0)))) rf (rfU rf (eS (tB r t) (-1) (eS (decide (¬ b < 0 ∧ ¬ x < 2)) (-4) (eS (decide (b ≤ 7 ∧ x ≤ 20)) (-6) (eS (inR w 0 1) (-2) 0)))))) th sb ++ wR G (ad 1) kd r ++ wR G (ad 2) ((k1, r1).1) ((k1, r1).2) ++ wR G (ad 3) k2 r2 ++ wK (ad 4)) H := by rw [hE]; simp only [sel_n hne]; exact hP
    have hD : va_D A (wX G ad ho rn ln dr ro lt (sel (eS (tB r t) (-1) (eS (decide (¬ b < 0 ∧ ¬ x < 2)) (-4) (eS (decide (b ≤ 7 ∧ x ≤ 20)) (-6) (eS (inR w 0 1) (-2) 0)))) rf (rfU rf (eS (tB r t) (-1) (eS (decide (¬ b < 0 ∧ ¬ x < 2)) (-4) (eS (decide (b ≤ 7 ∧ x ≤ 20)) (-6) (eS (inR w 0 1) (-2) 0)))))) th sb ++ wR G (ad 1) kd r ++ wR G (ad 2) ((k1, r1).1) ((k1, r1).2) ++ wR G (ad 3) k2 r2 ++ wK (ad 4)) := by rw [hE]; simp only [sel_n hne]; exact hD
    refine hret _ _ _ _ _ _ (4000000000000000000 - (ee.2.1).toInt64) (k1, r1) dX0_draughtTold_69 ?_ hP hD hS (Nat.le_of_ble_eq_true rfl) (Nat.le_of_ble_eq_true rfl)
    rw [hE, sel_n hne]
  · skip
    refine W.widen (k := 1) (n := 7) (Nat.le_of_ble_eq_true rfl) (Nat.le_of_ble_eq_true rfl) ?_
    have hq1 := hw_1
    refine lv_iload_n hx hb dX0_draughtTold_5 rfl (lv_at hl 2 rfl) ?_
    refine lv_if_lt (tgt := 18) hx hb dX0_draughtTold_6 (by decide) (fun c_3 => ?_) (fun c_3 => ?_)
    · skip
      refine lv_iconst (v := 0) hx hb dX0_draughtTold_18 (by decide) ?_
      have eb_19 : (0 : Int32) = bI (decide (¬ b < 0 ∧ ¬ x < 2)) := bI_F (decide_eq_false (fun z => z.1 c_3))
      rw [eb_19]
      have ef_19 : (decide (¬ b < 0 ∧ ¬ x < 2)) = false := bI_0.mp eb_19.symm
      refine lv_bipush (v := (-4)) hx hb dX0_draughtTold_19 (by decide) ?_
      refine y_Sv (wN := fun _ => (wX G ad ho rn ln dr ro lt rf th sb ++ wR G (ad 1) kd r ++ wR G (ad 2) k1 r1 ++ wR G (ad 3) k2 r2 ++ wK (ad 4))) (wNx := fun u9 => (wX G ad ho rn ln dr ro lt rf th sb ++ wR G (ad 1) kd r ++ wR G (ad 2) k1 r1 ++ wR G (ad 3) k2 r2 ++ wK (ad 4))) ⟨C0, hK, hP, hD, hS, hA⟩ hZ ((m_must l hl0 G (decide (¬ b < 0 ∧ ¬ x < 2)) (-4))) (va_cwS 2 hts (lw_S q286 q287 q86 q288) rfl rfl rfl (by decide +kernel) ⟨Nat.le_of_ble_eq_true rfl, Nat.le_of_ble_eq_true rfl⟩) [] [0, 2, 4, 6, 8, 10, 12, 14, 16, 18, 20, 22, 24, 26, 28, 30, 32, 34, 36, 38, 40, 42, 44, 46, 48, 50, 52, 54, 56, 58, 60] [0, 2, 4, 6, 8, 10, 12, 14, 16, 18, 20, 22, 24, 26, 28, 30, 32, 34, 36, 38, 40, 42, 44, 46, 48, 50, 52, 54, 56, 58, 60, 1] rfl (fun _ => rfl) (fun _ _ _ => rfl) rfl rfl rfl hl.1 rfl (Nat.le_of_ble_eq_true rfl) dX0_draughtTold_21 ⟨(Nat.le_of_ble_eq_true rfl), (Nat.le_of_ble_eq_true rfl)⟩ (fun q9 u9 ee H locs hw_4 hP hD hS => ?_) (fun u_4 H locs hw_4 hP hD hS => ?_)
      · skip
        refine z_catch ⟨0, 60, 61, 239⟩ hown hK htb rfl (by decide) (by decide) (hts _ q273) hP ?_
        obtain ⟨h8, h9⟩ := hw_4
        have hE : eS (tB r t) (-1) (eS (decide (¬ b < 0 ∧ ¬ x < 2)) (-4) (eS (decide (b ≤ 7 ∧ x ≤ 20)) (-6) (eS (inR w 0 1) (-2) 0))) = ee.2.1 := by rw [eS_t hw_1, eS_f h8]; exact h9.symm
        have hne : ee.2.1 ≠ 0 := by rw [h9]; decide
        refine lv_astore (lv' := [(5, .ref q9), (0, .ref (ad 0 0)), (1, .int t), (2, .int b), (3, .int x), (4, .int w)]) hx hb dX0_draughtTold_61 hl (by decide) rfl (fun ls hl => ?_)
        refine lv_aload_n hx hb dX0_draughtTold_63 rfl (lv_at hl 1 rfl) ?_
        refine lv_aload hx hb dX0_draughtTold_64 (lv_at hl 0 rfl) ?_
        refine x_Vl (wN := fun _ => (wX G ad ho rn ln dr ro lt (rfU rf ee.2.1) th sb ++ wR G (ad 1) kd r ++ wR G (ad 2) k1 r1 ++ wR G (ad 3) k2 r2 ++ wK (ad 4) ++ [yEc q9 ee])) ⟨C0, hK, hP, hD, hS, hA⟩ 0 rfl (ci := 0) rfl rfl ((m_far l G ad kd k1 k2 r r1 r2 ho rn ln dr ro lt rf th sb hr hp hk q9 ee (by rw [← hE]; exact (rfOk_S rfOk_k.1 (rfOk_S rfOk_k.2.2.2.1 (rfOk_S rfOk_k.2.2.2.2 (rfOk_S rfOk_k.2.1 rfOk_0))))))) (cwV 1 hts (lw_V q1113 q1115 qs65 q86 q1116) rfl rfl rfl (by decide +kernel) ⟨Nat.le_of_ble_eq_true rfl, Nat.le_of_ble_eq_true rfl⟩) [0, 1, 2, 3, 4, 5, 6, 7, 8, 9, 10, 11, 12, 13, 14, 15, 16, 17, 18, 19, 20, 21, 22, 23, 24, 25, 26, 27, 28, 29, 30, 31] [1, 3, 5, 7, 9, 11, 13, 15, 17, 19, 21, 23, 25, 27, 29, 31, 33, 35, 37, 39, 41, 43, 45, 47, 49, 51, 53, 55, 57, 59, 61, 63] rfl (fun _ => rfl) rfl rfl hl.1 rfl (Nat.le_of_ble_eq_true rfl) dX0_draughtTold_66 ⟨(Nat.le_of_ble_eq_true rfl), (Nat.le_of_ble_eq_true rfl)⟩ (fun r_5 u_5 H locs hw_5 hP hD hS => ?_)
        have hw_5 : (4000000000000000000 - (ee.2.1).toInt64 : Int64) = r_5 := hw_5.symm
        subst hw_5
        have hP : va_P G.1 vwCl (wX G ad ho rn ln dr ro lt (rfU rf ee.2.1) th sb ++ wR G (ad 1) kd r ++ wR G (ad 2) k1 r1 ++ wR G (ad 3) k2 r2 ++ wK (ad 4) ++ [yEc q9 ee]) H := hP
        have hD : va_D A (wX G ad ho rn ln dr ro lt (rfU rf ee.2.1) th sb ++ wR G (ad 1) kd r ++ wR G (ad 2) k1 r1 ++ wR G (ad 3) k2 r2 ++ wK (ad 4) ++ [yEc q9 ee]) := hD
        have hP := x_dropP hP
        have hD := x_dropD hD
        have hP : va_P G.1 vwCl (wX G ad ho rn ln dr ro lt (sel (eS (tB r t) (-1) (eS (decide (¬ b < 0 ∧ ¬ x < 2)) (-4) (eS (decide (b ≤ 7 ∧ x ≤ 20)) (-6) (eS (inR w 0 1) (-2) 0)))) rf (rfU rf (eS (tB r t) (-1) (eS (decide (¬ b < 0 ∧ ¬ x < 2)) (-4) (eS (decide (b ≤ 7 ∧ x ≤ 20)) (-6) (eS (inR w 0 1) (-2) 0)))))) th sb ++ wR G (ad 1) kd r ++ wR G (ad 2) ((k1, r1).1) ((k1, r1).2) ++ wR G (ad 3) k2 r2 ++ wK (ad 4)) H := by rw [hE]; simp only [sel_n hne]; exact hP
        have hD : va_D A (wX G ad ho rn ln dr ro lt (sel (eS (tB r t) (-1) (eS (decide (¬ b < 0 ∧ ¬ x < 2)) (-4) (eS (decide (b ≤ 7 ∧ x ≤ 20)) (-6) (eS (inR w 0 1) (-2) 0)))) rf (rfU rf (eS (tB r t) (-1) (eS (decide (¬ b < 0 ∧ ¬ x < 2)) (-4) (eS (decide (b ≤ 7 ∧ x ≤ 20)) (-6) (eS (inR w 0 1) (-2) 0)))))) th sb ++ wR G (ad 1) kd r ++ wR G (ad 2) ((k1, r1).1) ((k1, r1).2) ++ wR G (ad 3) k2 r2 ++ wK (ad 4)) := by rw [hE]; simp only [sel_n hne]; exact hD
        refine hret _ _ _ _ _ _ (4000000000000000000 - (ee.2.1).toInt64) (k1, r1) dX0_draughtTold_69 ?_ hP hD hS (Nat.le_of_ble_eq_true rfl) (Nat.le_of_ble_eq_true rfl)
        rw [hE, sel_n hne]
      · skip
        refine W.widen (k := 2) (n := 14) (Nat.le_of_ble_eq_true rfl) (Nat.le_of_ble_eq_true rfl) ?_
        exact absurd hw_4 (by rw [ef_19]; decide)
    · skip
      refine lv_iload_n hx hb dX0_draughtTold_9 rfl (lv_at hl 3 rfl) ?_
      refine lv_iconst (v := 2) hx hb dX0_draughtTold_10 (by decide) ?_
      refine lv_icmp_lt (tgt := 18) hx hb dX0_draughtTold_11 (by decide) (fun c_6 => ?_) (fun c_6 => ?_)
      · skip
        refine lv_iconst (v := 0) hx hb dX0_draughtTold_18 (by decide) ?_
        have eb_19 : (0 : Int32) = bI (decide (¬ b < 0 ∧ ¬ x < 2)) := bI_F (decide_eq_false (fun z => z.2 c_6))
        rw [eb_19]
        have ef_19 : (decide (¬ b < 0 ∧ ¬ x < 2)) = false := bI_0.mp eb_19.symm
        refine lv_bipush (v := (-4)) hx hb dX0_draughtTold_19 (by decide) ?_
        refine y_Sv (wN := fun _ => (wX G ad ho rn ln dr ro lt rf th sb ++ wR G (ad 1) kd r ++ wR G (ad 2) k1 r1 ++ wR G (ad 3) k2 r2 ++ wK (ad 4))) (wNx := fun u9 => (wX G ad ho rn ln dr ro lt rf th sb ++ wR G (ad 1) kd r ++ wR G (ad 2) k1 r1 ++ wR G (ad 3) k2 r2 ++ wK (ad 4))) ⟨C0, hK, hP, hD, hS, hA⟩ hZ ((m_must l hl0 G (decide (¬ b < 0 ∧ ¬ x < 2)) (-4))) (va_cwS 2 hts (lw_S q286 q287 q86 q288) rfl rfl rfl (by decide +kernel) ⟨Nat.le_of_ble_eq_true rfl, Nat.le_of_ble_eq_true rfl⟩) [] [0, 2, 4, 6, 8, 10, 12, 14, 16, 18, 20, 22, 24, 26, 28, 30, 32, 34, 36, 38, 40, 42, 44, 46, 48, 50, 52, 54, 56, 58, 60] [0, 2, 4, 6, 8, 10, 12, 14, 16, 18, 20, 22, 24, 26, 28, 30, 32, 34, 36, 38, 40, 42, 44, 46, 48, 50, 52, 54, 56, 58, 60, 1] rfl (fun _ => rfl) (fun _ _ _ => rfl) rfl rfl rfl hl.1 rfl (Nat.le_of_ble_eq_true rfl) dX0_draughtTold_21 ⟨(Nat.le_of_ble_eq_true rfl), (Nat.le_of_ble_eq_true rfl)⟩ (fun q9 u9 ee H locs hw_7 hP hD hS => ?_) (fun u_7 H locs hw_7 hP hD hS => ?_)
        · skip
          refine z_catch ⟨0, 60, 61, 239⟩ hown hK htb rfl (by decide) (by decide) (hts _ q273) hP ?_
          obtain ⟨h8, h9⟩ := hw_7
          have hE : eS (tB r t) (-1) (eS (decide (¬ b < 0 ∧ ¬ x < 2)) (-4) (eS (decide (b ≤ 7 ∧ x ≤ 20)) (-6) (eS (inR w 0 1) (-2) 0))) = ee.2.1 := by rw [eS_t hw_1, eS_f h8]; exact h9.symm
          have hne : ee.2.1 ≠ 0 := by rw [h9]; decide
          refine lv_astore (lv' := [(5, .ref q9), (0, .ref (ad 0 0)), (1, .int t), (2, .int b), (3, .int x), (4, .int w)]) hx hb dX0_draughtTold_61 hl (by decide) rfl (fun ls hl => ?_)
          refine lv_aload_n hx hb dX0_draughtTold_63 rfl (lv_at hl 1 rfl) ?_
          refine lv_aload hx hb dX0_draughtTold_64 (lv_at hl 0 rfl) ?_
          refine x_Vl (wN := fun _ => (wX G ad ho rn ln dr ro lt (rfU rf ee.2.1) th sb ++ wR G (ad 1) kd r ++ wR G (ad 2) k1 r1 ++ wR G (ad 3) k2 r2 ++ wK (ad 4) ++ [yEc q9 ee])) ⟨C0, hK, hP, hD, hS, hA⟩ 0 rfl (ci := 0) rfl rfl ((m_far l G ad kd k1 k2 r r1 r2 ho rn ln dr ro lt rf th sb hr hp hk q9 ee (by rw [← hE]; exact (rfOk_S rfOk_k.1 (rfOk_S rfOk_k.2.2.2.1 (rfOk_S rfOk_k.2.2.2.2 (rfOk_S rfOk_k.2.1 rfOk_0))))))) (cwV 1 hts (lw_V q1113 q1115 qs65 q86 q1116) rfl rfl rfl (by decide +kernel) ⟨Nat.le_of_ble_eq_true rfl, Nat.le_of_ble_eq_true rfl⟩) [0, 1, 2, 3, 4, 5, 6, 7, 8, 9, 10, 11, 12, 13, 14, 15, 16, 17, 18, 19, 20, 21, 22, 23, 24, 25, 26, 27, 28, 29, 30, 31] [1, 3, 5, 7, 9, 11, 13, 15, 17, 19, 21, 23, 25, 27, 29, 31, 33, 35, 37, 39, 41, 43, 45, 47, 49, 51, 53, 55, 57, 59, 61, 63] rfl (fun _ => rfl) rfl rfl hl.1 rfl (Nat.le_of_ble_eq_true rfl) dX0_draughtTold_66 ⟨(Nat.le_of_ble_eq_true rfl), (Nat.le_of_ble_eq_true rfl)⟩ (fun r_8 u_8 H locs hw_8 hP hD hS => ?_)
          have hw_8 : (4000000000000000000 - (ee.2.1).toInt64 : Int64) = r_8 := hw_8.symm
          subst hw_8
          have hP : va_P G.1 vwCl (wX G ad ho rn ln dr ro lt (rfU rf ee.2.1) th sb ++ wR G (ad 1) kd r ++ wR G (ad 2) k1 r1 ++ wR G (ad 3) k2 r2 ++ wK (ad 4) ++ [yEc q9 ee]) H := hP
          have hD : va_D A (wX G ad ho rn ln dr ro lt (rfU rf ee.2.1) th sb ++ wR G (ad 1) kd r ++ wR G (ad 2) k1 r1 ++ wR G (ad 3) k2 r2 ++ wK (ad 4) ++ [yEc q9 ee]) := hD
          have hP := x_dropP hP
          have hD := x_dropD hD
          have hP : va_P G.1 vwCl (wX G ad ho rn ln dr ro lt (sel (eS (tB r t) (-1) (eS (decide (¬ b < 0 ∧ ¬ x < 2)) (-4) (eS (decide (b ≤ 7 ∧ x ≤ 20)) (-6) (eS (inR w 0 1) (-2) 0)))) rf (rfU rf (eS (tB r t) (-1) (eS (decide (¬ b < 0 ∧ ¬ x < 2)) (-4) (eS (decide (b ≤ 7 ∧ x ≤ 20)) (-6) (eS (inR w 0 1) (-2) 0)))))) th sb ++ wR G (ad 1) kd r ++ wR G (ad 2) ((k1, r1).1) ((k1, r1).2) ++ wR G (ad 3) k2 r2 ++ wK (ad 4)) H := by rw [hE]; simp only [sel_n hne]; exact hP
          have hD : va_D A (wX G ad ho rn ln dr ro lt (sel (eS (tB r t) (-1) (eS (decide (¬ b < 0 ∧ ¬ x < 2)) (-4) (eS (decide (b ≤ 7 ∧ x ≤ 20)) (-6) (eS (inR w 0 1) (-2) 0)))) rf (rfU rf (eS (tB r t) (-1) (eS (decide (¬ b < 0 ∧ ¬ x < 2)) (-4) (eS (decide (b ≤ 7 ∧ x ≤ 20)) (-6) (eS (inR w 0 1) (-2) 0)))))) th sb ++ wR G (ad 1) kd r ++ wR G (ad 2) ((k1, r1).1) ((k1, r1).2) ++ wR G (ad 3) k2 r2 ++ wK (ad 4)) := by rw [hE]; simp only [sel_n hne]; exact hD
          refine hret _ _ _ _ _ _ (4000000000000000000 - (ee.2.1).toInt64) (k1, r1) dX0_draughtTold_69 ?_ hP hD hS (Nat.le_of_ble_eq_true rfl) (Nat.le_of_ble_eq_true rfl)
          rw [hE, sel_n hne]
        · skip
          refine W.widen (k := 2) (n := 14) (Nat.le_of_ble_eq_true rfl) (Nat.le_of_ble_eq_true rfl) ?_
          exact absurd hw_7 (by rw [ef_19]; decide)
      · skip
        refine lv_iconst (v := 1) hx hb dX0_draughtTold_14 (by decide) ?_
        refine lv_goto (tgt := 19) hx hb dX0_draughtTold_15 (by decide) ?_
        have eb_19 : (1 : Int32) = bI (decide (¬ b < 0 ∧ ¬ x < 2)) := bI_T (decide_eq_true (⟨c_3, c_6⟩))
        rw [eb_19]
        refine lv_bipush (v := (-4)) hx hb dX0_draughtTold_19 (by decide) ?_
        refine y_Sv (wN := fun _ => (wX G ad ho rn ln dr ro lt rf th sb ++ wR G (ad 1) kd r ++ wR G (ad 2) k1 r1 ++ wR G (ad 3) k2 r2 ++ wK (ad 4))) (wNx := fun u9 => (wX G ad ho rn ln dr ro lt rf th sb ++ wR G (ad 1) kd r ++ wR G (ad 2) k1 r1 ++ wR G (ad 3) k2 r2 ++ wK (ad 4))) ⟨C0, hK, hP, hD, hS, hA⟩ hZ ((m_must l hl0 G (decide (¬ b < 0 ∧ ¬ x < 2)) (-4))) (va_cwS 2 hts (lw_S q286 q287 q86 q288) rfl rfl rfl (by decide +kernel) ⟨Nat.le_of_ble_eq_true rfl, Nat.le_of_ble_eq_true rfl⟩) [] [0, 2, 4, 6, 8, 10, 12, 14, 16, 18, 20, 22, 24, 26, 28, 30, 32, 34, 36, 38, 40, 42, 44, 46, 48, 50, 52, 54, 56, 58, 60] [0, 2, 4, 6, 8, 10, 12, 14, 16, 18, 20, 22, 24, 26, 28, 30, 32, 34, 36, 38, 40, 42, 44, 46, 48, 50, 52, 54, 56, 58, 60, 1] rfl (fun _ => rfl) (fun _ _ _ => rfl) rfl rfl rfl hl.1 rfl (Nat.le_of_ble_eq_true rfl) dX0_draughtTold_21 ⟨(Nat.le_of_ble_eq_true rfl), (Nat.le_of_ble_eq_true rfl)⟩ (fun q9 u9 ee H locs hw_9 hP hD hS => ?_) (fun u_9 H locs hw_9 hP hD hS => ?_)
        · skip
          refine z_catch ⟨0, 60, 61, 239⟩ hown hK htb rfl (by decide) (by decide) (hts _ q273) hP ?_
          obtain ⟨h8, h9⟩ := hw_9
          have hE : eS (tB r t) (-1) (eS (decide (¬ b < 0 ∧ ¬ x < 2)) (-4) (eS (decide (b ≤ 7 ∧ x ≤ 20)) (-6) (eS (inR w 0 1) (-2) 0))) = ee.2.1 := by rw [eS_t hw_1, eS_f h8]; exact h9.symm
          have hne : ee.2.1 ≠ 0 := by rw [h9]; decide
          refine lv_astore (lv' := [(5, .ref q9), (0, .ref (ad 0 0)), (1, .int t), (2, .int b), (3, .int x), (4, .int w)]) hx hb dX0_draughtTold_61 hl (by decide) rfl (fun ls hl => ?_)
          refine lv_aload_n hx hb dX0_draughtTold_63 rfl (lv_at hl 1 rfl) ?_
          refine lv_aload hx hb dX0_draughtTold_64 (lv_at hl 0 rfl) ?_
          refine x_Vl (wN := fun _ => (wX G ad ho rn ln dr ro lt (rfU rf ee.2.1) th sb ++ wR G (ad 1) kd r ++ wR G (ad 2) k1 r1 ++ wR G (ad 3) k2 r2 ++ wK (ad 4) ++ [yEc q9 ee])) ⟨C0, hK, hP, hD, hS, hA⟩ 0 rfl (ci := 0) rfl rfl ((m_far l G ad kd k1 k2 r r1 r2 ho rn ln dr ro lt rf th sb hr hp hk q9 ee (by rw [← hE]; exact (rfOk_S rfOk_k.1 (rfOk_S rfOk_k.2.2.2.1 (rfOk_S rfOk_k.2.2.2.2 (rfOk_S rfOk_k.2.1 rfOk_0))))))) (cwV 1 hts (lw_V q1113 q1115 qs65 q86 q1116) rfl rfl rfl (by decide +kernel) ⟨Nat.le_of_ble_eq_true rfl, Nat.le_of_ble_eq_true rfl⟩) [0, 1, 2, 3, 4, 5, 6, 7, 8, 9, 10, 11, 12, 13, 14, 15, 16, 17, 18, 19, 20, 21, 22, 23, 24, 25, 26, 27, 28, 29, 30, 31] [1, 3, 5, 7, 9, 11, 13, 15, 17, 19, 21, 23, 25, 27, 29, 31, 33, 35, 37, 39, 41, 43, 45, 47, 49, 51, 53, 55, 57, 59, 61, 63] rfl (fun _ => rfl) rfl rfl hl.1 rfl (Nat.le_of_ble_eq_true rfl) dX0_draughtTold_66 ⟨(Nat.le_of_ble_eq_true rfl), (Nat.le_of_ble_eq_true rfl)⟩ (fun r_10 u_10 H locs hw_10 hP hD hS => ?_)
          have hw_10 : (4000000000000000000 - (ee.2.1).toInt64 : Int64) = r_10 := hw_10.symm
          subst hw_10
          have hP : va_P G.1 vwCl (wX G ad ho rn ln dr ro lt (rfU rf ee.2.1) th sb ++ wR G (ad 1) kd r ++ wR G (ad 2) k1 r1 ++ wR G (ad 3) k2 r2 ++ wK (ad 4) ++ [yEc q9 ee]) H := hP
          have hD : va_D A (wX G ad ho rn ln dr ro lt (rfU rf ee.2.1) th sb ++ wR G (ad 1) kd r ++ wR G (ad 2) k1 r1 ++ wR G (ad 3) k2 r2 ++ wK (ad 4) ++ [yEc q9 ee]) := hD
          have hP := x_dropP hP
          have hD := x_dropD hD
          have hP : va_P G.1 vwCl (wX G ad ho rn ln dr ro lt (sel (eS (tB r t) (-1) (eS (decide (¬ b < 0 ∧ ¬ x < 2)) (-4) (eS (decide (b ≤ 7 ∧ x ≤ 20)) (-6) (eS (inR w 0 1) (-2) 0)))) rf (rfU rf (eS (tB r t) (-1) (eS (decide (¬ b < 0 ∧ ¬ x < 2)) (-4) (eS (decide (b ≤ 7 ∧ x ≤ 20)) (-6) (eS (inR w 0 1) (-2) 0)))))) th sb ++ wR G (ad 1) kd r ++ wR G (ad 2) ((k1, r1).1) ((k1, r1).2) ++ wR G (ad 3) k2 r2 ++ wK (ad 4)) H := by rw [hE]; simp only [sel_n hne]; exact hP
          have hD : va_D A (wX G ad ho rn ln dr ro lt (sel (eS (tB r t) (-1) (eS (decide (¬ b < 0 ∧ ¬ x < 2)) (-4) (eS (decide (b ≤ 7 ∧ x ≤ 20)) (-6) (eS (inR w 0 1) (-2) 0)))) rf (rfU rf (eS (tB r t) (-1) (eS (decide (¬ b < 0 ∧ ¬ x < 2)) (-4) (eS (decide (b ≤ 7 ∧ x ≤ 20)) (-6) (eS (inR w 0 1) (-2) 0)))))) th sb ++ wR G (ad 1) kd r ++ wR G (ad 2) ((k1, r1).1) ((k1, r1).2) ++ wR G (ad 3) k2 r2 ++ wK (ad 4)) := by rw [hE]; simp only [sel_n hne]; exact hD
          refine hret _ _ _ _ _ _ (4000000000000000000 - (ee.2.1).toInt64) (k1, r1) dX0_draughtTold_69 ?_ hP hD hS (Nat.le_of_ble_eq_true rfl) (Nat.le_of_ble_eq_true rfl)
          rw [hE, sel_n hne]
        · skip
          refine W.widen (k := 2) (n := 14) (Nat.le_of_ble_eq_true rfl) (Nat.le_of_ble_eq_true rfl) ?_
          have hq2 := hw_9
          refine lv_iload_n hx hb dX0_draughtTold_24 rfl (lv_at hl 2 rfl) ?_
          refine lv_bipush (v := 7) hx hb dX0_draughtTold_25 (by decide) ?_
          refine lv_icmp_gt (tgt := 40) hx hb dX0_draughtTold_27 (by decide) (fun c_11 => ?_) (fun c_11 => ?_)
          · skip
            refine lv_iconst (v := 0) hx hb dX0_draughtTold_40 (by decide) ?_
            have eb_41 : (0 : Int32) = bI (decide (b ≤ 7 ∧ x ≤ 20)) := bI_F (decide_eq_false (fun z => absurd c_11 (Int32.not_lt.mpr z.1)))
            rw [eb_41]
            have ef_41 : (decide (b ≤ 7 ∧ x ≤ 20)) = false := bI_0.mp eb_41.symm
            refine lv_bipush (v := (-6)) hx hb dX0_draughtTold_41 (by decide) ?_
            refine y_Sv (wN := fun _ => (wX G ad ho rn ln dr ro lt rf th sb ++ wR G (ad 1) kd r ++ wR G (ad 2) k1 r1 ++ wR G (ad 3) k2 r2 ++ wK (ad 4))) (wNx := fun u9 => (wX G ad ho rn ln dr ro lt rf th sb ++ wR G (ad 1) kd r ++ wR G (ad 2) k1 r1 ++ wR G (ad 3) k2 r2 ++ wK (ad 4))) ⟨C0, hK, hP, hD, hS, hA⟩ hZ ((m_must l hl0 G (decide (b ≤ 7 ∧ x ≤ 20)) (-6))) (va_cwS 2 hts (lw_S q286 q287 q86 q288) rfl rfl rfl (by decide +kernel) ⟨Nat.le_of_ble_eq_true rfl, Nat.le_of_ble_eq_true rfl⟩) [] [0, 2, 4, 6, 8, 10, 12, 14, 16, 18, 20, 22, 24, 26, 28, 30, 32, 34, 36, 38, 40, 42, 44, 46, 48, 50, 52, 54, 56, 58, 60] [0, 2, 4, 6, 8, 10, 12, 14, 16, 18, 20, 22, 24, 26, 28, 30, 32, 34, 36, 38, 40, 42, 44, 46, 48, 50, 52, 54, 56, 58, 60, 1] rfl (fun _ => rfl) (fun _ _ _ => rfl) rfl rfl rfl hl.1 rfl (Nat.le_of_ble_eq_true rfl) dX0_draughtTold_43 ⟨(Nat.le_of_ble_eq_true rfl), (Nat.le_of_ble_eq_true rfl)⟩ (fun q9 u9 ee H locs hw_12 hP hD hS => ?_) (fun u_12 H locs hw_12 hP hD hS => ?_)
            · skip
              refine z_catch ⟨0, 60, 61, 239⟩ hown hK htb rfl (by decide) (by decide) (hts _ q273) hP ?_
              obtain ⟨h8, h9⟩ := hw_12
              have hE : eS (tB r t) (-1) (eS (decide (¬ b < 0 ∧ ¬ x < 2)) (-4) (eS (decide (b ≤ 7 ∧ x ≤ 20)) (-6) (eS (inR w 0 1) (-2) 0))) = ee.2.1 := by rw [eS_t hw_1, eS_t hw_9, eS_f h8]; exact h9.symm
              have hne : ee.2.1 ≠ 0 := by rw [h9]; decide
              refine lv_astore (lv' := [(5, .ref q9), (0, .ref (ad 0 0)), (1, .int t), (2, .int b), (3, .int x), (4, .int w)]) hx hb dX0_draughtTold_61 hl (by decide) rfl (fun ls hl => ?_)
              refine lv_aload_n hx hb dX0_draughtTold_63 rfl (lv_at hl 1 rfl) ?_
              refine lv_aload hx hb dX0_draughtTold_64 (lv_at hl 0 rfl) ?_
              refine x_Vl (wN := fun _ => (wX G ad ho rn ln dr ro lt (rfU rf ee.2.1) th sb ++ wR G (ad 1) kd r ++ wR G (ad 2) k1 r1 ++ wR G (ad 3) k2 r2 ++ wK (ad 4) ++ [yEc q9 ee])) ⟨C0, hK, hP, hD, hS, hA⟩ 0 rfl (ci := 0) rfl rfl ((m_far l G ad kd k1 k2 r r1 r2 ho rn ln dr ro lt rf th sb hr hp hk q9 ee (by rw [← hE]; exact (rfOk_S rfOk_k.1 (rfOk_S rfOk_k.2.2.2.1 (rfOk_S rfOk_k.2.2.2.2 (rfOk_S rfOk_k.2.1 rfOk_0))))))) (cwV 1 hts (lw_V q1113 q1115 qs65 q86 q1116) rfl rfl rfl (by decide +kernel) ⟨Nat.le_of_ble_eq_true rfl, Nat.le_of_ble_eq_true rfl⟩) [0, 1, 2, 3, 4, 5, 6, 7, 8, 9, 10, 11, 12, 13, 14, 15, 16, 17, 18, 19, 20, 21, 22, 23, 24, 25, 26, 27, 28, 29, 30, 31] [1, 3, 5, 7, 9, 11, 13, 15, 17, 19, 21, 23, 25, 27, 29, 31, 33, 35, 37, 39, 41, 43, 45, 47, 49, 51, 53, 55, 57, 59, 61, 63] rfl (fun _ => rfl) rfl rfl hl.1 rfl (Nat.le_of_ble_eq_true rfl) dX0_draughtTold_66 ⟨(Nat.le_of_ble_eq_true rfl), (Nat.le_of_ble_eq_true rfl)⟩ (fun r_13 u_13 H locs hw_13 hP hD hS => ?_)
              have hw_13 : (4000000000000000000 - (ee.2.1).toInt64 : Int64) = r_13 := hw_13.symm
              subst hw_13
              have hP : va_P G.1 vwCl (wX G ad ho rn ln dr ro lt (rfU rf ee.2.1) th sb ++ wR G (ad 1) kd r ++ wR G (ad 2) k1 r1 ++ wR G (ad 3) k2 r2 ++ wK (ad 4) ++ [yEc q9 ee]) H := hP
              have hD : va_D A (wX G ad ho rn ln dr ro lt (rfU rf ee.2.1) th sb ++ wR G (ad 1) kd r ++ wR G (ad 2) k1 r1 ++ wR G (ad 3) k2 r2 ++ wK (ad 4) ++ [yEc q9 ee]) := hD
              have hP := x_dropP hP
              have hD := x_dropD hD
              have hP : va_P G.1 vwCl (wX G ad ho rn ln dr ro lt (sel (eS (tB r t) (-1) (eS (decide (¬ b < 0 ∧ ¬ x < 2)) (-4) (eS (decide (b ≤ 7 ∧ x ≤ 20)) (-6) (eS (inR w 0 1) (-2) 0)))) rf (rfU rf (eS (tB r t) (-1) (eS (decide (¬ b < 0 ∧ ¬ x < 2)) (-4) (eS (decide (b ≤ 7 ∧ x ≤ 20)) (-6) (eS (inR w 0 1) (-2) 0)))))) th sb ++ wR G (ad 1) kd r ++ wR G (ad 2) ((k1, r1).1) ((k1, r1).2) ++ wR G (ad 3) k2 r2 ++ wK (ad 4)) H := by rw [hE]; simp only [sel_n hne]; exact hP
              have hD : va_D A (wX G ad ho rn ln dr ro lt (sel (eS (tB r t) (-1) (eS (decide (¬ b < 0 ∧ ¬ x < 2)) (-4) (eS (decide (b ≤ 7 ∧ x ≤ 20)) (-6) (eS (inR w 0 1) (-2) 0)))) rf (rfU rf (eS (tB r t) (-1) (eS (decide (¬ b < 0 ∧ ¬ x < 2)) (-4) (eS (decide (b ≤ 7 ∧ x ≤ 20)) (-6) (eS (inR w 0 1) (-2) 0)))))) th sb ++ wR G (ad 1) kd r ++ wR G (ad 2) ((k1, r1).1) ((k1, r1).2) ++ wR G (ad 3) k2 r2 ++ wK (ad 4)) := by rw [hE]; simp only [sel_n hne]; exact hD
              refine hret _ _ _ _ _ _ (4000000000000000000 - (ee.2.1).toInt64) (k1, r1) dX0_draughtTold_69 ?_ hP hD hS (Nat.le_of_ble_eq_true rfl) (Nat.le_of_ble_eq_true rfl)
              rw [hE, sel_n hne]
            · skip
              refine W.widen (k := 3) (n := 21) (Nat.le_of_ble_eq_true rfl) (Nat.le_of_ble_eq_true rfl) ?_
              exact absurd hw_12 (by rw [ef_41]; decide)
          · skip
            refine lv_iload_n hx hb dX0_draughtTold_30 rfl (lv_at hl 3 rfl) ?_
            refine lv_bipush (v := 20) hx hb dX0_draughtTold_31 (by decide) ?_
            refine lv_icmp_gt (tgt := 40) hx hb dX0_draughtTold_33 (by decide) (fun c_14 => ?_) (fun c_14 => ?_)
            · skip
              refine lv_iconst (v := 0) hx hb dX0_draughtTold_40 (by decide) ?_
              have eb_41 : (0 : Int32) = bI (decide (b ≤ 7 ∧ x ≤ 20)) := bI_F (decide_eq_false (fun z => absurd c_14 (Int32.not_lt.mpr z.2)))
              rw [eb_41]
              have ef_41 : (decide (b ≤ 7 ∧ x ≤ 20)) = false := bI_0.mp eb_41.symm
              refine lv_bipush (v := (-6)) hx hb dX0_draughtTold_41 (by decide) ?_
              refine y_Sv (wN := fun _ => (wX G ad ho rn ln dr ro lt rf th sb ++ wR G (ad 1) kd r ++ wR G (ad 2) k1 r1 ++ wR G (ad 3) k2 r2 ++ wK (ad 4))) (wNx := fun u9 => (wX G ad ho rn ln dr ro lt rf th sb ++ wR G (ad 1) kd r ++ wR G (ad 2) k1 r1 ++ wR G (ad 3) k2 r2 ++ wK (ad 4))) ⟨C0, hK, hP, hD, hS, hA⟩ hZ ((m_must l hl0 G (decide (b ≤ 7 ∧ x ≤ 20)) (-6))) (va_cwS 2 hts (lw_S q286 q287 q86 q288) rfl rfl rfl (by decide +kernel) ⟨Nat.le_of_ble_eq_true rfl, Nat.le_of_ble_eq_true rfl⟩) [] [0, 2, 4, 6, 8, 10, 12, 14, 16, 18, 20, 22, 24, 26, 28, 30, 32, 34, 36, 38, 40, 42, 44, 46, 48, 50, 52, 54, 56, 58, 60] [0, 2, 4, 6, 8, 10, 12, 14, 16, 18, 20, 22, 24, 26, 28, 30, 32, 34, 36, 38, 40, 42, 44, 46, 48, 50, 52, 54, 56, 58, 60, 1] rfl (fun _ => rfl) (fun _ _ _ => rfl) rfl rfl rfl hl.1 rfl (Nat.le_of_ble_eq_true rfl) dX0_draughtTold_43 ⟨(Nat.le_of_ble_eq_true rfl), (Nat.le_of_ble_eq_true rfl)⟩ (fun q9 u9 ee H locs hw_15 hP hD hS => ?_) (fun u_15 H locs hw_15 hP hD hS => ?_)
              · skip
                refine z_catch ⟨0, 60, 61, 239⟩ hown hK htb rfl (by decide) (by decide) (hts _ q273) hP ?_
                obtain ⟨h8, h9⟩ := hw_15
                have hE : eS (tB r t) (-1) (eS (decide (¬ b < 0 ∧ ¬ x < 2)) (-4) (eS (decide (b ≤ 7 ∧ x ≤ 20)) (-6) (eS (inR w 0 1) (-2) 0))) = ee.2.1 := by rw [eS_t hw_1, eS_t hw_9, eS_f h8]; exact h9.symm
                have hne : ee.2.1 ≠ 0 := by rw [h9]; decide
                refine lv_astore (lv' := [(5, .ref q9), (0, .ref (ad 0 0)), (1, .int t), (2, .int b), (3, .int x), (4, .int w)]) hx hb dX0_draughtTold_61 hl (by decide) rfl (fun ls hl => ?_)
                refine lv_aload_n hx hb dX0_draughtTold_63 rfl (lv_at hl 1 rfl) ?_
                refine lv_aload hx hb dX0_draughtTold_64 (lv_at hl 0 rfl) ?_
                refine x_Vl (wN := fun _ => (wX G ad ho rn ln dr ro lt (rfU rf ee.2.1) th sb ++ wR G (ad 1) kd r ++ wR G (ad 2) k1 r1 ++ wR G (ad 3) k2 r2 ++ wK (ad 4) ++ [yEc q9 ee])) ⟨C0, hK, hP, hD, hS, hA⟩ 0 rfl (ci := 0) rfl rfl ((m_far l G ad kd k1 k2 r r1 r2 ho rn ln dr ro lt rf th sb hr hp hk q9 ee (by rw [← hE]; exact (rfOk_S rfOk_k.1 (rfOk_S rfOk_k.2.2.2.1 (rfOk_S rfOk_k.2.2.2.2 (rfOk_S rfOk_k.2.1 rfOk_0))))))) (cwV 1 hts (lw_V q1113 q1115 qs65 q86 q1116) rfl rfl rfl (by decide +kernel) ⟨Nat.le_of_ble_eq_true rfl, Nat.le_of_ble_eq_true rfl⟩) [0, 1, 2, 3, 4, 5, 6, 7, 8, 9, 10, 11, 12, 13, 14, 15, 16, 17, 18, 19, 20, 21, 22, 23, 24, 25, 26, 27, 28, 29, 30, 31] [1, 3, 5, 7, 9, 11, 13, 15, 17, 19, 21, 23, 25, 27, 29, 31, 33, 35, 37, 39, 41, 43, 45, 47, 49, 51, 53, 55, 57, 59, 61, 63] rfl (fun _ => rfl) rfl rfl hl.1 rfl (Nat.le_of_ble_eq_true rfl) dX0_draughtTold_66 ⟨(Nat.le_of_ble_eq_true rfl), (Nat.le_of_ble_eq_true rfl)⟩ (fun r_16 u_16 H locs hw_16 hP hD hS => ?_)
                have hw_16 : (4000000000000000000 - (ee.2.1).toInt64 : Int64) = r_16 := hw_16.symm
                subst hw_16
                have hP : va_P G.1 vwCl (wX G ad ho rn ln dr ro lt (rfU rf ee.2.1) th sb ++ wR G (ad 1) kd r ++ wR G (ad 2) k1 r1 ++ wR G (ad 3) k2 r2 ++ wK (ad 4) ++ [yEc q9 ee]) H := hP
                have hD : va_D A (wX G ad ho rn ln dr ro lt (rfU rf ee.2.1) th sb ++ wR G (ad 1) kd r ++ wR G (ad 2) k1 r1 ++ wR G (ad 3) k2 r2 ++ wK (ad 4) ++ [yEc q9 ee]) := hD
                have hP := x_dropP hP
                have hD := x_dropD hD
                have hP : va_P G.1 vwCl (wX G ad ho rn ln dr ro lt (sel (eS (tB r t) (-1) (eS (decide (¬ b < 0 ∧ ¬ x < 2)) (-4) (eS (decide (b ≤ 7 ∧ x ≤ 20)) (-6) (eS (inR w 0 1) (-2) 0)))) rf (rfU rf (eS (tB r t) (-1) (eS (decide (¬ b < 0 ∧ ¬ x < 2)) (-4) (eS (decide (b ≤ 7 ∧ x ≤ 20)) (-6) (eS (inR w 0 1) (-2) 0)))))) th sb ++ wR G (ad 1) kd r ++ wR G (ad 2) ((k1, r1).1) ((k1, r1).2) ++ wR G (ad 3) k2 r2 ++ wK (ad 4)) H := by rw [hE]; simp only [sel_n hne]; exact hP
                have hD : va_D A (wX G ad ho rn ln dr ro lt (sel (eS (tB r t) (-1) (eS (decide (¬ b < 0 ∧ ¬ x < 2)) (-4) (eS (decide (b ≤ 7 ∧ x ≤ 20)) (-6) (eS (inR w 0 1) (-2) 0)))) rf (rfU rf (eS (tB r t) (-1) (eS (decide (¬ b < 0 ∧ ¬ x < 2)) (-4) (eS (decide (b ≤ 7 ∧ x ≤ 20)) (-6) (eS (inR w 0 1) (-2) 0)))))) th sb ++ wR G (ad 1) kd r ++ wR G (ad 2) ((k1, r1).1) ((k1, r1).2) ++ wR G (ad 3) k2 r2 ++ wK (ad 4)) := by rw [hE]; simp only [sel_n hne]; exact hD
                refine hret _ _ _ _ _ _ (4000000000000000000 - (ee.2.1).toInt64) (k1, r1) dX0_draughtTold_69 ?_ hP hD hS (Nat.le_of_ble_eq_true rfl) (Nat.le_of_ble_eq_true rfl)
                rw [hE, sel_n hne]
              · skip
                refine W.widen (k := 3) (n := 21) (Nat.le_of_ble_eq_true rfl) (Nat.le_of_ble_eq_true rfl) ?_
                exact absurd hw_15 (by rw [ef_41]; decide)
            · skip
              refine lv_iconst (v := 1) hx hb dX0_draughtTold_36 (by decide) ?_
              refine lv_goto (tgt := 41) hx hb dX0_draughtTold_37 (by decide) ?_
              have eb_41 : (1 : Int32) = bI (decide (b ≤ 7 ∧ x ≤ 20)) := bI_T (decide_eq_true (⟨Int32.not_lt.mp c_11, Int32.not_lt.mp c_14⟩))
              rw [eb_41]
              refine lv_bipush (v := (-6)) hx hb dX0_draughtTold_41 (by decide) ?_
              refine y_Sv (wN := fun _ => (wX G ad ho rn ln dr ro lt rf th sb ++ wR G (ad 1) kd r ++ wR G (ad 2) k1 r1 ++ wR G (ad 3) k2 r2 ++ wK (ad 4))) (wNx := fun u9 => (wX G ad ho rn ln dr ro lt rf th sb ++ wR G (ad 1) kd r ++ wR G (ad 2) k1 r1 ++ wR G (ad 3) k2 r2 ++ wK (ad 4))) ⟨C0, hK, hP, hD, hS, hA⟩ hZ ((m_must l hl0 G (decide (b ≤ 7 ∧ x ≤ 20)) (-6))) (va_cwS 2 hts (lw_S q286 q287 q86 q288) rfl rfl rfl (by decide +kernel) ⟨Nat.le_of_ble_eq_true rfl, Nat.le_of_ble_eq_true rfl⟩) [] [0, 2, 4, 6, 8, 10, 12, 14, 16, 18, 20, 22, 24, 26, 28, 30, 32, 34, 36, 38, 40, 42, 44, 46, 48, 50, 52, 54, 56, 58, 60] [0, 2, 4, 6, 8, 10, 12, 14, 16, 18, 20, 22, 24, 26, 28, 30, 32, 34, 36, 38, 40, 42, 44, 46, 48, 50, 52, 54, 56, 58, 60, 1] rfl (fun _ => rfl) (fun _ _ _ => rfl) rfl rfl rfl hl.1 rfl (Nat.le_of_ble_eq_true rfl) dX0_draughtTold_43 ⟨(Nat.le_of_ble_eq_true rfl), (Nat.le_of_ble_eq_true rfl)⟩ (fun q9 u9 ee H locs hw_17 hP hD hS => ?_) (fun u_17 H locs hw_17 hP hD hS => ?_)
              · skip
                refine z_catch ⟨0, 60, 61, 239⟩ hown hK htb rfl (by decide) (by decide) (hts _ q273) hP ?_
                obtain ⟨h8, h9⟩ := hw_17
                have hE : eS (tB r t) (-1) (eS (decide (¬ b < 0 ∧ ¬ x < 2)) (-4) (eS (decide (b ≤ 7 ∧ x ≤ 20)) (-6) (eS (inR w 0 1) (-2) 0))) = ee.2.1 := by rw [eS_t hw_1, eS_t hw_9, eS_f h8]; exact h9.symm
                have hne : ee.2.1 ≠ 0 := by rw [h9]; decide
                refine lv_astore (lv' := [(5, .ref q9), (0, .ref (ad 0 0)), (1, .int t), (2, .int b), (3, .int x), (4, .int w)]) hx hb dX0_draughtTold_61 hl (by decide) rfl (fun ls hl => ?_)
                refine lv_aload_n hx hb dX0_draughtTold_63 rfl (lv_at hl 1 rfl) ?_
                refine lv_aload hx hb dX0_draughtTold_64 (lv_at hl 0 rfl) ?_
                refine x_Vl (wN := fun _ => (wX G ad ho rn ln dr ro lt (rfU rf ee.2.1) th sb ++ wR G (ad 1) kd r ++ wR G (ad 2) k1 r1 ++ wR G (ad 3) k2 r2 ++ wK (ad 4) ++ [yEc q9 ee])) ⟨C0, hK, hP, hD, hS, hA⟩ 0 rfl (ci := 0) rfl rfl ((m_far l G ad kd k1 k2 r r1 r2 ho rn ln dr ro lt rf th sb hr hp hk q9 ee (by rw [← hE]; exact (rfOk_S rfOk_k.1 (rfOk_S rfOk_k.2.2.2.1 (rfOk_S rfOk_k.2.2.2.2 (rfOk_S rfOk_k.2.1 rfOk_0))))))) (cwV 1 hts (lw_V q1113 q1115 qs65 q86 q1116) rfl rfl rfl (by decide +kernel) ⟨Nat.le_of_ble_eq_true rfl, Nat.le_of_ble_eq_true rfl⟩) [0, 1, 2, 3, 4, 5, 6, 7, 8, 9, 10, 11, 12, 13, 14, 15, 16, 17, 18, 19, 20, 21, 22, 23, 24, 25, 26, 27, 28, 29, 30, 31] [1, 3, 5, 7, 9, 11, 13, 15, 17, 19, 21, 23, 25, 27, 29, 31, 33, 35, 37, 39, 41, 43, 45, 47, 49, 51, 53, 55, 57, 59, 61, 63] rfl (fun _ => rfl) rfl rfl hl.1 rfl (Nat.le_of_ble_eq_true rfl) dX0_draughtTold_66 ⟨(Nat.le_of_ble_eq_true rfl), (Nat.le_of_ble_eq_true rfl)⟩ (fun r_18 u_18 H locs hw_18 hP hD hS => ?_)
                have hw_18 : (4000000000000000000 - (ee.2.1).toInt64 : Int64) = r_18 := hw_18.symm
                subst hw_18
                have hP : va_P G.1 vwCl (wX G ad ho rn ln dr ro lt (rfU rf ee.2.1) th sb ++ wR G (ad 1) kd r ++ wR G (ad 2) k1 r1 ++ wR G (ad 3) k2 r2 ++ wK (ad 4) ++ [yEc q9 ee]) H := hP
                have hD : va_D A (wX G ad ho rn ln dr ro lt (rfU rf ee.2.1) th sb ++ wR G (ad 1) kd r ++ wR G (ad 2) k1 r1 ++ wR G (ad 3) k2 r2 ++ wK (ad 4) ++ [yEc q9 ee]) := hD
                have hP := x_dropP hP
                have hD := x_dropD hD
                have hP : va_P G.1 vwCl (wX G ad ho rn ln dr ro lt (sel (eS (tB r t) (-1) (eS (decide (¬ b < 0 ∧ ¬ x < 2)) (-4) (eS (decide (b ≤ 7 ∧ x ≤ 20)) (-6) (eS (inR w 0 1) (-2) 0)))) rf (rfU rf (eS (tB r t) (-1) (eS (decide (¬ b < 0 ∧ ¬ x < 2)) (-4) (eS (decide (b ≤ 7 ∧ x ≤ 20)) (-6) (eS (inR w 0 1) (-2) 0)))))) th sb ++ wR G (ad 1) kd r ++ wR G (ad 2) ((k1, r1).1) ((k1, r1).2) ++ wR G (ad 3) k2 r2 ++ wK (ad 4)) H := by rw [hE]; simp only [sel_n hne]; exact hP
                have hD : va_D A (wX G ad ho rn ln dr ro lt (sel (eS (tB r t) (-1) (eS (decide (¬ b < 0 ∧ ¬ x < 2)) (-4) (eS (decide (b ≤ 7 ∧ x ≤ 20)) (-6) (eS (inR w 0 1) (-2) 0)))) rf (rfU rf (eS (tB r t) (-1) (eS (decide (¬ b < 0 ∧ ¬ x < 2)) (-4) (eS (decide (b ≤ 7 ∧ x ≤ 20)) (-6) (eS (inR w 0 1) (-2) 0)))))) th sb ++ wR G (ad 1) kd r ++ wR G (ad 2) ((k1, r1).1) ((k1, r1).2) ++ wR G (ad 3) k2 r2 ++ wK (ad 4)) := by rw [hE]; simp only [sel_n hne]; exact hD
                refine hret _ _ _ _ _ _ (4000000000000000000 - (ee.2.1).toInt64) (k1, r1) dX0_draughtTold_69 ?_ hP hD hS (Nat.le_of_ble_eq_true rfl) (Nat.le_of_ble_eq_true rfl)
                rw [hE, sel_n hne]
              · skip
                refine W.widen (k := 3) (n := 21) (Nat.le_of_ble_eq_true rfl) (Nat.le_of_ble_eq_true rfl) ?_
                have hq3 := hw_17
                refine lv_iload hx hb dX0_draughtTold_46 (lv_at hl 4 rfl) ?_
                refine y_Sv (wN := fun _ => (wX G ad ho rn ln dr ro lt rf th sb ++ wR G (ad 1) kd r ++ wR G (ad 2) k1 r1 ++ wR G (ad 3) k2 r2 ++ wK (ad 4))) (wNx := fun u9 => (wX G ad ho rn ln dr ro lt rf th sb ++ wR G (ad 1) kd r ++ wR G (ad 2) k1 r1 ++ wR G (ad 3) k2 r2 ++ wK (ad 4))) ⟨C0, hK, hP, hD, hS, hA⟩ hZ ((m_mustBeBit l hl0 G w)) (va_cwS 1 hts (lw_S q808 q809 q86 q810) rfl rfl rfl (by decide +kernel) ⟨Nat.le_of_ble_eq_true rfl, Nat.le_of_ble_eq_true rfl⟩) [] [0, 2, 4, 6, 8, 10, 12, 14, 16, 18, 20, 22, 24, 26, 28, 30, 32, 34, 36, 38, 40, 42, 44, 46, 48, 50, 52, 54, 56, 58, 60] [0, 2, 4, 6, 8, 10, 12, 14, 16, 18, 20, 22, 24, 26, 28, 30, 32, 34, 36, 38, 40, 42, 44, 46, 48, 50, 52, 54, 56, 58, 60, 1] rfl (fun _ => rfl) (fun _ _ _ => rfl) rfl rfl rfl hl.1 rfl (Nat.le_of_ble_eq_true rfl) dX0_draughtTold_48 ⟨(Nat.le_of_ble_eq_true rfl), (Nat.le_of_ble_eq_true rfl)⟩ (fun q9 u9 ee H locs hw_19 hP hD hS => ?_) (fun u_19 H locs hw_19 hP hD hS => ?_)
                · skip
                  refine z_catch ⟨0, 60, 61, 239⟩ hown hK htb rfl (by decide) (by decide) (hts _ q273) hP ?_
                  obtain ⟨h8, h9⟩ := hw_19
                  have hE : eS (tB r t) (-1) (eS (decide (¬ b < 0 ∧ ¬ x < 2)) (-4) (eS (decide (b ≤ 7 ∧ x ≤ 20)) (-6) (eS (inR w 0 1) (-2) 0))) = ee.2.1 := by rw [eS_t hw_1, eS_t hw_9, eS_t hw_17, eS_f h8]; exact h9.symm
                  have hne : ee.2.1 ≠ 0 := by rw [h9]; decide
                  refine lv_astore (lv' := [(5, .ref q9), (0, .ref (ad 0 0)), (1, .int t), (2, .int b), (3, .int x), (4, .int w)]) hx hb dX0_draughtTold_61 hl (by decide) rfl (fun ls hl => ?_)
                  refine lv_aload_n hx hb dX0_draughtTold_63 rfl (lv_at hl 1 rfl) ?_
                  refine lv_aload hx hb dX0_draughtTold_64 (lv_at hl 0 rfl) ?_
                  refine x_Vl (wN := fun _ => (wX G ad ho rn ln dr ro lt (rfU rf ee.2.1) th sb ++ wR G (ad 1) kd r ++ wR G (ad 2) k1 r1 ++ wR G (ad 3) k2 r2 ++ wK (ad 4) ++ [yEc q9 ee])) ⟨C0, hK, hP, hD, hS, hA⟩ 0 rfl (ci := 0) rfl rfl ((m_far l G ad kd k1 k2 r r1 r2 ho rn ln dr ro lt rf th sb hr hp hk q9 ee (by rw [← hE]; exact (rfOk_S rfOk_k.1 (rfOk_S rfOk_k.2.2.2.1 (rfOk_S rfOk_k.2.2.2.2 (rfOk_S rfOk_k.2.1 rfOk_0))))))) (cwV 1 hts (lw_V q1113 q1115 qs65 q86 q1116) rfl rfl rfl (by decide +kernel) ⟨Nat.le_of_ble_eq_true rfl, Nat.le_of_ble_eq_true rfl⟩) [0, 1, 2, 3, 4, 5, 6, 7, 8, 9, 10, 11, 12, 13, 14, 15, 16, 17, 18, 19, 20, 21, 22, 23, 24, 25, 26, 27, 28, 29, 30, 31] [1, 3, 5, 7, 9, 11, 13, 15, 17, 19, 21, 23, 25, 27, 29, 31, 33, 35, 37, 39, 41, 43, 45, 47, 49, 51, 53, 55, 57, 59, 61, 63] rfl (fun _ => rfl) rfl rfl hl.1 rfl (Nat.le_of_ble_eq_true rfl) dX0_draughtTold_66 ⟨(Nat.le_of_ble_eq_true rfl), (Nat.le_of_ble_eq_true rfl)⟩ (fun r_20 u_20 H locs hw_20 hP hD hS => ?_)
                  have hw_20 : (4000000000000000000 - (ee.2.1).toInt64 : Int64) = r_20 := hw_20.symm
                  subst hw_20
                  have hP : va_P G.1 vwCl (wX G ad ho rn ln dr ro lt (rfU rf ee.2.1) th sb ++ wR G (ad 1) kd r ++ wR G (ad 2) k1 r1 ++ wR G (ad 3) k2 r2 ++ wK (ad 4) ++ [yEc q9 ee]) H := hP
                  have hD : va_D A (wX G ad ho rn ln dr ro lt (rfU rf ee.2.1) th sb ++ wR G (ad 1) kd r ++ wR G (ad 2) k1 r1 ++ wR G (ad 3) k2 r2 ++ wK (ad 4) ++ [yEc q9 ee]) := hD
                  have hP := x_dropP hP
                  have hD := x_dropD hD
                  have hP : va_P G.1 vwCl (wX G ad ho rn ln dr ro lt (sel (eS (tB r t) (-1) (eS (decide (¬ b < 0 ∧ ¬ x < 2)) (-4) (eS (decide (b ≤ 7 ∧ x ≤ 20)) (-6) (eS (inR w 0 1) (-2) 0)))) rf (rfU rf (eS (tB r t) (-1) (eS (decide (¬ b < 0 ∧ ¬ x < 2)) (-4) (eS (decide (b ≤ 7 ∧ x ≤ 20)) (-6) (eS (inR w 0 1) (-2) 0)))))) th sb ++ wR G (ad 1) kd r ++ wR G (ad 2) ((k1, r1).1) ((k1, r1).2) ++ wR G (ad 3) k2 r2 ++ wK (ad 4)) H := by rw [hE]; simp only [sel_n hne]; exact hP
                  have hD : va_D A (wX G ad ho rn ln dr ro lt (sel (eS (tB r t) (-1) (eS (decide (¬ b < 0 ∧ ¬ x < 2)) (-4) (eS (decide (b ≤ 7 ∧ x ≤ 20)) (-6) (eS (inR w 0 1) (-2) 0)))) rf (rfU rf (eS (tB r t) (-1) (eS (decide (¬ b < 0 ∧ ¬ x < 2)) (-4) (eS (decide (b ≤ 7 ∧ x ≤ 20)) (-6) (eS (inR w 0 1) (-2) 0)))))) th sb ++ wR G (ad 1) kd r ++ wR G (ad 2) ((k1, r1).1) ((k1, r1).2) ++ wR G (ad 3) k2 r2 ++ wK (ad 4)) := by rw [hE]; simp only [sel_n hne]; exact hD
                  refine hret _ _ _ _ _ _ (4000000000000000000 - (ee.2.1).toInt64) (k1, r1) dX0_draughtTold_69 ?_ hP hD hS (Nat.le_of_ble_eq_true rfl) (Nat.le_of_ble_eq_true rfl)
                  rw [hE, sel_n hne]
                · skip
                  refine W.widen (k := 4) (n := 28) (Nat.le_of_ble_eq_true rfl) (Nat.le_of_ble_eq_true rfl) ?_
                  obtain ⟨hj_t, et_t⟩ := tB_ix hN hq1
                  rw [et_t] at hl
                  obtain ⟨hj_b, et_b⟩ := dr_b (of_decide_eq_true hq2).1 (of_decide_eq_true hq3).1
                  rw [et_b] at hl
                  obtain ⟨hi_x, hj_x, et_x⟩ := dr_x (of_decide_eq_true hq2).2 (of_decide_eq_true hq3).2
                  rw [et_x] at hl
                  refine lv_aload_n hx hb dX0_draughtTold_51 rfl (lv_at hl 0 rfl) ?_
                  refine lv_iload_n hx hb dX0_draughtTold_52 rfl (lv_at hl 1 rfl) ?_
                  refine lv_iload_n hx hb dX0_draughtTold_53 rfl (lv_at hl 2 rfl) ?_
                  refine lv_iload_n hx hb dX0_draughtTold_54 rfl (lv_at hl 3 rfl) ?_
                  refine lv_iload hx hb dX0_draughtTold_55 (lv_at hl 4 rfl) ?_
                  refine x_Vl (wN := fun u_21 => (wX G ad ho rn ln dr ro lt rf th sb ++ wR G (ad 1) kd r ++ wR G (ad 2) u_21.1 u_21.2 ++ wR G (ad 3) k2 r2 ++ wK (ad 4))) ⟨C0, hK, hP, hD, hS, hA⟩ 0 rfl (ci := 0) rfl rfl ((m_draughtPart l G ad kd k1 k2 r r1 r2 ho rn ln dr ro lt rf th sb hr hp hk (ix t) (ix b) (ix x) w (by omega) (by omega) (by omega) (by omega))) (cwV 4 hts (lw_V q1103 q1105 qs64 q86 q1106) rfl rfl rfl (by decide +kernel) ⟨Nat.le_of_ble_eq_true rfl, Nat.le_of_ble_eq_true rfl⟩) [0, 1, 2, 3, 4, 5, 6, 7, 8, 9, 10, 11, 12, 13, 14, 15, 16, 17, 18, 19, 20, 21, 22, 23, 24, 25, 26, 27, 28, 29, 30] [1, 3, 5, 7, 9, 11, 13, 15, 17, 19, 21, 23, 25, 27, 29, 31, 33, 35, 37, 39, 41, 43, 45, 47, 49, 51, 53, 55, 57, 59, 61] rfl (fun _ => rfl) rfl rfl hl.1 rfl (Nat.le_of_ble_eq_true rfl) dX0_draughtTold_57 ⟨(Nat.le_of_ble_eq_true rfl), (Nat.le_of_ble_eq_true rfl)⟩ (fun r_21 u_21 H locs hw_21 hP hD hS => ?_)
                  have hw_21 : (pDr r (ix t) (ix b) (ix x) w : Int64) = r_21 := hw_21.symm
                  subst hw_21
                  have hP : va_P G.1 vwCl (wX G ad ho rn ln dr ro lt rf th sb ++ wR G (ad 1) kd r ++ wR G (ad 2) u_21.1 u_21.2 ++ wR G (ad 3) k2 r2 ++ wK (ad 4)) H := hP
                  have hD : va_D A (wX G ad ho rn ln dr ro lt rf th sb ++ wR G (ad 1) kd r ++ wR G (ad 2) u_21.1 u_21.2 ++ wR G (ad 3) k2 r2 ++ wK (ad 4)) := hD
                  have hE : eS (tB r t) (-1) (eS (decide (¬ b < 0 ∧ ¬ x < 2)) (-4) (eS (decide (b ≤ 7 ∧ x ≤ 20)) (-6) (eS (inR w 0 1) (-2) 0))) = 0 := by rw [eS_t hw_1, eS_t hw_9, eS_t hw_17, eS_t hw_19]
                  have hP : va_P G.1 vwCl (wX G ad ho rn ln dr ro lt (sel (eS (tB r t) (-1) (eS (decide (¬ b < 0 ∧ ¬ x < 2)) (-4) (eS (decide (b ≤ 7 ∧ x ≤ 20)) (-6) (eS (inR w 0 1) (-2) 0)))) rf (rfU rf (eS (tB r t) (-1) (eS (decide (¬ b < 0 ∧ ¬ x < 2)) (-4) (eS (decide (b ≤ 7 ∧ x ≤ 20)) (-6) (eS (inR w 0 1) (-2) 0)))))) th sb ++ wR G (ad 1) kd r ++ wR G (ad 2) ((u_21.1, u_21.2).1) ((u_21.1, u_21.2).2) ++ wR G (ad 3) k2 r2 ++ wK (ad 4)) H := by rw [hE]; simp only [sel_0 rfl]; exact hP
                  have hD : va_D A (wX G ad ho rn ln dr ro lt (sel (eS (tB r t) (-1) (eS (decide (¬ b < 0 ∧ ¬ x < 2)) (-4) (eS (decide (b ≤ 7 ∧ x ≤ 20)) (-6) (eS (inR w 0 1) (-2) 0)))) rf (rfU rf (eS (tB r t) (-1) (eS (decide (¬ b < 0 ∧ ¬ x < 2)) (-4) (eS (decide (b ≤ 7 ∧ x ≤ 20)) (-6) (eS (inR w 0 1) (-2) 0)))))) th sb ++ wR G (ad 1) kd r ++ wR G (ad 2) ((u_21.1, u_21.2).1) ((u_21.1, u_21.2).2) ++ wR G (ad 3) k2 r2 ++ wK (ad 4)) := by rw [hE]; simp only [sel_0 rfl]; exact hD
                  refine hret _ _ _ _ _ _ (pDr r (ix t) (ix b) (ix x) w) (u_21.1, u_21.2) dX0_draughtTold_60 ?_ hP hD hS (Nat.le_of_ble_eq_true rfl) (Nat.le_of_ble_eq_true rfl)
                  rw [hE, sel_0 rfl]
set_option maxHeartbeats 4000000 in
set_option maxRecDepth 100000 in
theorem m_draught (l : Launch) (hl0 : l.stackTraces = false) (G : xG) (ad : Nat → Nat → Nat) (kd k1 k2 : Nat → Option Nat) (r r1 r2 : Rw) (ho rn ln dr : Int32) (ro lt rf th sb : Nat → Int32) (hr : Ok r) (hp : r 5 3 = 0) (hk : kOk (ad 4) kd r) (t b x w : Int32) : zCl l G yX0_draught (ws_ yX0_draught cX0_draught 5 (some .long)) ({ frames := 11, cells := 4, slots := 28, locals := 196 } : Room) [.ref (ad 0 0), .int t, .int b, .int x, .int w] (wX G ad ho rn ln dr ro lt rf th sb ++ wR G (ad 1) kd r ++ wR G (ad 2) k1 r1 ++ wR G (ad 3) k2 r2 ++ wK (ad 4)) (S := ((Nat → Option Nat) × Rw)) (fun v _ => v = sel (eS (tB r t) (-1) (eS (decide (¬ b < 0 ∧ ¬ x < 2)) (-4) (eS (decide (b ≤ 7 ∧ x ≤ 20)) (-6) (eS (inR w 0 1) (-2) 0)))) (pDr r (ix t) (ix b) (ix x) w) (4000000000000000000 - (eS (tB r t) (-1) (eS (decide (¬ b < 0 ∧ ¬ x < 2)) (-4) (eS (decide (b ≤ 7 ∧ x ≤ 20)) (-6) (eS (inR w 0 1) (-2) 0)))).toInt64)) (fun u => (wX G ad ho rn ln dr ro lt (sel (eS (tB r t) (-1) (eS (decide (¬ b < 0 ∧ ¬ x < 2)) (-4) (eS (decide (b ≤ 7 ∧ x ≤ 20)) (-6) (eS (inR w 0 1) (-2) 0)))) rf (rfU rf (eS (tB r t) (-1) (eS (decide (¬ b < 0 ∧ ¬ x < 2)) (-4) (eS (decide (b ≤ 7 ∧ x ≤ 20)) (-6) (eS (inR w 0 1) (-2) 0)))))) th sb ++ wR G (ad 1) kd r ++ wR G (ad 2) u.1 u.2 ++ wR G (ad 3) k2 r2 ++ wK (ad 4))) := by
  refine z_openl (by decide) (Nat.le_of_ble_eq_true rfl) ?_
  intro p e s m args below meth c A Q ls C0 hK hZ hP hD hA hl hret
  obtain ⟨hx, hb, hml, hown, hts⟩ := id C0
  have hS : va_S A s.heap s.heap [] := va_S.rf
  have hP : va_P G.1 vwCl (wX G ad ho rn ln dr ro lt rf th sb ++ wR G (ad 1) kd r ++ wR G (ad 2) k1 r1 ++ wR G (ad 3) k2 r2 ++ wK (ad 4)) s.heap := hP
  have hD : va_D A (wX G ad ho rn ln dr ro lt rf th sb ++ wR G (ad 1) kd r ++ wR G (ad 2) k1 r1 ++ wR G (ad 3) k2 r2 ++ wK (ad 4)) := hD
  have hl : lv_has ls 5 [(0, .ref (ad 0 0)), (1, .int t), (2, .int b), (3, .int x), (4, .int w)] := hl
  have hr0 := hr.n
  have hN := hr.le
  refine lv_aload_n hx hb dX0_draught_0 rfl (lv_at hl 0 rfl) ?_
  refine lv_iload_n hx hb dX0_draught_1 rfl (lv_at hl 1 rfl) ?_
  refine lv_iload_n hx hb dX0_draught_2 rfl (lv_at hl 2 rfl) ?_
  refine lv_iload_n hx hb dX0_draught_3 rfl (lv_at hl 3 rfl) ?_
  refine lv_iload hx hb dX0_draught_4 (lv_at hl 4 rfl) ?_
  refine z_VWl (wN := fun u_1 => (wX G ad ho rn ln dr ro lt (sel (eS (tB r t) (-1) (eS (decide (¬ b < 0 ∧ ¬ x < 2)) (-4) (eS (decide (b ≤ 7 ∧ x ≤ 20)) (-6) (eS (inR w 0 1) (-2) 0)))) rf (rfU rf (eS (tB r t) (-1) (eS (decide (¬ b < 0 ∧ ¬ x < 2)) (-4) (eS (decide (b ≤ 7 ∧ x ≤ 20)) (-6) (eS (inR w 0 1) (-2) 0)))))) th sb ++ wR G (ad 1) kd r ++ wR G (ad 2) u_1.1 u_1.2 ++ wR G (ad 3) k2 r2 ++ wK (ad 4))) ⟨C0, hK, hP, hD, hS, hA⟩ hZ 0 rfl (ci := 0) rfl rfl ((m_draughtTold l hl0 G ad kd k1 k2 r r1 r2 ho rn ln dr ro lt rf th sb hr hp hk t b x w)) (vy_cwVW 4 hts (lw_VW q1099 q1101 qs63 q86 q1102) rfl rfl rfl (by decide +kernel) ⟨Nat.le_of_ble_eq_true rfl, Nat.le_of_ble_eq_true rfl⟩) [0, 1, 2, 3, 4, 5, 6, 7, 8, 9, 10, 11, 12, 13, 14, 15, 16, 17, 18, 19, 20, 21, 22, 23, 24, 25, 26, 27, 28, 29, 30] [1, 3, 5, 7, 9, 11, 13, 15, 17, 19, 21, 23, 25, 27, 29, 31, 33, 35, 37, 39, 41, 43, 45, 47, 49, 51, 53, 55, 57, 59, 61] rfl (fun _ => rfl) rfl rfl hl.1 rfl (Nat.le_of_ble_eq_true rfl) dX0_draught_6 ⟨(Nat.le_of_ble_eq_true rfl), (Nat.le_of_ble_eq_true rfl)⟩ (fun r_1 u_1 H locs hw_1 hP hD hS => ?_)
  have hP : va_P G.1 vwCl (wX G ad ho rn ln dr ro lt (sel (eS (tB r t) (-1) (eS (decide (¬ b < 0 ∧ ¬ x < 2)) (-4) (eS (decide (b ≤ 7 ∧ x ≤ 20)) (-6) (eS (inR w 0 1) (-2) 0)))) rf (rfU rf (eS (tB r t) (-1) (eS (decide (¬ b < 0 ∧ ¬ x < 2)) (-4) (eS (decide (b ≤ 7 ∧ x ≤ 20)) (-6) (eS (inR w 0 1) (-2) 0)))))) th sb ++ wR G (ad 1) kd r ++ wR G (ad 2) u_1.1 u_1.2 ++ wR G (ad 3) k2 r2 ++ wK (ad 4)) H := hP
  have hD : va_D A (wX G ad ho rn ln dr ro lt (sel (eS (tB r t) (-1) (eS (decide (¬ b < 0 ∧ ¬ x < 2)) (-4) (eS (decide (b ≤ 7 ∧ x ≤ 20)) (-6) (eS (inR w 0 1) (-2) 0)))) rf (rfU rf (eS (tB r t) (-1) (eS (decide (¬ b < 0 ∧ ¬ x < 2)) (-4) (eS (decide (b ≤ 7 ∧ x ≤ 20)) (-6) (eS (inR w 0 1) (-2) 0)))))) th sb ++ wR G (ad 1) kd r ++ wR G (ad 2) u_1.1 u_1.2 ++ wR G (ad 3) k2 r2 ++ wK (ad 4)) := hD
  refine W.widen (k := 4) (n := 28) (Nat.le_of_ble_eq_true rfl) (Nat.le_of_ble_eq_true rfl) ?_
  refine hret _ _ _ _ _ _ r_1 u_1 dX0_draught_9 ?_ hP hD hS (Nat.le_of_ble_eq_true rfl) (Nat.le_of_ble_eq_true rfl)
  exact hw_1

/-! act, by what is done (printed by tools/acts2.py) -/
set_option maxRecDepth 100000
theorem rfOk_0 : rfOk 0 := fun _ => ⟨0, by omega, rfl⟩
theorem rfOk_k : rfOk (-1) ∧ rfOk (-2) ∧ rfOk (-3) ∧ rfOk (-4) ∧ rfOk (-6) := ⟨fun _ => ⟨1, by omega, rfl⟩, fun _ => ⟨2, by omega, rfl⟩, fun _ => ⟨3, by omega, rfl⟩, fun _ => ⟨4, by omega, rfl⟩, fun _ => ⟨6, by omega, rfl⟩⟩
theorem rfOk_S {b : Bool} {n k : Int32} (h1 : rfOk n) (h2 : rfOk k) : rfOk (eS b n k) := by unfold eS; split <;> first | exact h2 | exact h1
theorem rfOk_W {v lo hi : Int} {k : Int32} (h2 : rfOk k) : rfOk (eW (wBy v lo hi) k) := by
  unfold eW wBy
  repeat' split
  all_goals first | exact h2 | exact rfOk_0 | exact rfOk_k.2.2.2.1 | exact rfOk_k.2.2.2.2
set_option maxHeartbeats 4000000 in
set_option maxRecDepth 100000 in
theorem m_X11_number (l : Launch) (G : xG) (q : Nat) (v1 v2 v3 : Value) (n : Int32) : xCi l G yX11_number cX11_number 1 (some .int) ({ frames := 0, cells := 0, slots := 0, locals := 0 } : Room) [.ref q] ([(q, .inr (9, [v1, v2, v3, .null, .null, .int 0, .int n]))]) (S := Unit) (fun v _ => v = n) (fun _ => ([(q, .inr (9, [v1, v2, v3, .null, .null, .int 0, .int n]))])) := by
  refine x_openi (by decide) (Nat.le_of_ble_eq_true rfl) (fun _ _ _ => rfl) ?_
  intro p e s m args below meth c A Q ls C0 hK hP hD hA hl hret
  obtain ⟨hx, hb, hml, hown, hts⟩ := id C0
  have hS : va_S A s.heap s.heap [] := va_S.rf
  have hP : va_P G.1 vwCl ([(q, .inr (9, [v1, v2, v3, .null, .null, .int 0, .int n]))]) s.heap := hP
  have hD : va_D A ([(q, .inr (9, [v1, v2, v3, .null, .null, .int 0, .int n]))]) := hD
  have hl : lv_has ls 1 [(0, .ref q)] := hl
  refine lv_aload_n hx hb dX11_number_0 rfl (lv_at hl 0 rfl) ?_
  refine va_get (D := G.1) (ci := 9) (v := .int n) (C := RX11) (T := TX11) (N := 7) hx hb hts in_X11 hown hK.1 hP 0 rfl rfl 6 (by decide) (hts _ q343) (fun _ h9 => h9) rfl dX11_number_1 ?_
  refine hret _ _ _ _ _ _ n () dX11_number_4 ?_ hP hD hS (Nat.le_of_ble_eq_true rfl) (Nat.le_of_ble_eq_true rfl)
  rfl
set_option maxHeartbeats 4000000 in
set_option maxRecDepth 100000 in
theorem m_X13_number (l : Launch) (G : xG) (q : Nat) (v1 v2 v3 : Value) (n : Int32) : xCi l G yX13_number cX13_number 1 (some .int) ({ frames := 0, cells := 0, slots := 0, locals := 0 } : Room) [.ref q] ([(q, .inr (11, [v1, v2, v3, .null, .null, .int 0, .int n]))]) (S := Unit) (fun v _ => v = n) (fun _ => ([(q, .inr (11, [v1, v2, v3, .null, .null, .int 0, .int n]))])) := by
  refine x_openi (by decide) (Nat.le_of_ble_eq_true rfl) (fun _ _ _ => rfl) ?_
  intro p e s m args below meth c A Q ls C0 hK hP hD hA hl hret
  obtain ⟨hx, hb, hml, hown, hts⟩ := id C0
  have hS : va_S A s.heap s.heap [] := va_S.rf
  have hP : va_P G.1 vwCl ([(q, .inr (11, [v1, v2, v3, .null, .null, .int 0, .int n]))]) s.heap := hP
  have hD : va_D A ([(q, .inr (11, [v1, v2, v3, .null, .null, .int 0, .int n]))]) := hD
  have hl : lv_has ls 1 [(0, .ref q)] := hl
  refine lv_aload_n hx hb dX13_number_0 rfl (lv_at hl 0 rfl) ?_
  refine va_get (D := G.1) (ci := 11) (v := .int n) (C := RX13) (T := TX13) (N := 7) hx hb hts in_X13 hown hK.1 hP 0 rfl rfl 6 (by decide) (hts _ q407) (fun _ h9 => h9) rfl dX13_number_1 ?_
  refine hret _ _ _ _ _ _ n () dX13_number_4 ?_ hP hD hS (Nat.le_of_ble_eq_true rfl) (Nat.le_of_ble_eq_true rfl)
  rfl
set_option maxHeartbeats 4000000 in
set_option maxRecDepth 100000 in
theorem m_act_0 (l : Launch) (hl0 : l.stackTraces = false) (G : xG) (ad : Nat → Nat → Nat) (kd k1 k2 : Nat → Option Nat) (r r1 r2 : Rw) (ho rn ln dr : Int32) (ro lt rf th sb : Nat → Int32) (hr : Ok r) (hp : r 5 3 = 0) (hk : kOk (ad 4) kd r) (c1 z10 z11 z12 z13 : Int32) (lm : Nat) (hln : ln = nI lm) (hlm9 : lm ≤ 96) : zCi l G yX0_act (wsW_ yX0_act cX0_act 8 (some .int) [(0, 49, 50, 239)]) ({ frames := 11, cells := 3, slots := 21, locals := 199 } : Room) [.ref (ad 0 0), .int 0, .int c1, .int z10, .int z11, .int z12, .int z13] (wX G ad ho rn ln dr ro lt rf th sb ++ wR G (ad 1) kd r ++ wR G (ad 2) k1 r1 ++ wR G (ad 3) k2 r2 ++ wK (ad 4)) (S := Unit) (fun v _ => v = sel (eW (wBy c1.toInt 0 255) (eS (decide (lm < 96)) (-6) 0)) (nI (lm + 1)) (eW (wBy c1.toInt 0 255) (eS (decide (lm < 96)) (-6) 0))) (fun _ => (wX G ad ho rn (sel (eW (wBy c1.toInt 0 255) (eS (decide (lm < 96)) (-6) 0)) (nI (lm + 1)) ln) dr ro (sel (eW (wBy c1.toInt 0 255) (eS (decide (lm < 96)) (-6) 0)) (upd lt lm c1) lt) (sel (eW (wBy c1.toInt 0 255) (eS (decide (lm < 96)) (-6) 0)) rf (rfU rf (eW (wBy c1.toInt 0 255) (eS (decide (lm < 96)) (-6) 0)))) th sb ++ wR G (ad 1) kd r ++ wR G (ad 2) k1 r1 ++ wR G (ad 3) k2 r2 ++ wK (ad 4))) := by
  refine z_openiW (hh := [(0, 49, 50, 239)]) (by decide) (Nat.le_of_ble_eq_true rfl) (fun _ _ _ => rfl) ?_
  intro p e s m args below meth c A Q ls C0 hK hZ hP hD hA hl htb hret
  obtain ⟨hx, hb, hml, hown, hts⟩ := id C0
  have hS : va_S A s.heap s.heap [] := va_S.rf
  have hP : va_P G.1 vwCl (wX G ad ho rn ln dr ro lt rf th sb ++ wR G (ad 1) kd r ++ wR G (ad 2) k1 r1 ++ wR G (ad 3) k2 r2 ++ wK (ad 4)) s.heap := hP
  have hD : va_D A (wX G ad ho rn ln dr ro lt rf th sb ++ wR G (ad 1) kd r ++ wR G (ad 2) k1 r1 ++ wR G (ad 3) k2 r2 ++ wK (ad 4)) := hD
  have hl : lv_has ls 8 [(0, .ref (ad 0 0)), (1, .int 0), (2, .int c1), (3, .int z10), (4, .int z11), (5, .int z12), (6, .int z13)] := hl
  have hr0 := hr.n
  have hN := hr.le
  refine lv_iload_n hx hb dX0_act_0 rfl (lv_at hl 1 rfl) ?_
  refine lv_bipush (v := 9) hx hb dX0_act_1 (by decide) ?_
  refine lv_icmp_ge (tgt := 18) hx hb dX0_act_3 (by decide) (fun c_1 => ?_) (fun c_1 => ?_)
  · skip
    exact absurd c_1 (by decide)
  · skip
    refine lv_aload_n hx hb dX0_act_6 rfl (lv_at hl 0 rfl) ?_
    refine lv_iload_n hx hb dX0_act_7 rfl (lv_at hl 1 rfl) ?_
    refine lv_iload_n hx hb dX0_act_8 rfl (lv_at hl 2 rfl) ?_
    refine lv_iload_n hx hb dX0_act_9 rfl (lv_at hl 3 rfl) ?_
    refine lv_iload hx hb dX0_act_10 (lv_at hl 4 rfl) ?_
    refine y_Vi (wN := fun u_2 => (wX G ad ho rn (nI (lm + 1)) dr ro (upd lt lm c1) rf th sb ++ wR G (ad 1) kd r ++ wR G (ad 2) k1 r1 ++ wR G (ad 3) k2 r2 ++ wK (ad 4))) (wNx := fun u9 => (wX G ad ho rn ln dr ro lt rf th sb ++ wR G (ad 1) kd r ++ wR G (ad 2) k1 r1 ++ wR G (ad 3) k2 r2 ++ wK (ad 4))) ⟨C0, hK, hP, hD, hS, hA⟩ hZ 0 rfl (ci := 0) rfl rfl ((m_of_0 l hl0 G ad kd k1 k2 r r1 r2 ho rn ln dr ro lt rf th sb hr hp hk c1 z10 z11 lm hln hlm9)) (cwV 4 hts (lw_V q274 q276 qs1 q86 q277) rfl rfl rfl (by decide +kernel) ⟨Nat.le_of_ble_eq_true rfl, Nat.le_of_ble_eq_true rfl⟩) [0, 1, 2, 3, 4, 5, 6, 7, 8, 9, 10, 11, 12, 13, 14, 15, 16, 17, 18, 19, 20, 21, 22, 23, 24, 25, 26, 27, 28, 29, 30] [1, 3, 5, 7, 9, 11, 13, 15, 17, 19, 21, 23, 25, 27, 29, 31, 33, 35, 37, 39, 41, 43, 45, 47, 49, 51, 53, 55, 57, 59, 61] [1, 3, 5, 7, 9, 11, 13, 15, 17, 19, 21, 23, 25, 27, 29, 31, 33, 35, 37, 39, 41, 43, 45, 47, 49, 51, 53, 55, 57, 59, 61, 63] rfl (fun _ => rfl) (fun _ _ _ => rfl) rfl rfl rfl hl.1 rfl (Nat.le_of_ble_eq_true rfl) dX0_act_12 ⟨(Nat.le_of_ble_eq_true rfl), (Nat.le_of_ble_eq_true rfl)⟩ (fun q9 u9 ee H locs hw_2 hP hD hS => ?_) (fun r_2 u_2 H locs hw_2 hP hD hS => ?_)
    · skip
      refine z_catch ⟨0, 49, 50, 239⟩ hown hK htb rfl (by decide) (by decide) (hts _ q273) hP ?_
      have hthr9 : ee.2.1 = eW (wBy c1.toInt 0 255) (eS (decide (lm < 96)) (-6) 0) ∧ eW (wBy c1.toInt 0 255) (eS (decide (lm < 96)) (-6) 0) ≠ 0 := hw_2
      refine lv_astore (lv' := [(7, .ref q9), (0, .ref (ad 0 0)), (1, .int 0), (2, .int c1), (3, .int z10), (4, .int z11), (5, .int z12), (6, .int z13)]) hx hb dX0_act_50 hl (by decide) rfl (fun ls hl => ?_)
      refine lv_aload_n hx hb dX0_act_52 rfl (lv_at hl 1 rfl) ?_
      refine lv_aload hx hb dX0_act_53 (lv_at hl 0 rfl) ?_
      obtain ⟨ek, en, e1, e2, e3⟩ := ee
      cases ek
      · skip
        have hP : va_P G.1 vwCl (wX G ad ho rn ln dr ro lt rf th sb ++ wR G (ad 1) kd r ++ wR G (ad 2) k1 r1 ++ wR G (ad 3) k2 r2 ++ wK (ad 4) ++ [(q9, .inr (9, [e1, e2, e3, .null, .null, .int 0, .int en]))]) H := hP
        have hD : va_D A (wX G ad ho rn ln dr ro lt rf th sb ++ wR G (ad 1) kd r ++ wR G (ad 2) k1 r1 ++ wR G (ad 3) k2 r2 ++ wK (ad 4) ++ [(q9, .inr (9, [e1, e2, e3, .null, .null, .int 0, .int en]))]) := hD
        obtain ⟨een, hne⟩ := hthr9
        have een : en = eW (wBy c1.toInt 0 255) (eS (decide (lm < 96)) (-6) 0) := een
        subst een
        have hP : va_P G.1 vwCl (wX G ad ho rn ln dr ro lt rf th sb ++ wR G (ad 1) kd r ++ wR G (ad 2) k1 r1 ++ wR G (ad 3) k2 r2 ++ wK (ad 4) ++ [(q9, .inr (9, [e1, e2, e3, .null, .null, .int 0, .int (eW (wBy c1.toInt 0 255) (eS (decide (lm < 96)) (-6) 0))]))]) H := hP
        have hD : va_D A (wX G ad ho rn ln dr ro lt rf th sb ++ wR G (ad 1) kd r ++ wR G (ad 2) k1 r1 ++ wR G (ad 3) k2 r2 ++ wK (ad 4) ++ [(q9, .inr (9, [e1, e2, e3, .null, .null, .int 0, .int (eW (wBy c1.toInt 0 255) (eS (decide (lm < 96)) (-6) 0))]))]) := hD
        refine x_Ui (wN := fun _ => (wX G ad ho rn ln dr ro lt rf th sb ++ wR G (ad 1) kd r ++ wR G (ad 2) k1 r1 ++ wR G (ad 3) k2 r2 ++ wK (ad 4) ++ [(q9, .inr (9, [e1, e2, e3, .null, .null, .int 0, .int (eW (wBy c1.toInt 0 255) (eS (decide (lm < 96)) (-6) 0))]))])) ⟨C0, hK, hP, hD, hS, hA⟩ 31 rfl (ci := 9) rfl rfl ((m_X11_number l G q9 e1 e2 e3 (eW (wBy c1.toInt 0 255) (eS (decide (lm < 96)) (-6) 0)))) (va_cwA (owner := "PulledFromUnder$Refusal") 0 hts (lw_U q990 q992 q996 q997 q100 q998) rfl rfl rfl (hK.2.D 13 rfl) (by decide +kernel) ⟨Nat.le_of_ble_eq_true rfl, Nat.le_of_ble_eq_true rfl⟩) [31] [0, 2, 4, 6, 8, 10, 12, 14, 16, 18, 20, 22, 24, 26, 28, 30, 32, 34, 36, 38, 40, 42, 44, 46, 48, 50, 52, 54, 56, 58, 60, 1] rfl (fun _ => rfl) rfl rfl hl.1 rfl (Nat.le_of_ble_eq_true rfl) dX0_act_55 ⟨(Nat.le_of_ble_eq_true rfl), (Nat.le_of_ble_eq_true rfl)⟩ (fun r_3 u_3 H locs hw_3 hP hD hS => ?_)
        have hw_3 : (eW (wBy c1.toInt 0 255) (eS (decide (lm < 96)) (-6) 0) : Int32) = r_3 := hw_3.symm
        subst hw_3
        refine x_Vi (wN := fun _ => (wX G ad ho rn ln dr ro lt (rfU rf (eW (wBy c1.toInt 0 255) (eS (decide (lm < 96)) (-6) 0))) th sb ++ wR G (ad 1) kd r ++ wR G (ad 2) k1 r1 ++ wR G (ad 3) k2 r2 ++ wK (ad 4) ++ [(q9, .inr (9, [e1, e2, e3, .null, .null, .int 0, .int (eW (wBy c1.toInt 0 255) (eS (decide (lm < 96)) (-6) 0))]))])) ⟨C0, hK, hP, hD, hS, hA⟩ 0 rfl (ci := 0) rfl rfl ((m_refuse l G ad kd k1 k2 r r1 r2 ho rn ln dr ro lt rf th sb hr hp hk (eW (wBy c1.toInt 0 255) (eS (decide (lm < 96)) (-6) 0)) (rfOk_W (rfOk_S rfOk_k.2.2.2.2 rfOk_0)))) (cwV 1 hts (lw_V q999 q1001 qs62 q86 q1002) rfl rfl rfl (by decide +kernel) ⟨Nat.le_of_ble_eq_true rfl, Nat.le_of_ble_eq_true rfl⟩) [0, 1, 2, 3, 4, 5, 6, 7, 8, 9, 10, 11, 12, 13, 14, 15, 16, 17, 18, 19, 20, 21, 22, 23, 24, 25, 26, 27, 28, 29, 30] [1, 3, 5, 7, 9, 11, 13, 15, 17, 19, 21, 23, 25, 27, 29, 31, 33, 35, 37, 39, 41, 43, 45, 47, 49, 51, 53, 55, 57, 59, 61, 62] rfl (fun _ => rfl) rfl rfl hl.1 rfl (Nat.le_of_ble_eq_true rfl) dX0_act_58 ⟨(Nat.le_of_ble_eq_true rfl), (Nat.le_of_ble_eq_true rfl)⟩ (fun r_4 u_4 H locs hw_4 hP hD hS => ?_)
        have hw_4 : (eW (wBy c1.toInt 0 255) (eS (decide (lm < 96)) (-6) 0) : Int32) = r_4 := hw_4.symm
        subst hw_4
        have hP : va_P G.1 vwCl (wX G ad ho rn ln dr ro lt (rfU rf (eW (wBy c1.toInt 0 255) (eS (decide (lm < 96)) (-6) 0))) th sb ++ wR G (ad 1) kd r ++ wR G (ad 2) k1 r1 ++ wR G (ad 3) k2 r2 ++ wK (ad 4) ++ [(q9, .inr (9, [e1, e2, e3, .null, .null, .int 0, .int (eW (wBy c1.toInt 0 255) (eS (decide (lm < 96)) (-6) 0))]))]) H := hP
        have hD : va_D A (wX G ad ho rn ln dr ro lt (rfU rf (eW (wBy c1.toInt 0 255) (eS (decide (lm < 96)) (-6) 0))) th sb ++ wR G (ad 1) kd r ++ wR G (ad 2) k1 r1 ++ wR G (ad 3) k2 r2 ++ wK (ad 4) ++ [(q9, .inr (9, [e1, e2, e3, .null, .null, .int 0, .int (eW (wBy c1.toInt 0 255) (eS (decide (lm < 96)) (-6) 0))]))]) := hD
        have hP := x_dropP hP
        have hD := x_dropD hD
        have hP : va_P G.1 vwCl (wX G ad ho rn (sel (eW (wBy c1.toInt 0 255) (eS (decide (lm < 96)) (-6) 0)) (nI (lm + 1)) ln) dr ro (sel (eW (wBy c1.toInt 0 255) (eS (decide (lm < 96)) (-6) 0)) (upd lt lm c1) lt) (sel (eW (wBy c1.toInt 0 255) (eS (decide (lm < 96)) (-6) 0)) rf (rfU rf (eW (wBy c1.toInt 0 255) (eS (decide (lm < 96)) (-6) 0)))) th sb ++ wR G (ad 1) kd r ++ wR G (ad 2) k1 r1 ++ wR G (ad 3) k2 r2 ++ wK (ad 4)) H := by simp only [sel_n hne]; exact hP
        have hD : va_D A (wX G ad ho rn (sel (eW (wBy c1.toInt 0 255) (eS (decide (lm < 96)) (-6) 0)) (nI (lm + 1)) ln) dr ro (sel (eW (wBy c1.toInt 0 255) (eS (decide (lm < 96)) (-6) 0)) (upd lt lm c1) lt) (sel (eW (wBy c1.toInt 0 255) (eS (decide (lm < 96)) (-6) 0)) rf (rfU rf (eW (wBy c1.toInt 0 255) (eS (decide (lm < 96)) (-6) 0)))) th sb ++ wR G (ad 1) kd r ++ wR G (ad 2) k1 r1 ++ wR G (ad 3) k2 r2 ++ wK (ad 4)) := by simp only [sel_n hne]; exact hD
        refine hret _ _ _ _ _ _ (eW (wBy c1.toInt 0 255) (eS (decide (lm < 96)) (-6) 0)) () dX0_act_61 ?_ hP hD hS (Nat.le_of_ble_eq_true rfl) (Nat.le_of_ble_eq_true rfl)
        exact (sel_n hne).symm
      · skip
        have hP : va_P G.1 vwCl (wX G ad ho rn ln dr ro lt rf th sb ++ wR G (ad 1) kd r ++ wR G (ad 2) k1 r1 ++ wR G (ad 3) k2 r2 ++ wK (ad 4) ++ [(q9, .inr (11, [e1, e2, e3, .null, .null, .int 0, .int en]))]) H := hP
        have hD : va_D A (wX G ad ho rn ln dr ro lt rf th sb ++ wR G (ad 1) kd r ++ wR G (ad 2) k1 r1 ++ wR G (ad 3) k2 r2 ++ wK (ad 4) ++ [(q9, .inr (11, [e1, e2, e3, .null, .null, .int 0, .int en]))]) := hD
        obtain ⟨een, hne⟩ := hthr9
        have een : en = eW (wBy c1.toInt 0 255) (eS (decide (lm < 96)) (-6) 0) := een
        subst een
        have hP : va_P G.1 vwCl (wX G ad ho rn ln dr ro lt rf th sb ++ wR G (ad 1) kd r ++ wR G (ad 2) k1 r1 ++ wR G (ad 3) k2 r2 ++ wK (ad 4) ++ [(q9, .inr (11, [e1, e2, e3, .null, .null, .int 0, .int (eW (wBy c1.toInt 0 255) (eS (decide (lm < 96)) (-6) 0))]))]) H := hP
        have hD : va_D A (wX G ad ho rn ln dr ro lt rf th sb ++ wR G (ad 1) kd r ++ wR G (ad 2) k1 r1 ++ wR G (ad 3) k2 r2 ++ wK (ad 4) ++ [(q9, .inr (11, [e1, e2, e3, .null, .null, .int 0, .int (eW (wBy c1.toInt 0 255) (eS (decide (lm < 96)) (-6) 0))]))]) := hD
        refine x_Ui (wN := fun _ => (wX G ad ho rn ln dr ro lt rf th sb ++ wR G (ad 1) kd r ++ wR G (ad 2) k1 r1 ++ wR G (ad 3) k2 r2 ++ wK (ad 4) ++ [(q9, .inr (11, [e1, e2, e3, .null, .null, .int 0, .int (eW (wBy c1.toInt 0 255) (eS (decide (lm < 96)) (-6) 0))]))])) ⟨C0, hK, hP, hD, hS, hA⟩ 31 rfl (ci := 11) rfl rfl ((m_X13_number l G q9 e1 e2 e3 (eW (wBy c1.toInt 0 255) (eS (decide (lm < 96)) (-6) 0)))) (va_cwA (owner := "PulledFromUnder$Refusal") 0 hts (lw_U q990 q992 q993 q994 q102 q995) rfl rfl rfl (hK.2.D 13 rfl) (by decide +kernel) ⟨Nat.le_of_ble_eq_true rfl, Nat.le_of_ble_eq_true rfl⟩) [31] [0, 2, 4, 6, 8, 10, 12, 14, 16, 18, 20, 22, 24, 26, 28, 30, 32, 34, 36, 38, 40, 42, 44, 46, 48, 50, 52, 54, 56, 58, 60, 1] rfl (fun _ => rfl) rfl rfl hl.1 rfl (Nat.le_of_ble_eq_true rfl) dX0_act_55 ⟨(Nat.le_of_ble_eq_true rfl), (Nat.le_of_ble_eq_true rfl)⟩ (fun r_5 u_5 H locs hw_5 hP hD hS => ?_)
        have hw_5 : (eW (wBy c1.toInt 0 255) (eS (decide (lm < 96)) (-6) 0) : Int32) = r_5 := hw_5.symm
        subst hw_5
        refine x_Vi (wN := fun _ => (wX G ad ho rn ln dr ro lt (rfU rf (eW (wBy c1.toInt 0 255) (eS (decide (lm < 96)) (-6) 0))) th sb ++ wR G (ad 1) kd r ++ wR G (ad 2) k1 r1 ++ wR G (ad 3) k2 r2 ++ wK (ad 4) ++ [(q9, .inr (11, [e1, e2, e3, .null, .null, .int 0, .int (eW (wBy c1.toInt 0 255) (eS (decide (lm < 96)) (-6) 0))]))])) ⟨C0, hK, hP, hD, hS, hA⟩ 0 rfl (ci := 0) rfl rfl ((m_refuse l G ad kd k1 k2 r r1 r2 ho rn ln dr ro lt rf th sb hr hp hk (eW (wBy c1.toInt 0 255) (eS (decide (lm < 96)) (-6) 0)) (rfOk_W (rfOk_S rfOk_k.2.2.2.2 rfOk_0)))) (cwV 1 hts (lw_V q999 q1001 qs62 q86 q1002) rfl rfl rfl (by decide +kernel) ⟨Nat.le_of_ble_eq_true rfl, Nat.le_of_ble_eq_true rfl⟩) [0, 1, 2, 3, 4, 5, 6, 7, 8, 9, 10, 11, 12, 13, 14, 15, 16, 17, 18, 19, 20, 21, 22, 23, 24, 25, 26, 27, 28, 29, 30] [1, 3, 5, 7, 9, 11, 13, 15, 17, 19, 21, 23, 25, 27, 29, 31, 33, 35, 37, 39, 41, 43, 45, 47, 49, 51, 53, 55, 57, 59, 61, 62] rfl (fun _ => rfl) rfl rfl hl.1 rfl (Nat.le_of_ble_eq_true rfl) dX0_act_58 ⟨(Nat.le_of_ble_eq_true rfl), (Nat.le_of_ble_eq_true rfl)⟩ (fun r_6 u_6 H locs hw_6 hP hD hS => ?_)
        have hw_6 : (eW (wBy c1.toInt 0 255) (eS (decide (lm < 96)) (-6) 0) : Int32) = r_6 := hw_6.symm
        subst hw_6
        have hP : va_P G.1 vwCl (wX G ad ho rn ln dr ro lt (rfU rf (eW (wBy c1.toInt 0 255) (eS (decide (lm < 96)) (-6) 0))) th sb ++ wR G (ad 1) kd r ++ wR G (ad 2) k1 r1 ++ wR G (ad 3) k2 r2 ++ wK (ad 4) ++ [(q9, .inr (11, [e1, e2, e3, .null, .null, .int 0, .int (eW (wBy c1.toInt 0 255) (eS (decide (lm < 96)) (-6) 0))]))]) H := hP
        have hD : va_D A (wX G ad ho rn ln dr ro lt (rfU rf (eW (wBy c1.toInt 0 255) (eS (decide (lm < 96)) (-6) 0))) th sb ++ wR G (ad 1) kd r ++ wR G (ad 2) k1 r1 ++ wR G (ad 3) k2 r2 ++ wK (ad 4) ++ [(q9, .inr (11, [e1, e2, e3, .null, .null, .int 0, .int (eW (wBy c1.toInt 0 255) (eS (decide (lm < 96)) (-6) 0))]))]) := hD
        have hP := x_dropP hP
        have hD := x_dropD hD
        have hP : va_P G.1 vwCl (wX G ad ho rn (sel (eW (wBy c1.toInt 0 255) (eS (decide (lm < 96)) (-6) 0)) (nI (lm + 1)) ln) dr ro (sel (eW (wBy c1.toInt 0 255) (eS (decide (lm < 96)) (-6) 0)) (upd lt lm c1) lt) (sel (eW (wBy c1.toInt 0 255) (eS (decide (lm < 96)) (-6) 0)) rf (rfU rf (eW (wBy c1.toInt 0 255) (eS (decide (lm < 96)) (-6) 0)))) th sb ++ wR G (ad 1) kd r ++ wR G (ad 2) k1 r1 ++ wR G (ad 3) k2 r2 ++ wK (ad 4)) H := by simp only [sel_n hne]; exact hP
        have hD : va_D A (wX G ad ho rn (sel (eW (wBy c1.toInt 0 255) (eS (decide (lm < 96)) (-6) 0)) (nI (lm + 1)) ln) dr ro (sel (eW (wBy c1.toInt 0 255) (eS (decide (lm < 96)) (-6) 0)) (upd lt lm c1) lt) (sel (eW (wBy c1.toInt 0 255) (eS (decide (lm < 96)) (-6) 0)) rf (rfU rf (eW (wBy c1.toInt 0 255) (eS (decide (lm < 96)) (-6) 0)))) th sb ++ wR G (ad 1) kd r ++ wR G (ad 2) k1 r1 ++ wR G (ad 3) k2 r2 ++ wK (ad 4)) := by simp only [sel_n hne]; exact hD
        refine hret _ _ _ _ _ _ (eW (wBy c1.toInt 0 255) (eS (decide (lm < 96)) (-6) 0)) () dX0_act_61 ?_ hP hD hS (Nat.le_of_ble_eq_true rfl) (Nat.le_of_ble_eq_true rfl)
        exact (sel_n hne).symm
    · skip
      obtain ⟨hz_2, hw_2⟩ := hw_2
      have hw_2 : (nI (lm + 1) : Int32) = r_2 := hw_2.symm
      subst hw_2
      have hP : va_P G.1 vwCl (wX G ad ho rn (nI (lm + 1)) dr ro (upd lt lm c1) rf th sb ++ wR G (ad 1) kd r ++ wR G (ad 2) k1 r1 ++ wR G (ad 3) k2 r2 ++ wK (ad 4)) H := hP
      have hD : va_D A (wX G ad ho rn (nI (lm + 1)) dr ro (upd lt lm c1) rf th sb ++ wR G (ad 1) kd r ++ wR G (ad 2) k1 r1 ++ wR G (ad 3) k2 r2 ++ wK (ad 4)) := hD
      refine W.widen (k := 3) (n := 21) (Nat.le_of_ble_eq_true rfl) (Nat.le_of_ble_eq_true rfl) ?_
      refine lv_goto (tgt := 49) hx hb dX0_act_15 (by decide) ?_
      have hP : va_P G.1 vwCl (wX G ad ho rn (sel (eW (wBy c1.toInt 0 255) (eS (decide (lm < 96)) (-6) 0)) (nI (lm + 1)) ln) dr ro (sel (eW (wBy c1.toInt 0 255) (eS (decide (lm < 96)) (-6) 0)) (upd lt lm c1) lt) (sel (eW (wBy c1.toInt 0 255) (eS (decide (lm < 96)) (-6) 0)) rf (rfU rf (eW (wBy c1.toInt 0 255) (eS (decide (lm < 96)) (-6) 0)))) th sb ++ wR G (ad 1) kd r ++ wR G (ad 2) k1 r1 ++ wR G (ad 3) k2 r2 ++ wK (ad 4)) H := by simp only [sel_0 hz_2]; exact hP
      have hD : va_D A (wX G ad ho rn (sel (eW (wBy c1.toInt 0 255) (eS (decide (lm < 96)) (-6) 0)) (nI (lm + 1)) ln) dr ro (sel (eW (wBy c1.toInt 0 255) (eS (decide (lm < 96)) (-6) 0)) (upd lt lm c1) lt) (sel (eW (wBy c1.toInt 0 255) (eS (decide (lm < 96)) (-6) 0)) rf (rfU rf (eW (wBy c1.toInt 0 255) (eS (decide (lm < 96)) (-6) 0)))) th sb ++ wR G (ad 1) kd r ++ wR G (ad 2) k1 r1 ++ wR G (ad 3) k2 r2 ++ wK (ad 4)) := by simp only [sel_0 hz_2]; exact hD
      refine hret _ _ _ _ _ _ (nI (lm + 1)) () dX0_act_49 ?_ hP hD hS (Nat.le_of_ble_eq_true rfl) (Nat.le_of_ble_eq_true rfl)
      exact (sel_0 hz_2).symm
set_option maxHeartbeats 4000000 in
set_option maxRecDepth 100000 in
theorem m_act_1 (l : Launch) (hl0 : l.stackTraces = false) (G : xG) (ad : Nat → Nat → Nat) (kd k1 k2 : Nat → Option Nat) (r r1 r2 : Rw) (ho rn ln dr : Int32) (ro lt rf th sb : Nat → Int32) (hr : Ok r) (hp : r 5 3 = 0) (hk : kOk (ad 4) kd r) (z10 z11 z12 z13 z14 : Int32) (z : Nat) (hln : ln = nI z) (hz : z ≤ 96) : zCi l G yX0_act (wsW_ yX0_act cX0_act 8 (some .int) [(0, 49, 50, 239)]) ({ frames := 13, cells := 268, slots := 1898, locals := 244 } : Room) [.ref (ad 0 0), .int 1, .int z10, .int z11, .int z12, .int z13, .int z14] (wX G ad ho rn ln dr ro lt rf th sb ++ wR G (ad 1) kd r ++ wR G (ad 2) k1 r1 ++ wR G (ad 3) k2 r2 ++ wK (ad 4)) (S := ((Nat → Option Nat) × ((Nat → Option Nat) × Rw))) (fun v u => v = sel (rrE lt z r) (nI (sLast lt z + 1)) (rrE lt z r) ∧ kOk (ad 4) u.1 (sel (rrE lt z r) (rrR lt z r (sLast lt z + 1)) r)) (fun u => (wX G ad ho rn 0 dr ro lt (sel (rrE lt z r) rf (rfU rf (rrE lt z r))) th sb ++ wR G (ad 1) u.1 (sel (rrE lt z r) (rrR lt z r (sLast lt z + 1)) r) ++ wR G (ad 2) u.2.1 u.2.2 ++ wR G (ad 3) k2 r2 ++ wK (ad 4))) := by
  refine z_openiW (hh := [(0, 49, 50, 239)]) (by decide) (Nat.le_of_ble_eq_true rfl) (fun _ _ _ => rfl) ?_
  intro p e s m args below meth c A Q ls C0 hK hZ hP hD hA hl htb hret
  obtain ⟨hx, hb, hml, hown, hts⟩ := id C0
  have hS : va_S A s.heap s.heap [] := va_S.rf
  have hP : va_P G.1 vwCl (wX G ad ho rn ln dr ro lt rf th sb ++ wR G (ad 1) kd r ++ wR G (ad 2) k1 r1 ++ wR G (ad 3) k2 r2 ++ wK (ad 4)) s.heap := hP
  have hD : va_D A (wX G ad ho rn ln dr ro lt rf th sb ++ wR G (ad 1) kd r ++ wR G (ad 2) k1 r1 ++ wR G (ad 3) k2 r2 ++ wK (ad 4)) := hD
  have hl : lv_has ls 8 [(0, .ref (ad 0 0)), (1, .int 1), (2, .int z10), (3, .int z11), (4, .int z12), (5, .int z13), (6, .int z14)] := hl
  have hr0 := hr.n
  have hN := hr.le
  refine lv_iload_n hx hb dX0_act_0 rfl (lv_at hl 1 rfl) ?_
  refine lv_bipush (v := 9) hx hb dX0_act_1 (by decide) ?_
  refine lv_icmp_ge (tgt := 18) hx hb dX0_act_3 (by decide) (fun c_1 => ?_) (fun c_1 => ?_)
  · skip
    exact absurd c_1 (by decide)
  · skip
    refine lv_aload_n hx hb dX0_act_6 rfl (lv_at hl 0 rfl) ?_
    refine lv_iload_n hx hb dX0_act_7 rfl (lv_at hl 1 rfl) ?_
    refine lv_iload_n hx hb dX0_act_8 rfl (lv_at hl 2 rfl) ?_
    refine lv_iload_n hx hb dX0_act_9 rfl (lv_at hl 3 rfl) ?_
    refine lv_iload hx hb dX0_act_10 (lv_at hl 4 rfl) ?_
    refine y_Vi (wN := fun u_2 => (wX G ad ho rn 0 dr ro lt rf th sb ++ wR G (ad 1) u_2 (rrR lt z r (sLast lt z + 1)) ++ wR G (ad 2) u_2 (rrR lt z r (sLast lt z + 1)) ++ wR G (ad 3) k2 r2 ++ wK (ad 4))) (wNx := fun u9 => (wX G ad ho rn 0 dr ro lt rf th sb ++ wR G (ad 1) kd r ++ wR G (ad 2) u9.1 u9.2 ++ wR G (ad 3) k2 r2 ++ wK (ad 4))) ⟨C0, hK, hP, hD, hS, hA⟩ hZ 0 rfl (ci := 0) rfl rfl ((m_of_1 l hl0 G ad kd k1 k2 r r1 r2 ho rn ln dr ro lt rf th sb hr hp hk z10 z11 z12 z hln hz)) (cwV 4 hts (lw_V q274 q276 qs1 q86 q277) rfl rfl rfl (by decide +kernel) ⟨Nat.le_of_ble_eq_true rfl, Nat.le_of_ble_eq_true rfl⟩) [0, 1, 2, 3, 4, 5, 6, 7, 8, 9, 10, 11, 12, 13, 14, 15, 16, 17, 18, 19, 20, 21, 22, 23, 24, 25, 26, 27, 28, 29, 30] [1, 3, 5, 7, 9, 11, 13, 15, 17, 19, 21, 23, 25, 27, 29, 31, 33, 35, 37, 39, 41, 43, 45, 47, 49, 51, 53, 55, 57, 59, 61] [1, 3, 5, 7, 9, 11, 13, 15, 17, 19, 21, 23, 25, 27, 29, 31, 33, 35, 37, 39, 41, 43, 45, 47, 49, 51, 53, 55, 57, 59, 61, 63] rfl (fun _ => rfl) (fun _ _ _ => rfl) rfl rfl rfl hl.1 rfl (Nat.le_of_ble_eq_true rfl) dX0_act_12 ⟨(Nat.le_of_ble_eq_true rfl), (Nat.le_of_ble_eq_true rfl)⟩ (fun q9 u9 ee H locs hw_2 hP hD hS => ?_) (fun r_2 u_2 H locs hw_2 hP hD hS => ?_)
    · skip
      refine z_catch ⟨0, 49, 50, 239⟩ hown hK htb rfl (by decide) (by decide) (hts _ q273) hP ?_
      have hthr9 : ee.2.1 = rrE lt z r ∧ rrE lt z r ≠ 0 := hw_2
      refine lv_astore (lv' := [(7, .ref q9), (0, .ref (ad 0 0)), (1, .int 1), (2, .int z10), (3, .int z11), (4, .int z12), (5, .int z13), (6, .int z14)]) hx hb dX0_act_50 hl (by decide) rfl (fun ls hl => ?_)
      refine lv_aload_n hx hb dX0_act_52 rfl (lv_at hl 1 rfl) ?_
      refine lv_aload hx hb dX0_act_53 (lv_at hl 0 rfl) ?_
      obtain ⟨ek, en, e1, e2, e3⟩ := ee
      cases ek
      · skip
        have hP : va_P G.1 vwCl (wX G ad ho rn 0 dr ro lt rf th sb ++ wR G (ad 1) kd r ++ wR G (ad 2) u9.1 u9.2 ++ wR G (ad 3) k2 r2 ++ wK (ad 4) ++ [(q9, .inr (9, [e1, e2, e3, .null, .null, .int 0, .int en]))]) H := hP
        have hD : va_D A (wX G ad ho rn 0 dr ro lt rf th sb ++ wR G (ad 1) kd r ++ wR G (ad 2) u9.1 u9.2 ++ wR G (ad 3) k2 r2 ++ wK (ad 4) ++ [(q9, .inr (9, [e1, e2, e3, .null, .null, .int 0, .int en]))]) := hD
        obtain ⟨een, hne⟩ := hthr9
        have een : en = rrE lt z r := een
        subst een
        have hP : va_P G.1 vwCl (wX G ad ho rn 0 dr ro lt rf th sb ++ wR G (ad 1) kd r ++ wR G (ad 2) u9.1 u9.2 ++ wR G (ad 3) k2 r2 ++ wK (ad 4) ++ [(q9, .inr (9, [e1, e2, e3, .null, .null, .int 0, .int (rrE lt z r)]))]) H := hP
        have hD : va_D A (wX G ad ho rn 0 dr ro lt rf th sb ++ wR G (ad 1) kd r ++ wR G (ad 2) u9.1 u9.2 ++ wR G (ad 3) k2 r2 ++ wK (ad 4) ++ [(q9, .inr (9, [e1, e2, e3, .null, .null, .int 0, .int (rrE lt z r)]))]) := hD
        refine x_Ui (wN := fun _ => (wX G ad ho rn 0 dr ro lt rf th sb ++ wR G (ad 1) kd r ++ wR G (ad 2) u9.1 u9.2 ++ wR G (ad 3) k2 r2 ++ wK (ad 4) ++ [(q9, .inr (9, [e1, e2, e3, .null, .null, .int 0, .int (rrE lt z r)]))])) ⟨C0, hK, hP, hD, hS, hA⟩ 31 rfl (ci := 9) rfl rfl ((m_X11_number l G q9 e1 e2 e3 (rrE lt z r))) (va_cwA (owner := "PulledFromUnder$Refusal") 0 hts (lw_U q990 q992 q996 q997 q100 q998) rfl rfl rfl (hK.2.D 13 rfl) (by decide +kernel) ⟨Nat.le_of_ble_eq_true rfl, Nat.le_of_ble_eq_true rfl⟩) [31] [0, 2, 4, 6, 8, 10, 12, 14, 16, 18, 20, 22, 24, 26, 28, 30, 32, 34, 36, 38, 40, 42, 44, 46, 48, 50, 52, 54, 56, 58, 60, 1] rfl (fun _ => rfl) rfl rfl hl.1 rfl (Nat.le_of_ble_eq_true rfl) dX0_act_55 ⟨(Nat.le_of_ble_eq_true rfl), (Nat.le_of_ble_eq_true rfl)⟩ (fun r_3 u_3 H locs hw_3 hP hD hS => ?_)
        have hw_3 : (rrE lt z r : Int32) = r_3 := hw_3.symm
        subst hw_3
        refine x_Vi (wN := fun _ => (wX G ad ho rn 0 dr ro lt (rfU rf (rrE lt z r)) th sb ++ wR G (ad 1) kd r ++ wR G (ad 2) u9.1 u9.2 ++ wR G (ad 3) k2 r2 ++ wK (ad 4) ++ [(q9, .inr (9, [e1, e2, e3, .null, .null, .int 0, .int (rrE lt z r)]))])) ⟨C0, hK, hP, hD, hS, hA⟩ 0 rfl (ci := 0) rfl rfl ((m_refuse l G ad kd u9.1 k2 r u9.2 r2 ho rn 0 dr ro lt rf th sb hr hp hk (rrE lt z r) (rrE_rf hz))) (cwV 1 hts (lw_V q999 q1001 qs62 q86 q1002) rfl rfl rfl (by decide +kernel) ⟨Nat.le_of_ble_eq_true rfl, Nat.le_of_ble_eq_true rfl⟩) [0, 1, 2, 3, 4, 5, 6, 7, 8, 9, 10, 11, 12, 13, 14, 15, 16, 17, 18, 19, 20, 21, 22, 23, 24, 25, 26, 27, 28, 29, 30] [1, 3, 5, 7, 9, 11, 13, 15, 17, 19, 21, 23, 25, 27, 29, 31, 33, 35, 37, 39, 41, 43, 45, 47, 49, 51, 53, 55, 57, 59, 61, 62] rfl (fun _ => rfl) rfl rfl hl.1 rfl (Nat.le_of_ble_eq_true rfl) dX0_act_58 ⟨(Nat.le_of_ble_eq_true rfl), (Nat.le_of_ble_eq_true rfl)⟩ (fun r_4 u_4 H locs hw_4 hP hD hS => ?_)
        have hw_4 : (rrE lt z r : Int32) = r_4 := hw_4.symm
        subst hw_4
        have hP : va_P G.1 vwCl (wX G ad ho rn 0 dr ro lt (rfU rf (rrE lt z r)) th sb ++ wR G (ad 1) kd r ++ wR G (ad 2) u9.1 u9.2 ++ wR G (ad 3) k2 r2 ++ wK (ad 4) ++ [(q9, .inr (9, [e1, e2, e3, .null, .null, .int 0, .int (rrE lt z r)]))]) H := hP
        have hD : va_D A (wX G ad ho rn 0 dr ro lt (rfU rf (rrE lt z r)) th sb ++ wR G (ad 1) kd r ++ wR G (ad 2) u9.1 u9.2 ++ wR G (ad 3) k2 r2 ++ wK (ad 4) ++ [(q9, .inr (9, [e1, e2, e3, .null, .null, .int 0, .int (rrE lt z r)]))]) := hD
        have hP := x_dropP hP
        have hD := x_dropD hD
        have hP : va_P G.1 vwCl (wX G ad ho rn 0 dr ro lt (sel (rrE lt z r) rf (rfU rf (rrE lt z r))) th sb ++ wR G (ad 1) ((kd, u9).1) (sel (rrE lt z r) (rrR lt z r (sLast lt z + 1)) r) ++ wR G (ad 2) ((kd, u9).2.1) ((kd, u9).2.2) ++ wR G (ad 3) k2 r2 ++ wK (ad 4)) H := by simp only [sel_n hne]; exact hP
        have hD : va_D A (wX G ad ho rn 0 dr ro lt (sel (rrE lt z r) rf (rfU rf (rrE lt z r))) th sb ++ wR G (ad 1) ((kd, u9).1) (sel (rrE lt z r) (rrR lt z r (sLast lt z + 1)) r) ++ wR G (ad 2) ((kd, u9).2.1) ((kd, u9).2.2) ++ wR G (ad 3) k2 r2 ++ wK (ad 4)) := by simp only [sel_n hne]; exact hD
        refine hret _ _ _ _ _ _ (rrE lt z r) (kd, u9) dX0_act_61 ?_ hP hD hS (Nat.le_of_ble_eq_true rfl) (Nat.le_of_ble_eq_true rfl)
        exact ⟨(sel_n hne).symm, by show kOk (ad 4) kd (sel (rrE lt z r) _ r); rw [sel_n hne]; exact hk⟩
      · skip
        have hP : va_P G.1 vwCl (wX G ad ho rn 0 dr ro lt rf th sb ++ wR G (ad 1) kd r ++ wR G (ad 2) u9.1 u9.2 ++ wR G (ad 3) k2 r2 ++ wK (ad 4) ++ [(q9, .inr (11, [e1, e2, e3, .null, .null, .int 0, .int en]))]) H := hP
        have hD : va_D A (wX G ad ho rn 0 dr ro lt rf th sb ++ wR G (ad 1) kd r ++ wR G (ad 2) u9.1 u9.2 ++ wR G (ad 3) k2 r2 ++ wK (ad 4) ++ [(q9, .inr (11, [e1, e2, e3, .null, .null, .int 0, .int en]))]) := hD
        obtain ⟨een, hne⟩ := hthr9
        have een : en = rrE lt z r := een
        subst een
        have hP : va_P G.1 vwCl (wX G ad ho rn 0 dr ro lt rf th sb ++ wR G (ad 1) kd r ++ wR G (ad 2) u9.1 u9.2 ++ wR G (ad 3) k2 r2 ++ wK (ad 4) ++ [(q9, .inr (11, [e1, e2, e3, .null, .null, .int 0, .int (rrE lt z r)]))]) H := hP
        have hD : va_D A (wX G ad ho rn 0 dr ro lt rf th sb ++ wR G (ad 1) kd r ++ wR G (ad 2) u9.1 u9.2 ++ wR G (ad 3) k2 r2 ++ wK (ad 4) ++ [(q9, .inr (11, [e1, e2, e3, .null, .null, .int 0, .int (rrE lt z r)]))]) := hD
        refine x_Ui (wN := fun _ => (wX G ad ho rn 0 dr ro lt rf th sb ++ wR G (ad 1) kd r ++ wR G (ad 2) u9.1 u9.2 ++ wR G (ad 3) k2 r2 ++ wK (ad 4) ++ [(q9, .inr (11, [e1, e2, e3, .null, .null, .int 0, .int (rrE lt z r)]))])) ⟨C0, hK, hP, hD, hS, hA⟩ 31 rfl (ci := 11) rfl rfl ((m_X13_number l G q9 e1 e2 e3 (rrE lt z r))) (va_cwA (owner := "PulledFromUnder$Refusal") 0 hts (lw_U q990 q992 q993 q994 q102 q995) rfl rfl rfl (hK.2.D 13 rfl) (by decide +kernel) ⟨Nat.le_of_ble_eq_true rfl, Nat.le_of_ble_eq_true rfl⟩) [31] [0, 2, 4, 6, 8, 10, 12, 14, 16, 18, 20, 22, 24, 26, 28, 30, 32, 34, 36, 38, 40, 42, 44, 46, 48, 50, 52, 54, 56, 58, 60, 1] rfl (fun _ => rfl) rfl rfl hl.1 rfl (Nat.le_of_ble_eq_true rfl) dX0_act_55 ⟨(Nat.le_of_ble_eq_true rfl), (Nat.le_of_ble_eq_true rfl)⟩ (fun r_5 u_5 H locs hw_5 hP hD hS => ?_)
        have hw_5 : (rrE lt z r : Int32) = r_5 := hw_5.symm
        subst hw_5
        refine x_Vi (wN := fun _ => (wX G ad ho rn 0 dr ro lt (rfU rf (rrE lt z r)) th sb ++ wR G (ad 1) kd r ++ wR G (ad 2) u9.1 u9.2 ++ wR G (ad 3) k2 r2 ++ wK (ad 4) ++ [(q9, .inr (11, [e1, e2, e3, .null, .null, .int 0, .int (rrE lt z r)]))])) ⟨C0, hK, hP, hD, hS, hA⟩ 0 rfl (ci := 0) rfl rfl ((m_refuse l G ad kd u9.1 k2 r u9.2 r2 ho rn 0 dr ro lt rf th sb hr hp hk (rrE lt z r) (rrE_rf hz))) (cwV 1 hts (lw_V q999 q1001 qs62 q86 q1002) rfl rfl rfl (by decide +kernel) ⟨Nat.le_of_ble_eq_true rfl, Nat.le_of_ble_eq_true rfl⟩) [0, 1, 2, 3, 4, 5, 6, 7, 8, 9, 10, 11, 12, 13, 14, 15, 16, 17, 18, 19, 20, 21, 22, 23, 24, 25, 26, 27, 28, 29, 30] [1, 3, 5, 7, 9, 11, 13, 15, 17, 19, 21, 23, 25, 27, 29, 31, 33, 35, 37, 39, 41, 43, 45, 47, 49, 51, 53, 55, 57, 59, 61, 62] rfl (fun _ => rfl) rfl rfl hl.1 rfl (Nat.le_of_ble_eq_true rfl) dX0_act_58 ⟨(Nat.le_of_ble_eq_true rfl), (Nat.le_of_ble_eq_true rfl)⟩ (fun r_6 u_6 H locs hw_6 hP hD hS => ?_)
        have hw_6 : (rrE lt z r : Int32) = r_6 := hw_6.symm
        subst hw_6
        have hP : va_P G.1 vwCl (wX G ad ho rn 0 dr ro lt (rfU rf (rrE lt z r)) th sb ++ wR G (ad 1) kd r ++ wR G (ad 2) u9.1 u9.2 ++ wR G (ad 3) k2 r2 ++ wK (ad 4) ++ [(q9, .inr (11, [e1, e2, e3, .null, .null, .int 0, .int (rrE lt z r)]))]) H := hP
        have hD : va_D A (wX G ad ho rn 0 dr ro lt (rfU rf (rrE lt z r)) th sb ++ wR G (ad 1) kd r ++ wR G (ad 2) u9.1 u9.2 ++ wR G (ad 3) k2 r2 ++ wK (ad 4) ++ [(q9, .inr (11, [e1, e2, e3, .null, .null, .int 0, .int (rrE lt z r)]))]) := hD
        have hP := x_dropP hP
        have hD := x_dropD hD
        have hP : va_P G.1 vwCl (wX G ad ho rn 0 dr ro lt (sel (rrE lt z r) rf (rfU rf (rrE lt z r))) th sb ++ wR G (ad 1) ((kd, u9).1) (sel (rrE lt z r) (rrR lt z r (sLast lt z + 1)) r) ++ wR G (ad 2) ((kd, u9).2.1) ((kd, u9).2.2) ++ wR G (ad 3) k2 r2 ++ wK (ad 4)) H := by simp only [sel_n hne]; exact hP
        have hD : va_D A (wX G ad ho rn 0 dr ro lt (sel (rrE lt z r) rf (rfU rf (rrE lt z r))) th sb ++ wR G (ad 1) ((kd, u9).1) (sel (rrE lt z r) (rrR lt z r (sLast lt z + 1)) r) ++ wR G (ad 2) ((kd, u9).2.1) ((kd, u9).2.2) ++ wR G (ad 3) k2 r2 ++ wK (ad 4)) := by simp only [sel_n hne]; exact hD
        refine hret _ _ _ _ _ _ (rrE lt z r) (kd, u9) dX0_act_61 ?_ hP hD hS (Nat.le_of_ble_eq_true rfl) (Nat.le_of_ble_eq_true rfl)
        exact ⟨(sel_n hne).symm, by show kOk (ad 4) kd (sel (rrE lt z r) _ r); rw [sel_n hne]; exact hk⟩
    · skip
      have hP : va_P G.1 vwCl (wX G ad ho rn 0 dr ro lt rf th sb ++ wR G (ad 1) u_2 (rrR lt z r (sLast lt z + 1)) ++ wR G (ad 2) u_2 (rrR lt z r (sLast lt z + 1)) ++ wR G (ad 3) k2 r2 ++ wK (ad 4)) H := hP
      have hD : va_D A (wX G ad ho rn 0 dr ro lt rf th sb ++ wR G (ad 1) u_2 (rrR lt z r (sLast lt z + 1)) ++ wR G (ad 2) u_2 (rrR lt z r (sLast lt z + 1)) ++ wR G (ad 3) k2 r2 ++ wK (ad 4)) := hD
      refine W.widen (k := 268) (n := 1898) (Nat.le_of_ble_eq_true rfl) (Nat.le_of_ble_eq_true rfl) ?_
      refine lv_goto (tgt := 49) hx hb dX0_act_15 (by decide) ?_
      have hP : va_P G.1 vwCl (wX G ad ho rn 0 dr ro lt (sel (rrE lt z r) rf (rfU rf (rrE lt z r))) th sb ++ wR G (ad 1) ((u_2, (u_2, rrR lt z r (sLast lt z + 1))).1) (sel (rrE lt z r) (rrR lt z r (sLast lt z + 1)) r) ++ wR G (ad 2) ((u_2, (u_2, rrR lt z r (sLast lt z + 1))).2.1) ((u_2, (u_2, rrR lt z r (sLast lt z + 1))).2.2) ++ wR G (ad 3) k2 r2 ++ wK (ad 4)) H := by simp only [sel_0 hw_2.1]; exact hP
      have hD : va_D A (wX G ad ho rn 0 dr ro lt (sel (rrE lt z r) rf (rfU rf (rrE lt z r))) th sb ++ wR G (ad 1) ((u_2, (u_2, rrR lt z r (sLast lt z + 1))).1) (sel (rrE lt z r) (rrR lt z r (sLast lt z + 1)) r) ++ wR G (ad 2) ((u_2, (u_2, rrR lt z r (sLast lt z + 1))).2.1) ((u_2, (u_2, rrR lt z r (sLast lt z + 1))).2.2) ++ wR G (ad 3) k2 r2 ++ wK (ad 4)) := by simp only [sel_0 hw_2.1]; exact hD
      refine hret _ _ _ _ _ _ r_2 (u_2, (u_2, rrR lt z r (sLast lt z + 1))) dX0_act_49 ?_ hP hD hS (Nat.le_of_ble_eq_true rfl) (Nat.le_of_ble_eq_true rfl)
      exact ⟨hw_2.2.1.trans (sel_0 hw_2.1).symm, by show kOk (ad 4) u_2 (sel (rrE lt z r) _ r); rw [sel_0 hw_2.1]; exact hw_2.2.2⟩
set_option maxHeartbeats 4000000 in
set_option maxRecDepth 100000 in
theorem m_act_2 (l : Launch) (hl0 : l.stackTraces = false) (G : xG) (ad : Nat → Nat → Nat) (kd k1 k2 : Nat → Option Nat) (r r1 r2 : Rw) (ho rn ln dr : Int32) (ro lt rf th sb : Nat → Int32) (hr : Ok r) (hp : r 5 3 = 0) (hk : kOk (ad 4) kd r) (t w z10 z11 z12 : Int32) : zCi l G yX0_act (wsW_ yX0_act cX0_act 8 (some .int) [(0, 49, 50, 239)]) ({ frames := 12, cells := 2, slots := 14, locals := 217 } : Room) [.ref (ad 0 0), .int 2, .int t, .int w, .int z10, .int z11, .int z12] (wX G ad ho rn ln dr ro lt rf th sb ++ wR G (ad 1) kd r ++ wR G (ad 2) k1 r1 ++ wR G (ad 3) k2 r2 ++ wK (ad 4)) (S := Unit) (fun v _ => v = sel (eS (tB r t) (-1) (eS (inR w 0 7) (-2) 0)) (pTh r (ix t) w) (eS (tB r t) (-1) (eS (inR w 0 7) (-2) 0))) (fun _ => (wX G ad ho rn ln dr ro lt (sel (eS (tB r t) (-1) (eS (inR w 0 7) (-2) 0)) rf (rfU rf (eS (tB r t) (-1) (eS (inR w 0 7) (-2) 0)))) th sb ++ wR G (ad 1) kd r ++ wR G (ad 2) k1 r1 ++ wR G (ad 3) k2 r2 ++ wK (ad 4))) := by
  refine z_openiW (hh := [(0, 49, 50, 239)]) (by decide) (Nat.le_of_ble_eq_true rfl) (fun _ _ _ => rfl) ?_
  intro p e s m args below meth c A Q ls C0 hK hZ hP hD hA hl htb hret
  obtain ⟨hx, hb, hml, hown, hts⟩ := id C0
  have hS : va_S A s.heap s.heap [] := va_S.rf
  have hP : va_P G.1 vwCl (wX G ad ho rn ln dr ro lt rf th sb ++ wR G (ad 1) kd r ++ wR G (ad 2) k1 r1 ++ wR G (ad 3) k2 r2 ++ wK (ad 4)) s.heap := hP
  have hD : va_D A (wX G ad ho rn ln dr ro lt rf th sb ++ wR G (ad 1) kd r ++ wR G (ad 2) k1 r1 ++ wR G (ad 3) k2 r2 ++ wK (ad 4)) := hD
  have hl : lv_has ls 8 [(0, .ref (ad 0 0)), (1, .int 2), (2, .int t), (3, .int w), (4, .int z10), (5, .int z11), (6, .int z12)] := hl
  have hr0 := hr.n
  have hN := hr.le
  refine lv_iload_n hx hb dX0_act_0 rfl (lv_at hl 1 rfl) ?_
  refine lv_bipush (v := 9) hx hb dX0_act_1 (by decide) ?_
  refine lv_icmp_ge (tgt := 18) hx hb dX0_act_3 (by decide) (fun c_1 => ?_) (fun c_1 => ?_)
  · skip
    exact absurd c_1 (by decide)
  · skip
    refine lv_aload_n hx hb dX0_act_6 rfl (lv_at hl 0 rfl) ?_
    refine lv_iload_n hx hb dX0_act_7 rfl (lv_at hl 1 rfl) ?_
    refine lv_iload_n hx hb dX0_act_8 rfl (lv_at hl 2 rfl) ?_
    refine lv_iload_n hx hb dX0_act_9 rfl (lv_at hl 3 rfl) ?_
    refine lv_iload hx hb dX0_act_10 (lv_at hl 4 rfl) ?_
    refine y_Vi (wN := fun u_2 => (wX G ad ho rn ln dr ro lt rf th sb ++ wR G (ad 1) kd r ++ wR G (ad 2) k1 r1 ++ wR G (ad 3) k2 r2 ++ wK (ad 4))) (wNx := fun u9 => (wX G ad ho rn ln dr ro lt rf th sb ++ wR G (ad 1) kd r ++ wR G (ad 2) k1 r1 ++ wR G (ad 3) k2 r2 ++ wK (ad 4))) ⟨C0, hK, hP, hD, hS, hA⟩ hZ 0 rfl (ci := 0) rfl rfl ((m_of_2 l hl0 G ad kd k1 k2 r r1 r2 ho rn ln dr ro lt rf th sb hr hp hk t w z10)) (cwV 4 hts (lw_V q274 q276 qs1 q86 q277) rfl rfl rfl (by decide +kernel) ⟨Nat.le_of_ble_eq_true rfl, Nat.le_of_ble_eq_true rfl⟩) [0, 1, 2, 3, 4, 5, 6, 7, 8, 9, 10, 11, 12, 13, 14, 15, 16, 17, 18, 19, 20, 21, 22, 23, 24, 25, 26, 27, 28, 29, 30] [1, 3, 5, 7, 9, 11, 13, 15, 17, 19, 21, 23, 25, 27, 29, 31, 33, 35, 37, 39, 41, 43, 45, 47, 49, 51, 53, 55, 57, 59, 61] [1, 3, 5, 7, 9, 11, 13, 15, 17, 19, 21, 23, 25, 27, 29, 31, 33, 35, 37, 39, 41, 43, 45, 47, 49, 51, 53, 55, 57, 59, 61, 63] rfl (fun _ => rfl) (fun _ _ _ => rfl) rfl rfl rfl hl.1 rfl (Nat.le_of_ble_eq_true rfl) dX0_act_12 ⟨(Nat.le_of_ble_eq_true rfl), (Nat.le_of_ble_eq_true rfl)⟩ (fun q9 u9 ee H locs hw_2 hP hD hS => ?_) (fun r_2 u_2 H locs hw_2 hP hD hS => ?_)
    · skip
      refine z_catch ⟨0, 49, 50, 239⟩ hown hK htb rfl (by decide) (by decide) (hts _ q273) hP ?_
      have hthr9 : ee.2.1 = eS (tB r t) (-1) (eS (inR w 0 7) (-2) 0) ∧ eS (tB r t) (-1) (eS (inR w 0 7) (-2) 0) ≠ 0 := hw_2
      refine lv_astore (lv' := [(7, .ref q9), (0, .ref (ad 0 0)), (1, .int 2), (2, .int t), (3, .int w), (4, .int z10), (5, .int z11), (6, .int z12)]) hx hb dX0_act_50 hl (by decide) rfl (fun ls hl => ?_)
      refine lv_aload_n hx hb dX0_act_52 rfl (lv_at hl 1 rfl) ?_
      refine lv_aload hx hb dX0_act_53 (lv_at hl 0 rfl) ?_
      obtain ⟨ek, en, e1, e2, e3⟩ := ee
      cases ek
      · skip
        have hP : va_P G.1 vwCl (wX G ad ho rn ln dr ro lt rf th sb ++ wR G (ad 1) kd r ++ wR G (ad 2) k1 r1 ++ wR G (ad 3) k2 r2 ++ wK (ad 4) ++ [(q9, .inr (9, [e1, e2, e3, .null, .null, .int 0, .int en]))]) H := hP
        have hD : va_D A (wX G ad ho rn ln dr ro lt rf th sb ++ wR G (ad 1) kd r ++ wR G (ad 2) k1 r1 ++ wR G (ad 3) k2 r2 ++ wK (ad 4) ++ [(q9, .inr (9, [e1, e2, e3, .null, .null, .int 0, .int en]))]) := hD
        obtain ⟨een, hne⟩ := hthr9
        have een : en = eS (tB r t) (-1) (eS (inR w 0 7) (-2) 0) := een
        subst een
        have hP : va_P G.1 vwCl (wX G ad ho rn ln dr ro lt rf th sb ++ wR G (ad 1) kd r ++ wR G (ad 2) k1 r1 ++ wR G (ad 3) k2 r2 ++ wK (ad 4) ++ [(q9, .inr (9, [e1, e2, e3, .null, .null, .int 0, .int (eS (tB r t) (-1) (eS (inR w 0 7) (-2) 0))]))]) H := hP
        have hD : va_D A (wX G ad ho rn ln dr ro lt rf th sb ++ wR G (ad 1) kd r ++ wR G (ad 2) k1 r1 ++ wR G (ad 3) k2 r2 ++ wK (ad 4) ++ [(q9, .inr (9, [e1, e2, e3, .null, .null, .int 0, .int (eS (tB r t) (-1) (eS (inR w 0 7) (-2) 0))]))]) := hD
        refine x_Ui (wN := fun _ => (wX G ad ho rn ln dr ro lt rf th sb ++ wR G (ad 1) kd r ++ wR G (ad 2) k1 r1 ++ wR G (ad 3) k2 r2 ++ wK (ad 4) ++ [(q9, .inr (9, [e1, e2, e3, .null, .null, .int 0, .int (eS (tB r t) (-1) (eS (inR w 0 7) (-2) 0))]))])) ⟨C0, hK, hP, hD, hS, hA⟩ 31 rfl (ci := 9) rfl rfl ((m_X11_number l G q9 e1 e2 e3 (eS (tB r t) (-1) (eS (inR w 0 7) (-2) 0)))) (va_cwA (owner := "PulledFromUnder$Refusal") 0 hts (lw_U q990 q992 q996 q997 q100 q998) rfl rfl rfl (hK.2.D 13 rfl) (by decide +kernel) ⟨Nat.le_of_ble_eq_true rfl, Nat.le_of_ble_eq_true rfl⟩) [31] [0, 2, 4, 6, 8, 10, 12, 14, 16, 18, 20, 22, 24, 26, 28, 30, 32, 34, 36, 38, 40, 42, 44, 46, 48, 50, 52, 54, 56, 58, 60, 1] rfl (fun _ => rfl) rfl rfl hl.1 rfl (Nat.le_of_ble_eq_true rfl) dX0_act_55 ⟨(Nat.le_of_ble_eq_true rfl), (Nat.le_of_ble_eq_true rfl)⟩ (fun r_3 u_3 H locs hw_3 hP hD hS => ?_)
        have hw_3 : (eS (tB r t) (-1) (eS (inR w 0 7) (-2) 0) : Int32) = r_3 := hw_3.symm
        subst hw_3
        refine x_Vi (wN := fun _ => (wX G ad ho rn ln dr ro lt (rfU rf (eS (tB r t) (-1) (eS (inR w 0 7) (-2) 0))) th sb ++ wR G (ad 1) kd r ++ wR G (ad 2) k1 r1 ++ wR G (ad 3) k2 r2 ++ wK (ad 4) ++ [(q9, .inr (9, [e1, e2, e3, .null, .null, .int 0, .int (eS (tB r t) (-1) (eS (inR w 0 7) (-2) 0))]))])) ⟨C0, hK, hP, hD, hS, hA⟩ 0 rfl (ci := 0) rfl rfl ((m_refuse l G ad kd k1 k2 r r1 r2 ho rn ln dr ro lt rf th sb hr hp hk (eS (tB r t) (-1) (eS (inR w 0 7) (-2) 0)) (rfOk_S rfOk_k.1 (rfOk_S rfOk_k.2.1 rfOk_0)))) (cwV 1 hts (lw_V q999 q1001 qs62 q86 q1002) rfl rfl rfl (by decide +kernel) ⟨Nat.le_of_ble_eq_true rfl, Nat.le_of_ble_eq_true rfl⟩) [0, 1, 2, 3, 4, 5, 6, 7, 8, 9, 10, 11, 12, 13, 14, 15, 16, 17, 18, 19, 20, 21, 22, 23, 24, 25, 26, 27, 28, 29, 30] [1, 3, 5, 7, 9, 11, 13, 15, 17, 19, 21, 23, 25, 27, 29, 31, 33, 35, 37, 39, 41, 43, 45, 47, 49, 51, 53, 55, 57, 59, 61, 62] rfl (fun _ => rfl) rfl rfl hl.1 rfl (Nat.le_of_ble_eq_true rfl) dX0_act_58 ⟨(Nat.le_of_ble_eq_true rfl), (Nat.le_of_ble_eq_true rfl)⟩ (fun r_4 u_4 H locs hw_4 hP hD hS => ?_)
        have hw_4 : (eS (tB r t) (-1) (eS (inR w 0 7) (-2) 0) : Int32) = r_4 := hw_4.symm
        subst hw_4
        have hP : va_P G.1 vwCl (wX G ad ho rn ln dr ro lt (rfU rf (eS (tB r t) (-1) (eS (inR w 0 7) (-2) 0))) th sb ++ wR G (ad 1) kd r ++ wR G (ad 2) k1 r1 ++ wR G (ad 3) k2 r2 ++ wK (ad 4) ++ [(q9, .inr (9, [e1, e2, e3, .null, .null, .int 0, .int (eS (tB r t) (-1) (eS (inR w 0 7) (-2) 0))]))]) H := hP
        have hD : va_D A (wX G ad ho rn ln dr ro lt (rfU rf (eS (tB r t) (-1) (eS (inR w 0 7) (-2) 0))) th sb ++ wR G (ad 1) kd r ++ wR G (ad 2) k1 r1 ++ wR G (ad 3) k2 r2 ++ wK (ad 4) ++ [(q9, .inr (9, [e1, e2, e3, .null, .null, .int 0, .int (eS (tB r t) (-1) (eS (inR w 0 7) (-2) 0))]))]) := hD
        have hP := x_dropP hP
        have hD := x_dropD hD
        have hP : va_P G.1 vwCl (wX G ad ho rn ln dr ro lt (sel (eS (tB r t) (-1) (eS (inR w 0 7) (-2) 0)) rf (rfU rf (eS (tB r t) (-1) (eS (inR w 0 7) (-2) 0)))) th sb ++ wR G (ad 1) kd r ++ wR G (ad 2) k1 r1 ++ wR G (ad 3) k2 r2 ++ wK (ad 4)) H := by simp only [sel_n hne]; exact hP
        have hD : va_D A (wX G ad ho rn ln dr ro lt (sel (eS (tB r t) (-1) (eS (inR w 0 7) (-2) 0)) rf (rfU rf (eS (tB r t) (-1) (eS (inR w 0 7) (-2) 0)))) th sb ++ wR G (ad 1) kd r ++ wR G (ad 2) k1 r1 ++ wR G (ad 3) k2 r2 ++ wK (ad 4)) := by simp only [sel_n hne]; exact hD
        refine hret _ _ _ _ _ _ (eS (tB r t) (-1) (eS (inR w 0 7) (-2) 0)) () dX0_act_61 ?_ hP hD hS (Nat.le_of_ble_eq_true rfl) (Nat.le_of_ble_eq_true rfl)
        exact (sel_n hne).symm
      · skip
        have hP : va_P G.1 vwCl (wX G ad ho rn ln dr ro lt rf th sb ++ wR G (ad 1) kd r ++ wR G (ad 2) k1 r1 ++ wR G (ad 3) k2 r2 ++ wK (ad 4) ++ [(q9, .inr (11, [e1, e2, e3, .null, .null, .int 0, .int en]))]) H := hP
        have hD : va_D A (wX G ad ho rn ln dr ro lt rf th sb ++ wR G (ad 1) kd r ++ wR G (ad 2) k1 r1 ++ wR G (ad 3) k2 r2 ++ wK (ad 4) ++ [(q9, .inr (11, [e1, e2, e3, .null, .null, .int 0, .int en]))]) := hD
        obtain ⟨een, hne⟩ := hthr9
        have een : en = eS (tB r t) (-1) (eS (inR w 0 7) (-2) 0) := een
        subst een
        have hP : va_P G.1 vwCl (wX G ad ho rn ln dr ro lt rf th sb ++ wR G (ad 1) kd r ++ wR G (ad 2) k1 r1 ++ wR G (ad 3) k2 r2 ++ wK (ad 4) ++ [(q9, .inr (11, [e1, e2, e3, .null, .null, .int 0, .int (eS (tB r t) (-1) (eS (inR w 0 7) (-2) 0))]))]) H := hP
        have hD : va_D A (wX G ad ho rn ln dr ro lt rf th sb ++ wR G (ad 1) kd r ++ wR G (ad 2) k1 r1 ++ wR G (ad 3) k2 r2 ++ wK (ad 4) ++ [(q9, .inr (11, [e1, e2, e3, .null, .null, .int 0, .int (eS (tB r t) (-1) (eS (inR w 0 7) (-2) 0))]))]) := hD
        refine x_Ui (wN := fun _ => (wX G ad ho rn ln dr ro lt rf th sb ++ wR G (ad 1) kd r ++ wR G (ad 2) k1 r1 ++ wR G (ad 3) k2 r2 ++ wK (ad 4) ++ [(q9, .inr (11, [e1, e2, e3, .null, .null, .int 0, .int (eS (tB r t) (-1) (eS (inR w 0 7) (-2) 0))]))])) ⟨C0, hK, hP, hD, hS, hA⟩ 31 rfl (ci := 11) rfl rfl ((m_X13_number l G q9 e1 e2 e3 (eS (tB r t) (-1) (eS (inR w 0 7) (-2) 0)))) (va_cwA (owner := "PulledFromUnder$Refusal") 0 hts (lw_U q990 q992 q993 q994 q102 q995) rfl rfl rfl (hK.2.D 13 rfl) (by decide +kernel) ⟨Nat.le_of_ble_eq_true rfl, Nat.le_of_ble_eq_true rfl⟩) [31] [0, 2, 4, 6, 8, 10, 12, 14, 16, 18, 20, 22, 24, 26, 28, 30, 32, 34, 36, 38, 40, 42, 44, 46, 48, 50, 52, 54, 56, 58, 60, 1] rfl (fun _ => rfl) rfl rfl hl.1 rfl (Nat.le_of_ble_eq_true rfl) dX0_act_55 ⟨(Nat.le_of_ble_eq_true rfl), (Nat.le_of_ble_eq_true rfl)⟩ (fun r_5 u_5 H locs hw_5 hP hD hS => ?_)
        have hw_5 : (eS (tB r t) (-1) (eS (inR w 0 7) (-2) 0) : Int32) = r_5 := hw_5.symm
        subst hw_5
        refine x_Vi (wN := fun _ => (wX G ad ho rn ln dr ro lt (rfU rf (eS (tB r t) (-1) (eS (inR w 0 7) (-2) 0))) th sb ++ wR G (ad 1) kd r ++ wR G (ad 2) k1 r1 ++ wR G (ad 3) k2 r2 ++ wK (ad 4) ++ [(q9, .inr (11, [e1, e2, e3, .null, .null, .int 0, .int (eS (tB r t) (-1) (eS (inR w 0 7) (-2) 0))]))])) ⟨C0, hK, hP, hD, hS, hA⟩ 0 rfl (ci := 0) rfl rfl ((m_refuse l G ad kd k1 k2 r r1 r2 ho rn ln dr ro lt rf th sb hr hp hk (eS (tB r t) (-1) (eS (inR w 0 7) (-2) 0)) (rfOk_S rfOk_k.1 (rfOk_S rfOk_k.2.1 rfOk_0)))) (cwV 1 hts (lw_V q999 q1001 qs62 q86 q1002) rfl rfl rfl (by decide +kernel) ⟨Nat.le_of_ble_eq_true rfl, Nat.le_of_ble_eq_true rfl⟩) [0, 1, 2, 3, 4, 5, 6, 7, 8, 9, 10, 11, 12, 13, 14, 15, 16, 17, 18, 19, 20, 21, 22, 23, 24, 25, 26, 27, 28, 29, 30] [1, 3, 5, 7, 9, 11, 13, 15, 17, 19, 21, 23, 25, 27, 29, 31, 33, 35, 37, 39, 41, 43, 45, 47, 49, 51, 53, 55, 57, 59, 61, 62] rfl (fun _ => rfl) rfl rfl hl.1 rfl (Nat.le_of_ble_eq_true rfl) dX0_act_58 ⟨(Nat.le_of_ble_eq_true rfl), (Nat.le_of_ble_eq_true rfl)⟩ (fun r_6 u_6 H locs hw_6 hP hD hS => ?_)
        have hw_6 : (eS (tB r t) (-1) (eS (inR w 0 7) (-2) 0) : Int32) = r_6 := hw_6.symm
        subst hw_6
        have hP : va_P G.1 vwCl (wX G ad ho rn ln dr ro lt (rfU rf (eS (tB r t) (-1) (eS (inR w 0 7) (-2) 0))) th sb ++ wR G (ad 1) kd r ++ wR G (ad 2) k1 r1 ++ wR G (ad 3) k2 r2 ++ wK (ad 4) ++ [(q9, .inr (11, [e1, e2, e3, .null, .null, .int 0, .int (eS (tB r t) (-1) (eS (inR w 0 7) (-2) 0))]))]) H := hP
        have hD : va_D A (wX G ad ho rn ln dr ro lt (rfU rf (eS (tB r t) (-1) (eS (inR w 0 7) (-2) 0))) th sb ++ wR G (ad 1) kd r ++ wR G (ad 2) k1 r1 ++ wR G (ad 3) k2 r2 ++ wK (ad 4) ++ [(q9, .inr (11, [e1, e2, e3, .null, .null, .int 0, .int (eS (tB r t) (-1) (eS (inR w 0 7) (-2) 0))]))]) := hD
        have hP := x_dropP hP
        have hD := x_dropD hD
        have hP : va_P G.1 vwCl (wX G ad ho rn ln dr ro lt (sel (eS (tB r t) (-1) (eS (inR w 0 7) (-2) 0)) rf (rfU rf (eS (tB r t) (-1) (eS (inR w 0 7) (-2) 0)))) th sb ++ wR G (ad 1) kd r ++ wR G (ad 2) k1 r1 ++ wR G (ad 3) k2 r2 ++ wK (ad 4)) H := by simp only [sel_n hne]; exact hP
        have hD : va_D A (wX G ad ho rn ln dr ro lt (sel (eS (tB r t) (-1) (eS (inR w 0 7) (-2) 0)) rf (rfU rf (eS (tB r t) (-1) (eS (inR w 0 7) (-2) 0)))) th sb ++ wR G (ad 1) kd r ++ wR G (ad 2) k1 r1 ++ wR G (ad 3) k2 r2 ++ wK (ad 4)) := by simp only [sel_n hne]; exact hD
        refine hret _ _ _ _ _ _ (eS (tB r t) (-1) (eS (inR w 0 7) (-2) 0)) () dX0_act_61 ?_ hP hD hS (Nat.le_of_ble_eq_true rfl) (Nat.le_of_ble_eq_true rfl)
        exact (sel_n hne).symm
    · skip
      obtain ⟨hz_2, hw_2⟩ := hw_2
      have hw_2 : (pTh r (ix t) w : Int32) = r_2 := hw_2.symm
      subst hw_2
      have hP : va_P G.1 vwCl (wX G ad ho rn ln dr ro lt rf th sb ++ wR G (ad 1) kd r ++ wR G (ad 2) k1 r1 ++ wR G (ad 3) k2 r2 ++ wK (ad 4)) H := hP
      have hD : va_D A (wX G ad ho rn ln dr ro lt rf th sb ++ wR G (ad 1) kd r ++ wR G (ad 2) k1 r1 ++ wR G (ad 3) k2 r2 ++ wK (ad 4)) := hD
      refine W.widen (k := 2) (n := 14) (Nat.le_of_ble_eq_true rfl) (Nat.le_of_ble_eq_true rfl) ?_
      refine lv_goto (tgt := 49) hx hb dX0_act_15 (by decide) ?_
      have hP : va_P G.1 vwCl (wX G ad ho rn ln dr ro lt (sel (eS (tB r t) (-1) (eS (inR w 0 7) (-2) 0)) rf (rfU rf (eS (tB r t) (-1) (eS (inR w 0 7) (-2) 0)))) th sb ++ wR G (ad 1) kd r ++ wR G (ad 2) k1 r1 ++ wR G (ad 3) k2 r2 ++ wK (ad 4)) H := by simp only [sel_0 hz_2]; exact hP
      have hD : va_D A (wX G ad ho rn ln dr ro lt (sel (eS (tB r t) (-1) (eS (inR w 0 7) (-2) 0)) rf (rfU rf (eS (tB r t) (-1) (eS (inR w 0 7) (-2) 0)))) th sb ++ wR G (ad 1) kd r ++ wR G (ad 2) k1 r1 ++ wR G (ad 3) k2 r2 ++ wK (ad 4)) := by simp only [sel_0 hz_2]; exact hD
      refine hret _ _ _ _ _ _ (pTh r (ix t) w) () dX0_act_49 ?_ hP hD hS (Nat.le_of_ble_eq_true rfl) (Nat.le_of_ble_eq_true rfl)
      exact (sel_0 hz_2).symm
set_option maxHeartbeats 4000000 in
set_option maxRecDepth 100000 in
theorem m_act_3 (l : Launch) (hl0 : l.stackTraces = false) (G : xG) (ad : Nat → Nat → Nat) (kd k1 k2 : Nat → Option Nat) (r r1 r2 : Rw) (ho rn ln dr : Int32) (ro lt rf th sb : Nat → Int32) (hr : Ok r) (hp : r 5 3 = 0) (hk : kOk (ad 4) kd r) (t sp z10 z11 z12 : Int32) : zCi l G yX0_act (wsW_ yX0_act cX0_act 8 (some .int) [(0, 49, 50, 239)]) ({ frames := 12, cells := 4, slots := 28, locals := 220 } : Room) [.ref (ad 0 0), .int 3, .int t, .int sp, .int z10, .int z11, .int z12] (wX G ad ho rn ln dr ro lt rf th sb ++ wR G (ad 1) kd r ++ wR G (ad 2) k1 r1 ++ wR G (ad 3) k2 r2 ++ wK (ad 4)) (S := Unit) (fun v _ => v = sel (eS (tB r t) (-1) (eW (wBy sp.toInt 0 9) (eS (pSt r (ix t)) (-3) 0))) (pPullN r (ix t) sp) (eS (tB r t) (-1) (eW (wBy sp.toInt 0 9) (eS (pSt r (ix t)) (-3) 0)))) (fun _ => (wX G ad ho rn ln dr ro lt (sel (eS (tB r t) (-1) (eW (wBy sp.toInt 0 9) (eS (pSt r (ix t)) (-3) 0))) rf (rfU rf (eS (tB r t) (-1) (eW (wBy sp.toInt 0 9) (eS (pSt r (ix t)) (-3) 0))))) th sb ++ wR G (ad 1) kd (sel (eS (tB r t) (-1) (eW (wBy sp.toInt 0 9) (eS (pSt r (ix t)) (-3) 0))) (pPull r (ix t) sp) r) ++ wR G (ad 2) k1 r1 ++ wR G (ad 3) k2 r2 ++ wK (ad 4))) := by
  refine z_openiW (hh := [(0, 49, 50, 239)]) (by decide) (Nat.le_of_ble_eq_true rfl) (fun _ _ _ => rfl) ?_
  intro p e s m args below meth c A Q ls C0 hK hZ hP hD hA hl htb hret
  obtain ⟨hx, hb, hml, hown, hts⟩ := id C0
  have hS : va_S A s.heap s.heap [] := va_S.rf
  have hP : va_P G.1 vwCl (wX G ad ho rn ln dr ro lt rf th sb ++ wR G (ad 1) kd r ++ wR G (ad 2) k1 r1 ++ wR G (ad 3) k2 r2 ++ wK (ad 4)) s.heap := hP
  have hD : va_D A (wX G ad ho rn ln dr ro lt rf th sb ++ wR G (ad 1) kd r ++ wR G (ad 2) k1 r1 ++ wR G (ad 3) k2 r2 ++ wK (ad 4)) := hD
  have hl : lv_has ls 8 [(0, .ref (ad 0 0)), (1, .int 3), (2, .int t), (3, .int sp), (4, .int z10), (5, .int z11), (6, .int z12)] := hl
  have hr0 := hr.n
  have hN := hr.le
  refine lv_iload_n hx hb dX0_act_0 rfl (lv_at hl 1 rfl) ?_
  refine lv_bipush (v := 9) hx hb dX0_act_1 (by decide) ?_
  refine lv_icmp_ge (tgt := 18) hx hb dX0_act_3 (by decide) (fun c_1 => ?_) (fun c_1 => ?_)
  · skip
    exact absurd c_1 (by decide)
  · skip
    refine lv_aload_n hx hb dX0_act_6 rfl (lv_at hl 0 rfl) ?_
    refine lv_iload_n hx hb dX0_act_7 rfl (lv_at hl 1 rfl) ?_
    refine lv_iload_n hx hb dX0_act_8 rfl (lv_at hl 2 rfl) ?_
    refine lv_iload_n hx hb dX0_act_9 rfl (lv_at hl 3 rfl) ?_
    refine lv_iload hx hb dX0_act_10 (lv_at hl 4 rfl) ?_
    refine y_Vi (wN := fun u_2 => (wX G ad ho rn ln dr ro lt rf th sb ++ wR G (ad 1) kd (pPull r (ix t) sp) ++ wR G (ad 2) k1 r1 ++ wR G (ad 3) k2 r2 ++ wK (ad 4))) (wNx := fun u9 => (wX G ad ho rn ln dr ro lt rf th sb ++ wR G (ad 1) kd r ++ wR G (ad 2) k1 r1 ++ wR G (ad 3) k2 r2 ++ wK (ad 4))) ⟨C0, hK, hP, hD, hS, hA⟩ hZ 0 rfl (ci := 0) rfl rfl ((m_of_3 l hl0 G ad kd k1 k2 r r1 r2 ho rn ln dr ro lt rf th sb hr hp hk t sp z10)) (cwV 4 hts (lw_V q274 q276 qs1 q86 q277) rfl rfl rfl (by decide +kernel) ⟨Nat.le_of_ble_eq_true rfl, Nat.le_of_ble_eq_true rfl⟩) [0, 1, 2, 3, 4, 5, 6, 7, 8, 9, 10, 11, 12, 13, 14, 15, 16, 17, 18, 19, 20, 21, 22, 23, 24, 25, 26, 27, 28, 29, 30] [1, 3, 5, 7, 9, 11, 13, 15, 17, 19, 21, 23, 25, 27, 29, 31, 33, 35, 37, 39, 41, 43, 45, 47, 49, 51, 53, 55, 57, 59, 61] [1, 3, 5, 7, 9, 11, 13, 15, 17, 19, 21, 23, 25, 27, 29, 31, 33, 35, 37, 39, 41, 43, 45, 47, 49, 51, 53, 55, 57, 59, 61, 63] rfl (fun _ => rfl) (fun _ _ _ => rfl) rfl rfl rfl hl.1 rfl (Nat.le_of_ble_eq_true rfl) dX0_act_12 ⟨(Nat.le_of_ble_eq_true rfl), (Nat.le_of_ble_eq_true rfl)⟩ (fun q9 u9 ee H locs hw_2 hP hD hS => ?_) (fun r_2 u_2 H locs hw_2 hP hD hS => ?_)
    · skip
      refine z_catch ⟨0, 49, 50, 239⟩ hown hK htb rfl (by decide) (by decide) (hts _ q273) hP ?_
      have hthr9 : ee.2.1 = eS (tB r t) (-1) (eW (wBy sp.toInt 0 9) (eS (pSt r (ix t)) (-3) 0)) ∧ eS (tB r t) (-1) (eW (wBy sp.toInt 0 9) (eS (pSt r (ix t)) (-3) 0)) ≠ 0 := hw_2
      refine lv_astore (lv' := [(7, .ref q9), (0, .ref (ad 0 0)), (1, .int 3), (2, .int t), (3, .int sp), (4, .int z10), (5, .int z11), (6, .int z12)]) hx hb dX0_act_50 hl (by decide) rfl (fun ls hl => ?_)
      refine lv_aload_n hx hb dX0_act_52 rfl (lv_at hl 1 rfl) ?_
      refine lv_aload hx hb dX0_act_53 (lv_at hl 0 rfl) ?_
      obtain ⟨ek, en, e1, e2, e3⟩ := ee
      cases ek
      · skip
        have hP : va_P G.1 vwCl (wX G ad ho rn ln dr ro lt rf th sb ++ wR G (ad 1) kd r ++ wR G (ad 2) k1 r1 ++ wR G (ad 3) k2 r2 ++ wK (ad 4) ++ [(q9, .inr (9, [e1, e2, e3, .null, .null, .int 0, .int en]))]) H := hP
        have hD : va_D A (wX G ad ho rn ln dr ro lt rf th sb ++ wR G (ad 1) kd r ++ wR G (ad 2) k1 r1 ++ wR G (ad 3) k2 r2 ++ wK (ad 4) ++ [(q9, .inr (9, [e1, e2, e3, .null, .null, .int 0, .int en]))]) := hD
        obtain ⟨een, hne⟩ := hthr9
        have een : en = eS (tB r t) (-1) (eW (wBy sp.toInt 0 9) (eS (pSt r (ix t)) (-3) 0)) := een
        subst een
        have hP : va_P G.1 vwCl (wX G ad ho rn ln dr ro lt rf th sb ++ wR G (ad 1) kd r ++ wR G (ad 2) k1 r1 ++ wR G (ad 3) k2 r2 ++ wK (ad 4) ++ [(q9, .inr (9, [e1, e2, e3, .null, .null, .int 0, .int (eS (tB r t) (-1) (eW (wBy sp.toInt 0 9) (eS (pSt r (ix t)) (-3) 0)))]))]) H := hP
        have hD : va_D A (wX G ad ho rn ln dr ro lt rf th sb ++ wR G (ad 1) kd r ++ wR G (ad 2) k1 r1 ++ wR G (ad 3) k2 r2 ++ wK (ad 4) ++ [(q9, .inr (9, [e1, e2, e3, .null, .null, .int 0, .int (eS (tB r t) (-1) (eW (wBy sp.toInt 0 9) (eS (pSt r (ix t)) (-3) 0)))]))]) := hD
        refine x_Ui (wN := fun _ => (wX G ad ho rn ln dr ro lt rf th sb ++ wR G (ad 1) kd r ++ wR G (ad 2) k1 r1 ++ wR G (ad 3) k2 r2 ++ wK (ad 4) ++ [(q9, .inr (9, [e1, e2, e3, .null, .null, .int 0, .int (eS (tB r t) (-1) (eW (wBy sp.toInt 0 9) (eS (pSt r (ix t)) (-3) 0)))]))])) ⟨C0, hK, hP, hD, hS, hA⟩ 31 rfl (ci := 9) rfl rfl ((m_X11_number l G q9 e1 e2 e3 (eS (tB r t) (-1) (eW (wBy sp.toInt 0 9) (eS (pSt r (ix t)) (-3) 0))))) (va_cwA (owner := "PulledFromUnder$Refusal") 0 hts (lw_U q990 q992 q996 q997 q100 q998) rfl rfl rfl (hK.2.D 13 rfl) (by decide +kernel) ⟨Nat.le_of_ble_eq_true rfl, Nat.le_of_ble_eq_true rfl⟩) [31] [0, 2, 4, 6, 8, 10, 12, 14, 16, 18, 20, 22, 24, 26, 28, 30, 32, 34, 36, 38, 40, 42, 44, 46, 48, 50, 52, 54, 56, 58, 60, 1] rfl (fun _ => rfl) rfl rfl hl.1 rfl (Nat.le_of_ble_eq_true rfl) dX0_act_55 ⟨(Nat.le_of_ble_eq_true rfl), (Nat.le_of_ble_eq_true rfl)⟩ (fun r_3 u_3 H locs hw_3 hP hD hS => ?_)
        have hw_3 : (eS (tB r t) (-1) (eW (wBy sp.toInt 0 9) (eS (pSt r (ix t)) (-3) 0)) : Int32) = r_3 := hw_3.symm
        subst hw_3
        refine x_Vi (wN := fun _ => (wX G ad ho rn ln dr ro lt (rfU rf (eS (tB r t) (-1) (eW (wBy sp.toInt 0 9) (eS (pSt r (ix t)) (-3) 0)))) th sb ++ wR G (ad 1) kd r ++ wR G (ad 2) k1 r1 ++ wR G (ad 3) k2 r2 ++ wK (ad 4) ++ [(q9, .inr (9, [e1, e2, e3, .null, .null, .int 0, .int (eS (tB r t) (-1) (eW (wBy sp.toInt 0 9) (eS (pSt r (ix t)) (-3) 0)))]))])) ⟨C0, hK, hP, hD, hS, hA⟩ 0 rfl (ci := 0) rfl rfl ((m_refuse l G ad kd k1 k2 r r1 r2 ho rn ln dr ro lt rf th sb hr hp hk (eS (tB r t) (-1) (eW (wBy sp.toInt 0 9) (eS (pSt r (ix t)) (-3) 0))) (rfOk_S rfOk_k.1 (rfOk_W (rfOk_S rfOk_k.2.2.1 rfOk_0))))) (cwV 1 hts (lw_V q999 q1001 qs62 q86 q1002) rfl rfl rfl (by decide +kernel) ⟨Nat.le_of_ble_eq_true rfl, Nat.le_of_ble_eq_true rfl⟩) [0, 1, 2, 3, 4, 5, 6, 7, 8, 9, 10, 11, 12, 13, 14, 15, 16, 17, 18, 19, 20, 21, 22, 23, 24, 25, 26, 27, 28, 29, 30] [1, 3, 5, 7, 9, 11, 13, 15, 17, 19, 21, 23, 25, 27, 29, 31, 33, 35, 37, 39, 41, 43, 45, 47, 49, 51, 53, 55, 57, 59, 61, 62] rfl (fun _ => rfl) rfl rfl hl.1 rfl (Nat.le_of_ble_eq_true rfl) dX0_act_58 ⟨(Nat.le_of_ble_eq_true rfl), (Nat.le_of_ble_eq_true rfl)⟩ (fun r_4 u_4 H locs hw_4 hP hD hS => ?_)
        have hw_4 : (eS (tB r t) (-1) (eW (wBy sp.toInt 0 9) (eS (pSt r (ix t)) (-3) 0)) : Int32) = r_4 := hw_4.symm
        subst hw_4
        have hP : va_P G.1 vwCl (wX G ad ho rn ln dr ro lt (rfU rf (eS (tB r t) (-1) (eW (wBy sp.toInt 0 9) (eS (pSt r (ix t)) (-3) 0)))) th sb ++ wR G (ad 1) kd r ++ wR G (ad 2) k1 r1 ++ wR G (ad 3) k2 r2 ++ wK (ad 4) ++ [(q9, .inr (9, [e1, e2, e3, .null, .null, .int 0, .int (eS (tB r t) (-1) (eW (wBy sp.toInt 0 9) (eS (pSt r (ix t)) (-3) 0)))]))]) H := hP
        have hD : va_D A (wX G ad ho rn ln dr ro lt (rfU rf (eS (tB r t) (-1) (eW (wBy sp.toInt 0 9) (eS (pSt r (ix t)) (-3) 0)))) th sb ++ wR G (ad 1) kd r ++ wR G (ad 2) k1 r1 ++ wR G (ad 3) k2 r2 ++ wK (ad 4) ++ [(q9, .inr (9, [e1, e2, e3, .null, .null, .int 0, .int (eS (tB r t) (-1) (eW (wBy sp.toInt 0 9) (eS (pSt r (ix t)) (-3) 0)))]))]) := hD
        have hP := x_dropP hP
        have hD := x_dropD hD
        have hP : va_P G.1 vwCl (wX G ad ho rn ln dr ro lt (sel (eS (tB r t) (-1) (eW (wBy sp.toInt 0 9) (eS (pSt r (ix t)) (-3) 0))) rf (rfU rf (eS (tB r t) (-1) (eW (wBy sp.toInt 0 9) (eS (pSt r (ix t)) (-3) 0))))) th sb ++ wR G (ad 1) kd (sel (eS (tB r t) (-1) (eW (wBy sp.toInt 0 9) (eS (pSt r (ix t)) (-3) 0))) (pPull r (ix t) sp) r) ++ wR G (ad 2) k1 r1 ++ wR G (ad 3) k2 r2 ++ wK (ad 4)) H := by simp only [sel_n hne]; exact hP
        have hD : va_D A (wX G ad ho rn ln dr ro lt (sel (eS (tB r t) (-1) (eW (wBy sp.toInt 0 9) (eS (pSt r (ix t)) (-3) 0))) rf (rfU rf (eS (tB r t) (-1) (eW (wBy sp.toInt 0 9) (eS (pSt r (ix t)) (-3) 0))))) th sb ++ wR G (ad 1) kd (sel (eS (tB r t) (-1) (eW (wBy sp.toInt 0 9) (eS (pSt r (ix t)) (-3) 0))) (pPull r (ix t) sp) r) ++ wR G (ad 2) k1 r1 ++ wR G (ad 3) k2 r2 ++ wK (ad 4)) := by simp only [sel_n hne]; exact hD
        refine hret _ _ _ _ _ _ (eS (tB r t) (-1) (eW (wBy sp.toInt 0 9) (eS (pSt r (ix t)) (-3) 0))) () dX0_act_61 ?_ hP hD hS (Nat.le_of_ble_eq_true rfl) (Nat.le_of_ble_eq_true rfl)
        exact (sel_n hne).symm
      · skip
        have hP : va_P G.1 vwCl (wX G ad ho rn ln dr ro lt rf th sb ++ wR G (ad 1) kd r ++ wR G (ad 2) k1 r1 ++ wR G (ad 3) k2 r2 ++ wK (ad 4) ++ [(q9, .inr (11, [e1, e2, e3, .null, .null, .int 0, .int en]))]) H := hP
        have hD : va_D A (wX G ad ho rn ln dr ro lt rf th sb ++ wR G (ad 1) kd r ++ wR G (ad 2) k1 r1 ++ wR G (ad 3) k2 r2 ++ wK (ad 4) ++ [(q9, .inr (11, [e1, e2, e3, .null, .null, .int 0, .int en]))]) := hD
        obtain ⟨een, hne⟩ := hthr9
        have een : en = eS (tB r t) (-1) (eW (wBy sp.toInt 0 9) (eS (pSt r (ix t)) (-3) 0)) := een
        subst een
        have hP : va_P G.1 vwCl (wX G ad ho rn ln dr ro lt rf th sb ++ wR G (ad 1) kd r ++ wR G (ad 2) k1 r1 ++ wR G (ad 3) k2 r2 ++ wK (ad 4) ++ [(q9, .inr (11, [e1, e2, e3, .null, .null, .int 0, .int (eS (tB r t) (-1) (eW (wBy sp.toInt 0 9) (eS (pSt r (ix t)) (-3) 0)))]))]) H := hP
        have hD : va_D A (wX G ad ho rn ln dr ro lt rf th sb ++ wR G (ad 1) kd r ++ wR G (ad 2) k1 r1 ++ wR G (ad 3) k2 r2 ++ wK (ad 4) ++ [(q9, .inr (11, [e1, e2, e3, .null, .null, .int 0, .int (eS (tB r t) (-1) (eW (wBy sp.toInt 0 9) (eS (pSt r (ix t)) (-3) 0)))]))]) := hD
        refine x_Ui (wN := fun _ => (wX G ad ho rn ln dr ro lt rf th sb ++ wR G (ad 1) kd r ++ wR G (ad 2) k1 r1 ++ wR G (ad 3) k2 r2 ++ wK (ad 4) ++ [(q9, .inr (11, [e1, e2, e3, .null, .null, .int 0, .int (eS (tB r t) (-1) (eW (wBy sp.toInt 0 9) (eS (pSt r (ix t)) (-3) 0)))]))])) ⟨C0, hK, hP, hD, hS, hA⟩ 31 rfl (ci := 11) rfl rfl ((m_X13_number l G q9 e1 e2 e3 (eS (tB r t) (-1) (eW (wBy sp.toInt 0 9) (eS (pSt r (ix t)) (-3) 0))))) (va_cwA (owner := "PulledFromUnder$Refusal") 0 hts (lw_U q990 q992 q993 q994 q102 q995) rfl rfl rfl (hK.2.D 13 rfl) (by decide +kernel) ⟨Nat.le_of_ble_eq_true rfl, Nat.le_of_ble_eq_true rfl⟩) [31] [0, 2, 4, 6, 8, 10, 12, 14, 16, 18, 20, 22, 24, 26, 28, 30, 32, 34, 36, 38, 40, 42, 44, 46, 48, 50, 52, 54, 56, 58, 60, 1] rfl (fun _ => rfl) rfl rfl hl.1 rfl (Nat.le_of_ble_eq_true rfl) dX0_act_55 ⟨(Nat.le_of_ble_eq_true rfl), (Nat.le_of_ble_eq_true rfl)⟩ (fun r_5 u_5 H locs hw_5 hP hD hS => ?_)
        have hw_5 : (eS (tB r t) (-1) (eW (wBy sp.toInt 0 9) (eS (pSt r (ix t)) (-3) 0)) : Int32) = r_5 := hw_5.symm
        subst hw_5
        refine x_Vi (wN := fun _ => (wX G ad ho rn ln dr ro lt (rfU rf (eS (tB r t) (-1) (eW (wBy sp.toInt 0 9) (eS (pSt r (ix t)) (-3) 0)))) th sb ++ wR G (ad 1) kd r ++ wR G (ad 2) k1 r1 ++ wR G (ad 3) k2 r2 ++ wK (ad 4) ++ [(q9, .inr (11, [e1, e2, e3, .null, .null, .int 0, .int (eS (tB r t) (-1) (eW (wBy sp.toInt 0 9) (eS (pSt r (ix t)) (-3) 0)))]))])) ⟨C0, hK, hP, hD, hS, hA⟩ 0 rfl (ci := 0) rfl rfl ((m_refuse l G ad kd k1 k2 r r1 r2 ho rn ln dr ro lt rf th sb hr hp hk (eS (tB r t) (-1) (eW (wBy sp.toInt 0 9) (eS (pSt r (ix t)) (-3) 0))) (rfOk_S rfOk_k.1 (rfOk_W (rfOk_S rfOk_k.2.2.1 rfOk_0))))) (cwV 1 hts (lw_V q999 q1001 qs62 q86 q1002) rfl rfl rfl (by decide +kernel) ⟨Nat.le_of_ble_eq_true rfl, Nat.le_of_ble_eq_true rfl⟩) [0, 1, 2, 3, 4, 5, 6, 7, 8, 9, 10, 11, 12, 13, 14, 15, 16, 17, 18, 19, 20, 21, 22, 23, 24, 25, 26, 27, 28, 29, 30] [1, 3, 5, 7, 9, 11, 13, 15, 17, 19, 21, 23, 25, 27, 29, 31, 33, 35, 37, 39, 41, 43, 45, 47, 49, 51, 53, 55, 57, 59, 61, 62] rfl (fun _ => rfl) rfl rfl hl.1 rfl (Nat.le_of_ble_eq_true rfl) dX0_act_58 ⟨(Nat.le_of_ble_eq_true rfl), (Nat.le_of_ble_eq_true rfl)⟩ (fun r_6 u_6 H locs hw_6 hP hD hS => ?_)
        have hw_6 : (eS (tB r t) (-1) (eW (wBy sp.toInt 0 9) (eS (pSt r (ix t)) (-3) 0)) : Int32) = r_6 := hw_6.symm
        subst hw_6
        have hP : va_P G.1 vwCl (wX G ad ho rn ln dr ro lt (rfU rf (eS (tB r t) (-1) (eW (wBy sp.toInt 0 9) (eS (pSt r (ix t)) (-3) 0)))) th sb ++ wR G (ad 1) kd r ++ wR G (ad 2) k1 r1 ++ wR G (ad 3) k2 r2 ++ wK (ad 4) ++ [(q9, .inr (11, [e1, e2, e3, .null, .null, .int 0, .int (eS (tB r t) (-1) (eW (wBy sp.toInt 0 9) (eS (pSt r (ix t)) (-3) 0)))]))]) H := hP
        have hD : va_D A (wX G ad ho rn ln dr ro lt (rfU rf (eS (tB r t) (-1) (eW (wBy sp.toInt 0 9) (eS (pSt r (ix t)) (-3) 0)))) th sb ++ wR G (ad 1) kd r ++ wR G (ad 2) k1 r1 ++ wR G (ad 3) k2 r2 ++ wK (ad 4) ++ [(q9, .inr (11, [e1, e2, e3, .null, .null, .int 0, .int (eS (tB r t) (-1) (eW (wBy sp.toInt 0 9) (eS (pSt r (ix t)) (-3) 0)))]))]) := hD
        have hP := x_dropP hP
        have hD := x_dropD hD
        have hP : va_P G.1 vwCl (wX G ad ho rn ln dr ro lt (sel (eS (tB r t) (-1) (eW (wBy sp.toInt 0 9) (eS (pSt r (ix t)) (-3) 0))) rf (rfU rf (eS (tB r t) (-1) (eW (wBy sp.toInt 0 9) (eS (pSt r (ix t)) (-3) 0))))) th sb ++ wR G (ad 1) kd (sel (eS (tB r t) (-1) (eW (wBy sp.toInt 0 9) (eS (pSt r (ix t)) (-3) 0))) (pPull r (ix t) sp) r) ++ wR G (ad 2) k1 r1 ++ wR G (ad 3) k2 r2 ++ wK (ad 4)) H := by simp only [sel_n hne]; exact hP
        have hD : va_D A (wX G ad ho rn ln dr ro lt (sel (eS (tB r t) (-1) (eW (wBy sp.toInt 0 9) (eS (pSt r (ix t)) (-3) 0))) rf (rfU rf (eS (tB r t) (-1) (eW (wBy sp.toInt 0 9) (eS (pSt r (ix t)) (-3) 0))))) th sb ++ wR G (ad 1) kd (sel (eS (tB r t) (-1) (eW (wBy sp.toInt 0 9) (eS (pSt r (ix t)) (-3) 0))) (pPull r (ix t) sp) r) ++ wR G (ad 2) k1 r1 ++ wR G (ad 3) k2 r2 ++ wK (ad 4)) := by simp only [sel_n hne]; exact hD
        refine hret _ _ _ _ _ _ (eS (tB r t) (-1) (eW (wBy sp.toInt 0 9) (eS (pSt r (ix t)) (-3) 0))) () dX0_act_61 ?_ hP hD hS (Nat.le_of_ble_eq_true rfl) (Nat.le_of_ble_eq_true rfl)
        exact (sel_n hne).symm
    · skip
      obtain ⟨hz_2, hw_2⟩ := hw_2
      have hw_2 : (pPullN r (ix t) sp : Int32) = r_2 := hw_2.symm
      subst hw_2
      have hP : va_P G.1 vwCl (wX G ad ho rn ln dr ro lt rf th sb ++ wR G (ad 1) kd (pPull r (ix t) sp) ++ wR G (ad 2) k1 r1 ++ wR G (ad 3) k2 r2 ++ wK (ad 4)) H := hP
      have hD : va_D A (wX G ad ho rn ln dr ro lt rf th sb ++ wR G (ad 1) kd (pPull r (ix t) sp) ++ wR G (ad 2) k1 r1 ++ wR G (ad 3) k2 r2 ++ wK (ad 4)) := hD
      refine W.widen (k := 4) (n := 28) (Nat.le_of_ble_eq_true rfl) (Nat.le_of_ble_eq_true rfl) ?_
      refine lv_goto (tgt := 49) hx hb dX0_act_15 (by decide) ?_
      have hP : va_P G.1 vwCl (wX G ad ho rn ln dr ro lt (sel (eS (tB r t) (-1) (eW (wBy sp.toInt 0 9) (eS (pSt r (ix t)) (-3) 0))) rf (rfU rf (eS (tB r t) (-1) (eW (wBy sp.toInt 0 9) (eS (pSt r (ix t)) (-3) 0))))) th sb ++ wR G (ad 1) kd (sel (eS (tB r t) (-1) (eW (wBy sp.toInt 0 9) (eS (pSt r (ix t)) (-3) 0))) (pPull r (ix t) sp) r) ++ wR G (ad 2) k1 r1 ++ wR G (ad 3) k2 r2 ++ wK (ad 4)) H := by simp only [sel_0 hz_2]; exact hP
      have hD : va_D A (wX G ad ho rn ln dr ro lt (sel (eS (tB r t) (-1) (eW (wBy sp.toInt 0 9) (eS (pSt r (ix t)) (-3) 0))) rf (rfU rf (eS (tB r t) (-1) (eW (wBy sp.toInt 0 9) (eS (pSt r (ix t)) (-3) 0))))) th sb ++ wR G (ad 1) kd (sel (eS (tB r t) (-1) (eW (wBy sp.toInt 0 9) (eS (pSt r (ix t)) (-3) 0))) (pPull r (ix t) sp) r) ++ wR G (ad 2) k1 r1 ++ wR G (ad 3) k2 r2 ++ wK (ad 4)) := by simp only [sel_0 hz_2]; exact hD
      refine hret _ _ _ _ _ _ (pPullN r (ix t) sp) () dX0_act_49 ?_ hP hD hS (Nat.le_of_ble_eq_true rfl) (Nat.le_of_ble_eq_true rfl)
      exact (sel_0 hz_2).symm
set_option maxHeartbeats 4000000 in
set_option maxRecDepth 100000 in
theorem m_act_4 (l : Launch) (hl0 : l.stackTraces = false) (G : xG) (ad : Nat → Nat → Nat) (kd k1 k2 : Nat → Option Nat) (r r1 r2 : Rw) (ho rn ln dr : Int32) (ro lt rf th sb : Nat → Int32) (hr : Ok r) (hp : r 5 3 = 0) (hk : kOk (ad 4) kd r) (sp z10 z11 z12 z13 : Int32) : zCi l G yX0_act (wsW_ yX0_act cX0_act 8 (some .int) [(0, 49, 50, 239)]) ({ frames := 12, cells := 3, slots := 21, locals := 219 } : Room) [.ref (ad 0 0), .int 4, .int sp, .int z10, .int z11, .int z12, .int z13] (wX G ad ho rn ln dr ro lt rf th sb ++ wR G (ad 1) kd r ++ wR G (ad 2) k1 r1 ++ wR G (ad 3) k2 r2 ++ wK (ad 4)) (S := Unit) (fun v _ => v = sel (eW (wBy sp.toInt 0 9) (eS (bB r) (-3) 0)) (pPullFN r sp) (eW (wBy sp.toInt 0 9) (eS (bB r) (-3) 0))) (fun _ => (wX G ad ho rn ln dr ro lt (sel (eW (wBy sp.toInt 0 9) (eS (bB r) (-3) 0)) rf (rfU rf (eW (wBy sp.toInt 0 9) (eS (bB r) (-3) 0)))) th sb ++ wR G (ad 1) kd (sel (eW (wBy sp.toInt 0 9) (eS (bB r) (-3) 0)) (pPullF r sp) r) ++ wR G (ad 2) k1 r1 ++ wR G (ad 3) k2 r2 ++ wK (ad 4))) := by
  refine z_openiW (hh := [(0, 49, 50, 239)]) (by decide) (Nat.le_of_ble_eq_true rfl) (fun _ _ _ => rfl) ?_
  intro p e s m args below meth c A Q ls C0 hK hZ hP hD hA hl htb hret
  obtain ⟨hx, hb, hml, hown, hts⟩ := id C0
  have hS : va_S A s.heap s.heap [] := va_S.rf
  have hP : va_P G.1 vwCl (wX G ad ho rn ln dr ro lt rf th sb ++ wR G (ad 1) kd r ++ wR G (ad 2) k1 r1 ++ wR G (ad 3) k2 r2 ++ wK (ad 4)) s.heap := hP
  have hD : va_D A (wX G ad ho rn ln dr ro lt rf th sb ++ wR G (ad 1) kd r ++ wR G (ad 2) k1 r1 ++ wR G (ad 3) k2 r2 ++ wK (ad 4)) := hD
  have hl : lv_has ls 8 [(0, .ref (ad 0 0)), (1, .int 4), (2, .int sp), (3, .int z10), (4, .int z11), (5, .int z12), (6, .int z13)] := hl
  have hr0 := hr.n
  have hN := hr.le
  refine lv_iload_n hx hb dX0_act_0 rfl (lv_at hl 1 rfl) ?_
  refine lv_bipush (v := 9) hx hb dX0_act_1 (by decide) ?_
  refine lv_icmp_ge (tgt := 18) hx hb dX0_act_3 (by decide) (fun c_1 => ?_) (fun c_1 => ?_)
  · skip
    exact absurd c_1 (by decide)
  · skip
    refine lv_aload_n hx hb dX0_act_6 rfl (lv_at hl 0 rfl) ?_
    refine lv_iload_n hx hb dX0_act_7 rfl (lv_at hl 1 rfl) ?_
    refine lv_iload_n hx hb dX0_act_8 rfl (lv_at hl 2 rfl) ?_
    refine lv_iload_n hx hb dX0_act_9 rfl (lv_at hl 3 rfl) ?_
    refine lv_iload hx hb dX0_act_10 (lv_at hl 4 rfl) ?_
    refine y_Vi (wN := fun u_2 => (wX G ad ho rn ln dr ro lt rf th sb ++ wR G (ad 1) kd (pPullF r sp) ++ wR G (ad 2) k1 r1 ++ wR G (ad 3) k2 r2 ++ wK (ad 4))) (wNx := fun u9 => (wX G ad ho rn ln dr ro lt rf th sb ++ wR G (ad 1) kd r ++ wR G (ad 2) k1 r1 ++ wR G (ad 3) k2 r2 ++ wK (ad 4))) ⟨C0, hK, hP, hD, hS, hA⟩ hZ 0 rfl (ci := 0) rfl rfl ((m_of_4 l hl0 G ad kd k1 k2 r r1 r2 ho rn ln dr ro lt rf th sb hr hp hk sp z10 z11)) (cwV 4 hts (lw_V q274 q276 qs1 q86 q277) rfl rfl rfl (by decide +kernel) ⟨Nat.le_of_ble_eq_true rfl, Nat.le_of_ble_eq_true rfl⟩) [0, 1, 2, 3, 4, 5, 6, 7, 8, 9, 10, 11, 12, 13, 14, 15, 16, 17, 18, 19, 20, 21, 22, 23, 24, 25, 26, 27, 28, 29, 30] [1, 3, 5, 7, 9, 11, 13, 15, 17, 19, 21, 23, 25, 27, 29, 31, 33, 35, 37, 39, 41, 43, 45, 47, 49, 51, 53, 55, 57, 59, 61] [1, 3, 5, 7, 9, 11, 13, 15, 17, 19, 21, 23, 25, 27, 29, 31, 33, 35, 37, 39, 41, 43, 45, 47, 49, 51, 53, 55, 57, 59, 61, 63] rfl (fun _ => rfl) (fun _ _ _ => rfl) rfl rfl rfl hl.1 rfl (Nat.le_of_ble_eq_true rfl) dX0_act_12 ⟨(Nat.le_of_ble_eq_true rfl), (Nat.le_of_ble_eq_true rfl)⟩ (fun q9 u9 ee H locs hw_2 hP hD hS => ?_) (fun r_2 u_2 H locs hw_2 hP hD hS => ?_)
    · skip
      refine z_catch ⟨0, 49, 50, 239⟩ hown hK htb rfl (by decide) (by decide) (hts _ q273) hP ?_
      have hthr9 : ee.2.1 = eW (wBy sp.toInt 0 9) (eS (bB r) (-3) 0) ∧ eW (wBy sp.toInt 0 9) (eS (bB r) (-3) 0) ≠ 0 := hw_2
      refine lv_astore (lv' := [(7, .ref q9), (0, .ref (ad 0 0)), (1, .int 4), (2, .int sp), (3, .int z10), (4, .int z11), (5, .int z12), (6, .int z13)]) hx hb dX0_act_50 hl (by decide) rfl (fun ls hl => ?_)
      refine lv_aload_n hx hb dX0_act_52 rfl (lv_at hl 1 rfl) ?_
      refine lv_aload hx hb dX0_act_53 (lv_at hl 0 rfl) ?_
      obtain ⟨ek, en, e1, e2, e3⟩ := ee
      cases ek
      · skip
        have hP : va_P G.1 vwCl (wX G ad ho rn ln dr ro lt rf th sb ++ wR G (ad 1) kd r ++ wR G (ad 2) k1 r1 ++ wR G (ad 3) k2 r2 ++ wK (ad 4) ++ [(q9, .inr (9, [e1, e2, e3, .null, .null, .int 0, .int en]))]) H := hP
        have hD : va_D A (wX G ad ho rn ln dr ro lt rf th sb ++ wR G (ad 1) kd r ++ wR G (ad 2) k1 r1 ++ wR G (ad 3) k2 r2 ++ wK (ad 4) ++ [(q9, .inr (9, [e1, e2, e3, .null, .null, .int 0, .int en]))]) := hD
        obtain ⟨een, hne⟩ := hthr9
        have een : en = eW (wBy sp.toInt 0 9) (eS (bB r) (-3) 0) := een
        subst een
        have hP : va_P G.1 vwCl (wX G ad ho rn ln dr ro lt rf th sb ++ wR G (ad 1) kd r ++ wR G (ad 2) k1 r1 ++ wR G (ad 3) k2 r2 ++ wK (ad 4) ++ [(q9, .inr (9, [e1, e2, e3, .null, .null, .int 0, .int (eW (wBy sp.toInt 0 9) (eS (bB r) (-3) 0))]))]) H := hP
        have hD : va_D A (wX G ad ho rn ln dr ro lt rf th sb ++ wR G (ad 1) kd r ++ wR G (ad 2) k1 r1 ++ wR G (ad 3) k2 r2 ++ wK (ad 4) ++ [(q9, .inr (9, [e1, e2, e3, .null, .null, .int 0, .int (eW (wBy sp.toInt 0 9) (eS (bB r) (-3) 0))]))]) := hD
        refine x_Ui (wN := fun _ => (wX G ad ho rn ln dr ro lt rf th sb ++ wR G (ad 1) kd r ++ wR G (ad 2) k1 r1 ++ wR G (ad 3) k2 r2 ++ wK (ad 4) ++ [(q9, .inr (9, [e1, e2, e3, .null, .null, .int 0, .int (eW (wBy sp.toInt 0 9) (eS (bB r) (-3) 0))]))])) ⟨C0, hK, hP, hD, hS, hA⟩ 31 rfl (ci := 9) rfl rfl ((m_X11_number l G q9 e1 e2 e3 (eW (wBy sp.toInt 0 9) (eS (bB r) (-3) 0)))) (va_cwA (owner := "PulledFromUnder$Refusal") 0 hts (lw_U q990 q992 q996 q997 q100 q998) rfl rfl rfl (hK.2.D 13 rfl) (by decide +kernel) ⟨Nat.le_of_ble_eq_true rfl, Nat.le_of_ble_eq_true rfl⟩) [31] [0, 2, 4, 6, 8, 10, 12, 14, 16, 18, 20, 22, 24, 26, 28, 30, 32, 34, 36, 38, 40, 42, 44, 46, 48, 50, 52, 54, 56, 58, 60, 1] rfl (fun _ => rfl) rfl rfl hl.1 rfl (Nat.le_of_ble_eq_true rfl) dX0_act_55 ⟨(Nat.le_of_ble_eq_true rfl), (Nat.le_of_ble_eq_true rfl)⟩ (fun r_3 u_3 H locs hw_3 hP hD hS => ?_)
        have hw_3 : (eW (wBy sp.toInt 0 9) (eS (bB r) (-3) 0) : Int32) = r_3 := hw_3.symm
        subst hw_3
        refine x_Vi (wN := fun _ => (wX G ad ho rn ln dr ro lt (rfU rf (eW (wBy sp.toInt 0 9) (eS (bB r) (-3) 0))) th sb ++ wR G (ad 1) kd r ++ wR G (ad 2) k1 r1 ++ wR G (ad 3) k2 r2 ++ wK (ad 4) ++ [(q9, .inr (9, [e1, e2, e3, .null, .null, .int 0, .int (eW (wBy sp.toInt 0 9) (eS (bB r) (-3) 0))]))])) ⟨C0, hK, hP, hD, hS, hA⟩ 0 rfl (ci := 0) rfl rfl ((m_refuse l G ad kd k1 k2 r r1 r2 ho rn ln dr ro lt rf th sb hr hp hk (eW (wBy sp.toInt 0 9) (eS (bB r) (-3) 0)) (rfOk_W (rfOk_S rfOk_k.2.2.1 rfOk_0)))) (cwV 1 hts (lw_V q999 q1001 qs62 q86 q1002) rfl rfl rfl (by decide +kernel) ⟨Nat.le_of_ble_eq_true rfl, Nat.le_of_ble_eq_true rfl⟩) [0, 1, 2, 3, 4, 5, 6, 7, 8, 9, 10, 11, 12, 13, 14, 15, 16, 17, 18, 19, 20, 21, 22, 23, 24, 25, 26, 27, 28, 29, 30] [1, 3, 5, 7, 9, 11, 13, 15, 17, 19, 21, 23, 25, 27, 29, 31, 33, 35, 37, 39, 41, 43, 45, 47, 49, 51, 53, 55, 57, 59, 61, 62] rfl (fun _ => rfl) rfl rfl hl.1 rfl (Nat.le_of_ble_eq_true rfl) dX0_act_58 ⟨(Nat.le_of_ble_eq_true rfl), (Nat.le_of_ble_eq_true rfl)⟩ (fun r_4 u_4 H locs hw_4 hP hD hS => ?_)
        have hw_4 : (eW (wBy sp.toInt 0 9) (eS (bB r) (-3) 0) : Int32) = r_4 := hw_4.symm
        subst hw_4
        have hP : va_P G.1 vwCl (wX G ad ho rn ln dr ro lt (rfU rf (eW (wBy sp.toInt 0 9) (eS (bB r) (-3) 0))) th sb ++ wR G (ad 1) kd r ++ wR G (ad 2) k1 r1 ++ wR G (ad 3) k2 r2 ++ wK (ad 4) ++ [(q9, .inr (9, [e1, e2, e3, .null, .null, .int 0, .int (eW (wBy sp.toInt 0 9) (eS (bB r) (-3) 0))]))]) H := hP
        have hD : va_D A (wX G ad ho rn ln dr ro lt (rfU rf (eW (wBy sp.toInt 0 9) (eS (bB r) (-3) 0))) th sb ++ wR G (ad 1) kd r ++ wR G (ad 2) k1 r1 ++ wR G (ad 3) k2 r2 ++ wK (ad 4) ++ [(q9, .inr (9, [e1, e2, e3, .null, .null, .int 0, .int (eW (wBy sp.toInt 0 9) (eS (bB r) (-3) 0))]))]) := hD
        have hP := x_dropP hP
        have hD := x_dropD hD
        have hP : va_P G.1 vwCl (wX G ad ho rn ln dr ro lt (sel (eW (wBy sp.toInt 0 9) (eS (bB r) (-3) 0)) rf (rfU rf (eW (wBy sp.toInt 0 9) (eS (bB r) (-3) 0)))) th sb ++ wR G (ad 1) kd (sel (eW (wBy sp.toInt 0 9) (eS (bB r) (-3) 0)) (pPullF r sp) r) ++ wR G (ad 2) k1 r1 ++ wR G (ad 3) k2 r2 ++ wK (ad 4)) H := by simp only [sel_n hne]; exact hP
        have hD : va_D A (wX G ad ho rn ln dr ro lt (sel (eW (wBy sp.toInt 0 9) (eS (bB r) (-3) 0)) rf (rfU rf (eW (wBy sp.toInt 0 9) (eS (bB r) (-3) 0)))) th sb ++ wR G (ad 1) kd (sel (eW (wBy sp.toInt 0 9) (eS (bB r) (-3) 0)) (pPullF r sp) r) ++ wR G (ad 2) k1 r1 ++ wR G (ad 3) k2 r2 ++ wK (ad 4)) := by simp only [sel_n hne]; exact hD
        refine hret _ _ _ _ _ _ (eW (wBy sp.toInt 0 9) (eS (bB r) (-3) 0)) () dX0_act_61 ?_ hP hD hS (Nat.le_of_ble_eq_true rfl) (Nat.le_of_ble_eq_true rfl)
        exact (sel_n hne).symm
      · skip
        have hP : va_P G.1 vwCl (wX G ad ho rn ln dr ro lt rf th sb ++ wR G (ad 1) kd r ++ wR G (ad 2) k1 r1 ++ wR G (ad 3) k2 r2 ++ wK (ad 4) ++ [(q9, .inr (11, [e1, e2, e3, .null, .null, .int 0, .int en]))]) H := hP
        have hD : va_D A (wX G ad ho rn ln dr ro lt rf th sb ++ wR G (ad 1) kd r ++ wR G (ad 2) k1 r1 ++ wR G (ad 3) k2 r2 ++ wK (ad 4) ++ [(q9, .inr (11, [e1, e2, e3, .null, .null, .int 0, .int en]))]) := hD
        obtain ⟨een, hne⟩ := hthr9
        have een : en = eW (wBy sp.toInt 0 9) (eS (bB r) (-3) 0) := een
        subst een
        have hP : va_P G.1 vwCl (wX G ad ho rn ln dr ro lt rf th sb ++ wR G (ad 1) kd r ++ wR G (ad 2) k1 r1 ++ wR G (ad 3) k2 r2 ++ wK (ad 4) ++ [(q9, .inr (11, [e1, e2, e3, .null, .null, .int 0, .int (eW (wBy sp.toInt 0 9) (eS (bB r) (-3) 0))]))]) H := hP
        have hD : va_D A (wX G ad ho rn ln dr ro lt rf th sb ++ wR G (ad 1) kd r ++ wR G (ad 2) k1 r1 ++ wR G (ad 3) k2 r2 ++ wK (ad 4) ++ [(q9, .inr (11, [e1, e2, e3, .null, .null, .int 0, .int (eW (wBy sp.toInt 0 9) (eS (bB r) (-3) 0))]))]) := hD
        refine x_Ui (wN := fun _ => (wX G ad ho rn ln dr ro lt rf th sb ++ wR G (ad 1) kd r ++ wR G (ad 2) k1 r1 ++ wR G (ad 3) k2 r2 ++ wK (ad 4) ++ [(q9, .inr (11, [e1, e2, e3, .null, .null, .int 0, .int (eW (wBy sp.toInt 0 9) (eS (bB r) (-3) 0))]))])) ⟨C0, hK, hP, hD, hS, hA⟩ 31 rfl (ci := 11) rfl rfl ((m_X13_number l G q9 e1 e2 e3 (eW (wBy sp.toInt 0 9) (eS (bB r) (-3) 0)))) (va_cwA (owner := "PulledFromUnder$Refusal") 0 hts (lw_U q990 q992 q993 q994 q102 q995) rfl rfl rfl (hK.2.D 13 rfl) (by decide +kernel) ⟨Nat.le_of_ble_eq_true rfl, Nat.le_of_ble_eq_true rfl⟩) [31] [0, 2, 4, 6, 8, 10, 12, 14, 16, 18, 20, 22, 24, 26, 28, 30, 32, 34, 36, 38, 40, 42, 44, 46, 48, 50, 52, 54, 56, 58, 60, 1] rfl (fun _ => rfl) rfl rfl hl.1 rfl (Nat.le_of_ble_eq_true rfl) dX0_act_55 ⟨(Nat.le_of_ble_eq_true rfl), (Nat.le_of_ble_eq_true rfl)⟩ (fun r_5 u_5 H locs hw_5 hP hD hS => ?_)
        have hw_5 : (eW (wBy sp.toInt 0 9) (eS (bB r) (-3) 0) : Int32) = r_5 := hw_5.symm
        subst hw_5
        refine x_Vi (wN := fun _ => (wX G ad ho rn ln dr ro lt (rfU rf (eW (wBy sp.toInt 0 9) (eS (bB r) (-3) 0))) th sb ++ wR G (ad 1) kd r ++ wR G (ad 2) k1 r1 ++ wR G (ad 3) k2 r2 ++ wK (ad 4) ++ [(q9, .inr (11, [e1, e2, e3, .null, .null, .int 0, .int (eW (wBy sp.toInt 0 9) (eS (bB r) (-3) 0))]))])) ⟨C0, hK, hP, hD, hS, hA⟩ 0 rfl (ci := 0) rfl rfl ((m_refuse l G ad kd k1 k2 r r1 r2 ho rn ln dr ro lt rf th sb hr hp hk (eW (wBy sp.toInt 0 9) (eS (bB r) (-3) 0)) (rfOk_W (rfOk_S rfOk_k.2.2.1 rfOk_0)))) (cwV 1 hts (lw_V q999 q1001 qs62 q86 q1002) rfl rfl rfl (by decide +kernel) ⟨Nat.le_of_ble_eq_true rfl, Nat.le_of_ble_eq_true rfl⟩) [0, 1, 2, 3, 4, 5, 6, 7, 8, 9, 10, 11, 12, 13, 14, 15, 16, 17, 18, 19, 20, 21, 22, 23, 24, 25, 26, 27, 28, 29, 30] [1, 3, 5, 7, 9, 11, 13, 15, 17, 19, 21, 23, 25, 27, 29, 31, 33, 35, 37, 39, 41, 43, 45, 47, 49, 51, 53, 55, 57, 59, 61, 62] rfl (fun _ => rfl) rfl rfl hl.1 rfl (Nat.le_of_ble_eq_true rfl) dX0_act_58 ⟨(Nat.le_of_ble_eq_true rfl), (Nat.le_of_ble_eq_true rfl)⟩ (fun r_6 u_6 H locs hw_6 hP hD hS => ?_)
        have hw_6 : (eW (wBy sp.toInt 0 9) (eS (bB r) (-3) 0) : Int32) = r_6 := hw_6.symm
        subst hw_6
        have hP : va_P G.1 vwCl (wX G ad ho rn ln dr ro lt (rfU rf (eW (wBy sp.toInt 0 9) (eS (bB r) (-3) 0))) th sb ++ wR G (ad 1) kd r ++ wR G (ad 2) k1 r1 ++ wR G (ad 3) k2 r2 ++ wK (ad 4) ++ [(q9, .inr (11, [e1, e2, e3, .null, .null, .int 0, .int (eW (wBy sp.toInt 0 9) (eS (bB r) (-3) 0))]))]) H := hP
        have hD : va_D A (wX G ad ho rn ln dr ro lt (rfU rf (eW (wBy sp.toInt 0 9) (eS (bB r) (-3) 0))) th sb ++ wR G (ad 1) kd r ++ wR G (ad 2) k1 r1 ++ wR G (ad 3) k2 r2 ++ wK (ad 4) ++ [(q9, .inr (11, [e1, e2, e3, .null, .null, .int 0, .int (eW (wBy sp.toInt 0 9) (eS (bB r) (-3) 0))]))]) := hD
        have hP := x_dropP hP
        have hD := x_dropD hD
        have hP : va_P G.1 vwCl (wX G ad ho rn ln dr ro lt (sel (eW (wBy sp.toInt 0 9) (eS (bB r) (-3) 0)) rf (rfU rf (eW (wBy sp.toInt 0 9) (eS (bB r) (-3) 0)))) th sb ++ wR G (ad 1) kd (sel (eW (wBy sp.toInt 0 9) (eS (bB r) (-3) 0)) (pPullF r sp) r) ++ wR G (ad 2) k1 r1 ++ wR G (ad 3) k2 r2 ++ wK (ad 4)) H := by simp only [sel_n hne]; exact hP
        have hD : va_D A (wX G ad ho rn ln dr ro lt (sel (eW (wBy sp.toInt 0 9) (eS (bB r) (-3) 0)) rf (rfU rf (eW (wBy sp.toInt 0 9) (eS (bB r) (-3) 0)))) th sb ++ wR G (ad 1) kd (sel (eW (wBy sp.toInt 0 9) (eS (bB r) (-3) 0)) (pPullF r sp) r) ++ wR G (ad 2) k1 r1 ++ wR G (ad 3) k2 r2 ++ wK (ad 4)) := by simp only [sel_n hne]; exact hD
        refine hret _ _ _ _ _ _ (eW (wBy sp.toInt 0 9) (eS (bB r) (-3) 0)) () dX0_act_61 ?_ hP hD hS (Nat.le_of_ble_eq_true rfl) (Nat.le_of_ble_eq_true rfl)
        exact (sel_n hne).symm
    · skip
      obtain ⟨hz_2, hw_2⟩ := hw_2
      have hw_2 : (pPullFN r sp : Int32) = r_2 := hw_2.symm
      subst hw_2
      have hP : va_P G.1 vwCl (wX G ad ho rn ln dr ro lt rf th sb ++ wR G (ad 1) kd (pPullF r sp) ++ wR G (ad 2) k1 r1 ++ wR G (ad 3) k2 r2 ++ wK (ad 4)) H := hP
      have hD : va_D A (wX G ad ho rn ln dr ro lt rf th sb ++ wR G (ad 1) kd (pPullF r sp) ++ wR G (ad 2) k1 r1 ++ wR G (ad 3) k2 r2 ++ wK (ad 4)) := hD
      refine W.widen (k := 3) (n := 21) (Nat.le_of_ble_eq_true rfl) (Nat.le_of_ble_eq_true rfl) ?_
      refine lv_goto (tgt := 49) hx hb dX0_act_15 (by decide) ?_
      have hP : va_P G.1 vwCl (wX G ad ho rn ln dr ro lt (sel (eW (wBy sp.toInt 0 9) (eS (bB r) (-3) 0)) rf (rfU rf (eW (wBy sp.toInt 0 9) (eS (bB r) (-3) 0)))) th sb ++ wR G (ad 1) kd (sel (eW (wBy sp.toInt 0 9) (eS (bB r) (-3) 0)) (pPullF r sp) r) ++ wR G (ad 2) k1 r1 ++ wR G (ad 3) k2 r2 ++ wK (ad 4)) H := by simp only [sel_0 hz_2]; exact hP
      have hD : va_D A (wX G ad ho rn ln dr ro lt (sel (eW (wBy sp.toInt 0 9) (eS (bB r) (-3) 0)) rf (rfU rf (eW (wBy sp.toInt 0 9) (eS (bB r) (-3) 0)))) th sb ++ wR G (ad 1) kd (sel (eW (wBy sp.toInt 0 9) (eS (bB r) (-3) 0)) (pPullF r sp) r) ++ wR G (ad 2) k1 r1 ++ wR G (ad 3) k2 r2 ++ wK (ad 4)) := by simp only [sel_0 hz_2]; exact hD
      refine hret _ _ _ _ _ _ (pPullFN r sp) () dX0_act_49 ?_ hP hD hS (Nat.le_of_ble_eq_true rfl) (Nat.le_of_ble_eq_true rfl)
      exact (sel_0 hz_2).symm
set_option maxHeartbeats 4000000 in
set_option maxRecDepth 100000 in
theorem m_act_5 (l : Launch) (hl0 : l.stackTraces = false) (G : xG) (ad : Nat → Nat → Nat) (kd k1 k2 : Nat → Option Nat) (r r1 r2 : Rw) (ho rn ln dr : Int32) (ro lt rf th sb : Nat → Int32) (hr : Ok r) (hp : r 5 3 = 0) (hk : kOk (ad 4) kd r) (z10 z11 z12 z13 z14 : Int32) : zCi l G yX0_act (wsW_ yX0_act cX0_act 8 (some .int) [(0, 49, 50, 239)]) ({ frames := 10, cells := 1, slots := 7, locals := 175 } : Room) [.ref (ad 0 0), .int 5, .int z10, .int z11, .int z12, .int z13, .int z14] (wX G ad ho rn ln dr ro lt rf th sb ++ wR G (ad 1) kd r ++ wR G (ad 2) k1 r1 ++ wR G (ad 3) k2 r2 ++ wK (ad 4)) (S := Unit) (fun v _ => v = sel (eS (!bB r) (-3) 0) (nI (cn (pLyP (pLay r)) (mny r))) (eS (!bB r) (-3) 0)) (fun _ => (wX G ad ho rn ln dr ro lt (sel (eS (!bB r) (-3) 0) rf (rfU rf (eS (!bB r) (-3) 0))) th sb ++ wR G (ad 1) kd (sel (eS (!bB r) (-3) 0) (pLay r) r) ++ wR G (ad 2) k1 r1 ++ wR G (ad 3) k2 r2 ++ wK (ad 4))) := by
  refine z_openiW (hh := [(0, 49, 50, 239)]) (by decide) (Nat.le_of_ble_eq_true rfl) (fun _ _ _ => rfl) ?_
  intro p e s m args below meth c A Q ls C0 hK hZ hP hD hA hl htb hret
  obtain ⟨hx, hb, hml, hown, hts⟩ := id C0
  have hS : va_S A s.heap s.heap [] := va_S.rf
  have hP : va_P G.1 vwCl (wX G ad ho rn ln dr ro lt rf th sb ++ wR G (ad 1) kd r ++ wR G (ad 2) k1 r1 ++ wR G (ad 3) k2 r2 ++ wK (ad 4)) s.heap := hP
  have hD : va_D A (wX G ad ho rn ln dr ro lt rf th sb ++ wR G (ad 1) kd r ++ wR G (ad 2) k1 r1 ++ wR G (ad 3) k2 r2 ++ wK (ad 4)) := hD
  have hl : lv_has ls 8 [(0, .ref (ad 0 0)), (1, .int 5), (2, .int z10), (3, .int z11), (4, .int z12), (5, .int z13), (6, .int z14)] := hl
  have hr0 := hr.n
  have hN := hr.le
  refine lv_iload_n hx hb dX0_act_0 rfl (lv_at hl 1 rfl) ?_
  refine lv_bipush (v := 9) hx hb dX0_act_1 (by decide) ?_
  refine lv_icmp_ge (tgt := 18) hx hb dX0_act_3 (by decide) (fun c_1 => ?_) (fun c_1 => ?_)
  · skip
    exact absurd c_1 (by decide)
  · skip
    refine lv_aload_n hx hb dX0_act_6 rfl (lv_at hl 0 rfl) ?_
    refine lv_iload_n hx hb dX0_act_7 rfl (lv_at hl 1 rfl) ?_
    refine lv_iload_n hx hb dX0_act_8 rfl (lv_at hl 2 rfl) ?_
    refine lv_iload_n hx hb dX0_act_9 rfl (lv_at hl 3 rfl) ?_
    refine lv_iload hx hb dX0_act_10 (lv_at hl 4 rfl) ?_
    refine y_Vi (wN := fun u_2 => (wX G ad ho rn ln dr ro lt rf th sb ++ wR G (ad 1) kd (pLay r) ++ wR G (ad 2) k1 r1 ++ wR G (ad 3) k2 r2 ++ wK (ad 4))) (wNx := fun u9 => (wX G ad ho rn ln dr ro lt rf th sb ++ wR G (ad 1) kd r ++ wR G (ad 2) k1 r1 ++ wR G (ad 3) k2 r2 ++ wK (ad 4))) ⟨C0, hK, hP, hD, hS, hA⟩ hZ 0 rfl (ci := 0) rfl rfl ((m_of_5 l hl0 G ad kd k1 k2 r r1 r2 ho rn ln dr ro lt rf th sb hr hp hk z10 z11 z12)) (cwV 4 hts (lw_V q274 q276 qs1 q86 q277) rfl rfl rfl (by decide +kernel) ⟨Nat.le_of_ble_eq_true rfl, Nat.le_of_ble_eq_true rfl⟩) [0, 1, 2, 3, 4, 5, 6, 7, 8, 9, 10, 11, 12, 13, 14, 15, 16, 17, 18, 19, 20, 21, 22, 23, 24, 25, 26, 27, 28, 29, 30] [1, 3, 5, 7, 9, 11, 13, 15, 17, 19, 21, 23, 25, 27, 29, 31, 33, 35, 37, 39, 41, 43, 45, 47, 49, 51, 53, 55, 57, 59, 61] [1, 3, 5, 7, 9, 11, 13, 15, 17, 19, 21, 23, 25, 27, 29, 31, 33, 35, 37, 39, 41, 43, 45, 47, 49, 51, 53, 55, 57, 59, 61, 63] rfl (fun _ => rfl) (fun _ _ _ => rfl) rfl rfl rfl hl.1 rfl (Nat.le_of_ble_eq_true rfl) dX0_act_12 ⟨(Nat.le_of_ble_eq_true rfl), (Nat.le_of_ble_eq_true rfl)⟩ (fun q9 u9 ee H locs hw_2 hP hD hS => ?_) (fun r_2 u_2 H locs hw_2 hP hD hS => ?_)
    · skip
      refine z_catch ⟨0, 49, 50, 239⟩ hown hK htb rfl (by decide) (by decide) (hts _ q273) hP ?_
      have hthr9 : ee.2.1 = eS (!bB r) (-3) 0 ∧ eS (!bB r) (-3) 0 ≠ 0 := hw_2
      refine lv_astore (lv' := [(7, .ref q9), (0, .ref (ad 0 0)), (1, .int 5), (2, .int z10), (3, .int z11), (4, .int z12), (5, .int z13), (6, .int z14)]) hx hb dX0_act_50 hl (by decide) rfl (fun ls hl => ?_)
      refine lv_aload_n hx hb dX0_act_52 rfl (lv_at hl 1 rfl) ?_
      refine lv_aload hx hb dX0_act_53 (lv_at hl 0 rfl) ?_
      obtain ⟨ek, en, e1, e2, e3⟩ := ee
      cases ek
      · skip
        have hP : va_P G.1 vwCl (wX G ad ho rn ln dr ro lt rf th sb ++ wR G (ad 1) kd r ++ wR G (ad 2) k1 r1 ++ wR G (ad 3) k2 r2 ++ wK (ad 4) ++ [(q9, .inr (9, [e1, e2, e3, .null, .null, .int 0, .int en]))]) H := hP
        have hD : va_D A (wX G ad ho rn ln dr ro lt rf th sb ++ wR G (ad 1) kd r ++ wR G (ad 2) k1 r1 ++ wR G (ad 3) k2 r2 ++ wK (ad 4) ++ [(q9, .inr (9, [e1, e2, e3, .null, .null, .int 0, .int en]))]) := hD
        obtain ⟨een, hne⟩ := hthr9
        have een : en = eS (!bB r) (-3) 0 := een
        subst een
        have hP : va_P G.1 vwCl (wX G ad ho rn ln dr ro lt rf th sb ++ wR G (ad 1) kd r ++ wR G (ad 2) k1 r1 ++ wR G (ad 3) k2 r2 ++ wK (ad 4) ++ [(q9, .inr (9, [e1, e2, e3, .null, .null, .int 0, .int (eS (!bB r) (-3) 0)]))]) H := hP
        have hD : va_D A (wX G ad ho rn ln dr ro lt rf th sb ++ wR G (ad 1) kd r ++ wR G (ad 2) k1 r1 ++ wR G (ad 3) k2 r2 ++ wK (ad 4) ++ [(q9, .inr (9, [e1, e2, e3, .null, .null, .int 0, .int (eS (!bB r) (-3) 0)]))]) := hD
        refine x_Ui (wN := fun _ => (wX G ad ho rn ln dr ro lt rf th sb ++ wR G (ad 1) kd r ++ wR G (ad 2) k1 r1 ++ wR G (ad 3) k2 r2 ++ wK (ad 4) ++ [(q9, .inr (9, [e1, e2, e3, .null, .null, .int 0, .int (eS (!bB r) (-3) 0)]))])) ⟨C0, hK, hP, hD, hS, hA⟩ 31 rfl (ci := 9) rfl rfl ((m_X11_number l G q9 e1 e2 e3 (eS (!bB r) (-3) 0))) (va_cwA (owner := "PulledFromUnder$Refusal") 0 hts (lw_U q990 q992 q996 q997 q100 q998) rfl rfl rfl (hK.2.D 13 rfl) (by decide +kernel) ⟨Nat.le_of_ble_eq_true rfl, Nat.le_of_ble_eq_true rfl⟩) [31] [0, 2, 4, 6, 8, 10, 12, 14, 16, 18, 20, 22, 24, 26, 28, 30, 32, 34, 36, 38, 40, 42, 44, 46, 48, 50, 52, 54, 56, 58, 60, 1] rfl (fun _ => rfl) rfl rfl hl.1 rfl (Nat.le_of_ble_eq_true rfl) dX0_act_55 ⟨(Nat.le_of_ble_eq_true rfl), (Nat.le_of_ble_eq_true rfl)⟩ (fun r_3 u_3 H locs hw_3 hP hD hS => ?_)
        have hw_3 : (eS (!bB r) (-3) 0 : Int32) = r_3 := hw_3.symm
        subst hw_3
        refine x_Vi (wN := fun _ => (wX G ad ho rn ln dr ro lt (rfU rf (eS (!bB r) (-3) 0)) th sb ++ wR G (ad 1) kd r ++ wR G (ad 2) k1 r1 ++ wR G (ad 3) k2 r2 ++ wK (ad 4) ++ [(q9, .inr (9, [e1, e2, e3, .null, .null, .int 0, .int (eS (!bB r) (-3) 0)]))])) ⟨C0, hK, hP, hD, hS, hA⟩ 0 rfl (ci := 0) rfl rfl ((m_refuse l G ad kd k1 k2 r r1 r2 ho rn ln dr ro lt rf th sb hr hp hk (eS (!bB r) (-3) 0) (rfOk_S rfOk_k.2.2.1 rfOk_0))) (cwV 1 hts (lw_V q999 q1001 qs62 q86 q1002) rfl rfl rfl (by decide +kernel) ⟨Nat.le_of_ble_eq_true rfl, Nat.le_of_ble_eq_true rfl⟩) [0, 1, 2, 3, 4, 5, 6, 7, 8, 9, 10, 11, 12, 13, 14, 15, 16, 17, 18, 19, 20, 21, 22, 23, 24, 25, 26, 27, 28, 29, 30] [1, 3, 5, 7, 9, 11, 13, 15, 17, 19, 21, 23, 25, 27, 29, 31, 33, 35, 37, 39, 41, 43, 45, 47, 49, 51, 53, 55, 57, 59, 61, 62] rfl (fun _ => rfl) rfl rfl hl.1 rfl (Nat.le_of_ble_eq_true rfl) dX0_act_58 ⟨(Nat.le_of_ble_eq_true rfl), (Nat.le_of_ble_eq_true rfl)⟩ (fun r_4 u_4 H locs hw_4 hP hD hS => ?_)
        have hw_4 : (eS (!bB r) (-3) 0 : Int32) = r_4 := hw_4.symm
        subst hw_4
        have hP : va_P G.1 vwCl (wX G ad ho rn ln dr ro lt (rfU rf (eS (!bB r) (-3) 0)) th sb ++ wR G (ad 1) kd r ++ wR G (ad 2) k1 r1 ++ wR G (ad 3) k2 r2 ++ wK (ad 4) ++ [(q9, .inr (9, [e1, e2, e3, .null, .null, .int 0, .int (eS (!bB r) (-3) 0)]))]) H := hP
        have hD : va_D A (wX G ad ho rn ln dr ro lt (rfU rf (eS (!bB r) (-3) 0)) th sb ++ wR G (ad 1) kd r ++ wR G (ad 2) k1 r1 ++ wR G (ad 3) k2 r2 ++ wK (ad 4) ++ [(q9, .inr (9, [e1, e2, e3, .null, .null, .int 0, .int (eS (!bB r) (-3) 0)]))]) := hD
        have hP := x_dropP hP
        have hD := x_dropD hD
        have hP : va_P G.1 vwCl (wX G ad ho rn ln dr ro lt (sel (eS (!bB r) (-3) 0) rf (rfU rf (eS (!bB r) (-3) 0))) th sb ++ wR G (ad 1) kd (sel (eS (!bB r) (-3) 0) (pLay r) r) ++ wR G (ad 2) k1 r1 ++ wR G (ad 3) k2 r2 ++ wK (ad 4)) H := by simp only [sel_n hne]; exact hP
        have hD : va_D A (wX G ad ho rn ln dr ro lt (sel (eS (!bB r) (-3) 0) rf (rfU rf (eS (!bB r) (-3) 0))) th sb ++ wR G (ad 1) kd (sel (eS (!bB r) (-3) 0) (pLay r) r) ++ wR G (ad 2) k1 r1 ++ wR G (ad 3) k2 r2 ++ wK (ad 4)) := by simp only [sel_n hne]; exact hD
        refine hret _ _ _ _ _ _ (eS (!bB r) (-3) 0) () dX0_act_61 ?_ hP hD hS (Nat.le_of_ble_eq_true rfl) (Nat.le_of_ble_eq_true rfl)
        exact (sel_n hne).symm
      · skip
        have hP : va_P G.1 vwCl (wX G ad ho rn ln dr ro lt rf th sb ++ wR G (ad 1) kd r ++ wR G (ad 2) k1 r1 ++ wR G (ad 3) k2 r2 ++ wK (ad 4) ++ [(q9, .inr (11, [e1, e2, e3, .null, .null, .int 0, .int en]))]) H := hP
        have hD : va_D A (wX G ad ho rn ln dr ro lt rf th sb ++ wR G (ad 1) kd r ++ wR G (ad 2) k1 r1 ++ wR G (ad 3) k2 r2 ++ wK (ad 4) ++ [(q9, .inr (11, [e1, e2, e3, .null, .null, .int 0, .int en]))]) := hD
        obtain ⟨een, hne⟩ := hthr9
        have een : en = eS (!bB r) (-3) 0 := een
        subst een
        have hP : va_P G.1 vwCl (wX G ad ho rn ln dr ro lt rf th sb ++ wR G (ad 1) kd r ++ wR G (ad 2) k1 r1 ++ wR G (ad 3) k2 r2 ++ wK (ad 4) ++ [(q9, .inr (11, [e1, e2, e3, .null, .null, .int 0, .int (eS (!bB r) (-3) 0)]))]) H := hP
        have hD : va_D A (wX G ad ho rn ln dr ro lt rf th sb ++ wR G (ad 1) kd r ++ wR G (ad 2) k1 r1 ++ wR G (ad 3) k2 r2 ++ wK (ad 4) ++ [(q9, .inr (11, [e1, e2, e3, .null, .null, .int 0, .int (eS (!bB r) (-3) 0)]))]) := hD
        refine x_Ui (wN := fun _ => (wX G ad ho rn ln dr ro lt rf th sb ++ wR G (ad 1) kd r ++ wR G (ad 2) k1 r1 ++ wR G (ad 3) k2 r2 ++ wK (ad 4) ++ [(q9, .inr (11, [e1, e2, e3, .null, .null, .int 0, .int (eS (!bB r) (-3) 0)]))])) ⟨C0, hK, hP, hD, hS, hA⟩ 31 rfl (ci := 11) rfl rfl ((m_X13_number l G q9 e1 e2 e3 (eS (!bB r) (-3) 0))) (va_cwA (owner := "PulledFromUnder$Refusal") 0 hts (lw_U q990 q992 q993 q994 q102 q995) rfl rfl rfl (hK.2.D 13 rfl) (by decide +kernel) ⟨Nat.le_of_ble_eq_true rfl, Nat.le_of_ble_eq_true rfl⟩) [31] [0, 2, 4, 6, 8, 10, 12, 14, 16, 18, 20, 22, 24, 26, 28, 30, 32, 34, 36, 38, 40, 42, 44, 46, 48, 50, 52, 54, 56, 58, 60, 1] rfl (fun _ => rfl) rfl rfl hl.1 rfl (Nat.le_of_ble_eq_true rfl) dX0_act_55 ⟨(Nat.le_of_ble_eq_true rfl), (Nat.le_of_ble_eq_true rfl)⟩ (fun r_5 u_5 H locs hw_5 hP hD hS => ?_)
        have hw_5 : (eS (!bB r) (-3) 0 : Int32) = r_5 := hw_5.symm
        subst hw_5
        refine x_Vi (wN := fun _ => (wX G ad ho rn ln dr ro lt (rfU rf (eS (!bB r) (-3) 0)) th sb ++ wR G (ad 1) kd r ++ wR G (ad 2) k1 r1 ++ wR G (ad 3) k2 r2 ++ wK (ad 4) ++ [(q9, .inr (11, [e1, e2, e3, .null, .null, .int 0, .int (eS (!bB r) (-3) 0)]))])) ⟨C0, hK, hP, hD, hS, hA⟩ 0 rfl (ci := 0) rfl rfl ((m_refuse l G ad kd k1 k2 r r1 r2 ho rn ln dr ro lt rf th sb hr hp hk (eS (!bB r) (-3) 0) (rfOk_S rfOk_k.2.2.1 rfOk_0))) (cwV 1 hts (lw_V q999 q1001 qs62 q86 q1002) rfl rfl rfl (by decide +kernel) ⟨Nat.le_of_ble_eq_true rfl, Nat.le_of_ble_eq_true rfl⟩) [0, 1, 2, 3, 4, 5, 6, 7, 8, 9, 10, 11, 12, 13, 14, 15, 16, 17, 18, 19, 20, 21, 22, 23, 24, 25, 26, 27, 28, 29, 30] [1, 3, 5, 7, 9, 11, 13, 15, 17, 19, 21, 23, 25, 27, 29, 31, 33, 35, 37, 39, 41, 43, 45, 47, 49, 51, 53, 55, 57, 59, 61, 62] rfl (fun _ => rfl) rfl rfl hl.1 rfl (Nat.le_of_ble_eq_true rfl) dX0_act_58 ⟨(Nat.le_of_ble_eq_true rfl), (Nat.le_of_ble_eq_true rfl)⟩ (fun r_6 u_6 H locs hw_6 hP hD hS => ?_)
        have hw_6 : (eS (!bB r) (-3) 0 : Int32) = r_6 := hw_6.symm
        subst hw_6
        have hP : va_P G.1 vwCl (wX G ad ho rn ln dr ro lt (rfU rf (eS (!bB r) (-3) 0)) th sb ++ wR G (ad 1) kd r ++ wR G (ad 2) k1 r1 ++ wR G (ad 3) k2 r2 ++ wK (ad 4) ++ [(q9, .inr (11, [e1, e2, e3, .null, .null, .int 0, .int (eS (!bB r) (-3) 0)]))]) H := hP
        have hD : va_D A (wX G ad ho rn ln dr ro lt (rfU rf (eS (!bB r) (-3) 0)) th sb ++ wR G (ad 1) kd r ++ wR G (ad 2) k1 r1 ++ wR G (ad 3) k2 r2 ++ wK (ad 4) ++ [(q9, .inr (11, [e1, e2, e3, .null, .null, .int 0, .int (eS (!bB r) (-3) 0)]))]) := hD
        have hP := x_dropP hP
        have hD := x_dropD hD
        have hP : va_P G.1 vwCl (wX G ad ho rn ln dr ro lt (sel (eS (!bB r) (-3) 0) rf (rfU rf (eS (!bB r) (-3) 0))) th sb ++ wR G (ad 1) kd (sel (eS (!bB r) (-3) 0) (pLay r) r) ++ wR G (ad 2) k1 r1 ++ wR G (ad 3) k2 r2 ++ wK (ad 4)) H := by simp only [sel_n hne]; exact hP
        have hD : va_D A (wX G ad ho rn ln dr ro lt (sel (eS (!bB r) (-3) 0) rf (rfU rf (eS (!bB r) (-3) 0))) th sb ++ wR G (ad 1) kd (sel (eS (!bB r) (-3) 0) (pLay r) r) ++ wR G (ad 2) k1 r1 ++ wR G (ad 3) k2 r2 ++ wK (ad 4)) := by simp only [sel_n hne]; exact hD
        refine hret _ _ _ _ _ _ (eS (!bB r) (-3) 0) () dX0_act_61 ?_ hP hD hS (Nat.le_of_ble_eq_true rfl) (Nat.le_of_ble_eq_true rfl)
        exact (sel_n hne).symm
    · skip
      obtain ⟨hz_2, hw_2⟩ := hw_2
      have hw_2 : (nI (cn (pLyP (pLay r)) (mny r)) : Int32) = r_2 := hw_2.symm
      subst hw_2
      have hP : va_P G.1 vwCl (wX G ad ho rn ln dr ro lt rf th sb ++ wR G (ad 1) kd (pLay r) ++ wR G (ad 2) k1 r1 ++ wR G (ad 3) k2 r2 ++ wK (ad 4)) H := hP
      have hD : va_D A (wX G ad ho rn ln dr ro lt rf th sb ++ wR G (ad 1) kd (pLay r) ++ wR G (ad 2) k1 r1 ++ wR G (ad 3) k2 r2 ++ wK (ad 4)) := hD
      refine W.widen (k := 1) (n := 7) (Nat.le_of_ble_eq_true rfl) (Nat.le_of_ble_eq_true rfl) ?_
      refine lv_goto (tgt := 49) hx hb dX0_act_15 (by decide) ?_
      have hP : va_P G.1 vwCl (wX G ad ho rn ln dr ro lt (sel (eS (!bB r) (-3) 0) rf (rfU rf (eS (!bB r) (-3) 0))) th sb ++ wR G (ad 1) kd (sel (eS (!bB r) (-3) 0) (pLay r) r) ++ wR G (ad 2) k1 r1 ++ wR G (ad 3) k2 r2 ++ wK (ad 4)) H := by simp only [sel_0 hz_2]; exact hP
      have hD : va_D A (wX G ad ho rn ln dr ro lt (sel (eS (!bB r) (-3) 0) rf (rfU rf (eS (!bB r) (-3) 0))) th sb ++ wR G (ad 1) kd (sel (eS (!bB r) (-3) 0) (pLay r) r) ++ wR G (ad 2) k1 r1 ++ wR G (ad 3) k2 r2 ++ wK (ad 4)) := by simp only [sel_0 hz_2]; exact hD
      refine hret _ _ _ _ _ _ (nI (cn (pLyP (pLay r)) (mny r))) () dX0_act_49 ?_ hP hD hS (Nat.le_of_ble_eq_true rfl) (Nat.le_of_ble_eq_true rfl)
      exact (sel_0 hz_2).symm
set_option maxHeartbeats 4000000 in
set_option maxRecDepth 100000 in
theorem m_act_6 (l : Launch) (hl0 : l.stackTraces = false) (G : xG) (ad : Nat → Nat → Nat) (kd k1 k2 : Nat → Option Nat) (r r1 r2 : Rw) (ho rn ln dr : Int32) (ro lt rf th sb : Nat → Int32) (hr : Ok r) (hp : r 5 3 = 0) (hk : kOk (ad 4) kd r) (t z10 z11 z12 z13 : Int32) : zCi l G yX0_act (wsW_ yX0_act cX0_act 8 (some .int) [(0, 49, 50, 239)]) ({ frames := 12, cells := 2, slots := 14, locals := 216 } : Room) [.ref (ad 0 0), .int 6, .int t, .int z10, .int z11, .int z12, .int z13] (wX G ad ho rn ln dr ro lt rf th sb ++ wR G (ad 1) kd r ++ wR G (ad 2) k1 r1 ++ wR G (ad 3) k2 r2 ++ wK (ad 4)) (S := Unit) (fun v _ => v = sel (eS (tB r t) (-1) (eS (pHow r 1 (ix t)) (-3) 0)) (bI (pHeld (pSetUp r (ix t)) (ix t))) (eS (tB r t) (-1) (eS (pHow r 1 (ix t)) (-3) 0))) (fun _ => (wX G ad ho rn ln dr ro lt (sel (eS (tB r t) (-1) (eS (pHow r 1 (ix t)) (-3) 0)) rf (rfU rf (eS (tB r t) (-1) (eS (pHow r 1 (ix t)) (-3) 0)))) th sb ++ wR G (ad 1) kd (sel (eS (tB r t) (-1) (eS (pHow r 1 (ix t)) (-3) 0)) (pSetUp r (ix t)) r) ++ wR G (ad 2) k1 r1 ++ wR G (ad 3) k2 r2 ++ wK (ad 4))) := by
  refine z_openiW (hh := [(0, 49, 50, 239)]) (by decide) (Nat.le_of_ble_eq_true rfl) (fun _ _ _ => rfl) ?_
  intro p e s m args below meth c A Q ls C0 hK hZ hP hD hA hl htb hret
  obtain ⟨hx, hb, hml, hown, hts⟩ := id C0
  have hS : va_S A s.heap s.heap [] := va_S.rf
  have hP : va_P G.1 vwCl (wX G ad ho rn ln dr ro lt rf th sb ++ wR G (ad 1) kd r ++ wR G (ad 2) k1 r1 ++ wR G (ad 3) k2 r2 ++ wK (ad 4)) s.heap := hP
  have hD : va_D A (wX G ad ho rn ln dr ro lt rf th sb ++ wR G (ad 1) kd r ++ wR G (ad 2) k1 r1 ++ wR G (ad 3) k2 r2 ++ wK (ad 4)) := hD
  have hl : lv_has ls 8 [(0, .ref (ad 0 0)), (1, .int 6), (2, .int t), (3, .int z10), (4, .int z11), (5, .int z12), (6, .int z13)] := hl
  have hr0 := hr.n
  have hN := hr.le
  refine lv_iload_n hx hb dX0_act_0 rfl (lv_at hl 1 rfl) ?_
  refine lv_bipush (v := 9) hx hb dX0_act_1 (by decide) ?_
  refine lv_icmp_ge (tgt := 18) hx hb dX0_act_3 (by decide) (fun c_1 => ?_) (fun c_1 => ?_)
  · skip
    exact absurd c_1 (by decide)
  · skip
    refine lv_aload_n hx hb dX0_act_6 rfl (lv_at hl 0 rfl) ?_
    refine lv_iload_n hx hb dX0_act_7 rfl (lv_at hl 1 rfl) ?_
    refine lv_iload_n hx hb dX0_act_8 rfl (lv_at hl 2 rfl) ?_
    refine lv_iload_n hx hb dX0_act_9 rfl (lv_at hl 3 rfl) ?_
    refine lv_iload hx hb dX0_act_10 (lv_at hl 4 rfl) ?_
    refine y_Vi (wN := fun u_2 => (wX G ad ho rn ln dr ro lt rf th sb ++ wR G (ad 1) kd (pSetUp r (ix t)) ++ wR G (ad 2) k1 r1 ++ wR G (ad 3) k2 r2 ++ wK (ad 4))) (wNx := fun u9 => (wX G ad ho rn ln dr ro lt rf th sb ++ wR G (ad 1) kd r ++ wR G (ad 2) k1 r1 ++ wR G (ad 3) k2 r2 ++ wK (ad 4))) ⟨C0, hK, hP, hD, hS, hA⟩ hZ 0 rfl (ci := 0) rfl rfl ((m_of_6 l hl0 G ad kd k1 k2 r r1 r2 ho rn ln dr ro lt rf th sb hr hp hk t z10 z11)) (cwV 4 hts (lw_V q274 q276 qs1 q86 q277) rfl rfl rfl (by decide +kernel) ⟨Nat.le_of_ble_eq_true rfl, Nat.le_of_ble_eq_true rfl⟩) [0, 1, 2, 3, 4, 5, 6, 7, 8, 9, 10, 11, 12, 13, 14, 15, 16, 17, 18, 19, 20, 21, 22, 23, 24, 25, 26, 27, 28, 29, 30] [1, 3, 5, 7, 9, 11, 13, 15, 17, 19, 21, 23, 25, 27, 29, 31, 33, 35, 37, 39, 41, 43, 45, 47, 49, 51, 53, 55, 57, 59, 61] [1, 3, 5, 7, 9, 11, 13, 15, 17, 19, 21, 23, 25, 27, 29, 31, 33, 35, 37, 39, 41, 43, 45, 47, 49, 51, 53, 55, 57, 59, 61, 63] rfl (fun _ => rfl) (fun _ _ _ => rfl) rfl rfl rfl hl.1 rfl (Nat.le_of_ble_eq_true rfl) dX0_act_12 ⟨(Nat.le_of_ble_eq_true rfl), (Nat.le_of_ble_eq_true rfl)⟩ (fun q9 u9 ee H locs hw_2 hP hD hS => ?_) (fun r_2 u_2 H locs hw_2 hP hD hS => ?_)
    · skip
      refine z_catch ⟨0, 49, 50, 239⟩ hown hK htb rfl (by decide) (by decide) (hts _ q273) hP ?_
      have hthr9 : ee.2.1 = eS (tB r t) (-1) (eS (pHow r 1 (ix t)) (-3) 0) ∧ eS (tB r t) (-1) (eS (pHow r 1 (ix t)) (-3) 0) ≠ 0 := hw_2
      refine lv_astore (lv' := [(7, .ref q9), (0, .ref (ad 0 0)), (1, .int 6), (2, .int t), (3, .int z10), (4, .int z11), (5, .int z12), (6, .int z13)]) hx hb dX0_act_50 hl (by decide) rfl (fun ls hl => ?_)
      refine lv_aload_n hx hb dX0_act_52 rfl (lv_at hl 1 rfl) ?_
      refine lv_aload hx hb dX0_act_53 (lv_at hl 0 rfl) ?_
      obtain ⟨ek, en, e1, e2, e3⟩ := ee
      cases ek
      · skip
        have hP : va_P G.1 vwCl (wX G ad ho rn ln dr ro lt rf th sb ++ wR G (ad 1) kd r ++ wR G (ad 2) k1 r1 ++ wR G (ad 3) k2 r2 ++ wK (ad 4) ++ [(q9, .inr (9, [e1, e2, e3, .null, .null, .int 0, .int en]))]) H := hP
        have hD : va_D A (wX G ad ho rn ln dr ro lt rf th sb ++ wR G (ad 1) kd r ++ wR G (ad 2) k1 r1 ++ wR G (ad 3) k2 r2 ++ wK (ad 4) ++ [(q9, .inr (9, [e1, e2, e3, .null, .null, .int 0, .int en]))]) := hD
        obtain ⟨een, hne⟩ := hthr9
        have een : en = eS (tB r t) (-1) (eS (pHow r 1 (ix t)) (-3) 0) := een
        subst een
        have hP : va_P G.1 vwCl (wX G ad ho rn ln dr ro lt rf th sb ++ wR G (ad 1) kd r ++ wR G (ad 2) k1 r1 ++ wR G (ad 3) k2 r2 ++ wK (ad 4) ++ [(q9, .inr (9, [e1, e2, e3, .null, .null, .int 0, .int (eS (tB r t) (-1) (eS (pHow r 1 (ix t)) (-3) 0))]))]) H := hP
        have hD : va_D A (wX G ad ho rn ln dr ro lt rf th sb ++ wR G (ad 1) kd r ++ wR G (ad 2) k1 r1 ++ wR G (ad 3) k2 r2 ++ wK (ad 4) ++ [(q9, .inr (9, [e1, e2, e3, .null, .null, .int 0, .int (eS (tB r t) (-1) (eS (pHow r 1 (ix t)) (-3) 0))]))]) := hD
        refine x_Ui (wN := fun _ => (wX G ad ho rn ln dr ro lt rf th sb ++ wR G (ad 1) kd r ++ wR G (ad 2) k1 r1 ++ wR G (ad 3) k2 r2 ++ wK (ad 4) ++ [(q9, .inr (9, [e1, e2, e3, .null, .null, .int 0, .int (eS (tB r t) (-1) (eS (pHow r 1 (ix t)) (-3) 0))]))])) ⟨C0, hK, hP, hD, hS, hA⟩ 31 rfl (ci := 9) rfl rfl ((m_X11_number l G q9 e1 e2 e3 (eS (tB r t) (-1) (eS (pHow r 1 (ix t)) (-3) 0)))) (va_cwA (owner := "PulledFromUnder$Refusal") 0 hts (lw_U q990 q992 q996 q997 q100 q998) rfl rfl rfl (hK.2.D 13 rfl) (by decide +kernel) ⟨Nat.le_of_ble_eq_true rfl, Nat.le_of_ble_eq_true rfl⟩) [31] [0, 2, 4, 6, 8, 10, 12, 14, 16, 18, 20, 22, 24, 26, 28, 30, 32, 34, 36, 38, 40, 42, 44, 46, 48, 50, 52, 54, 56, 58, 60, 1] rfl (fun _ => rfl) rfl rfl hl.1 rfl (Nat.le_of_ble_eq_true rfl) dX0_act_55 ⟨(Nat.le_of_ble_eq_true rfl), (Nat.le_of_ble_eq_true rfl)⟩ (fun r_3 u_3 H locs hw_3 hP hD hS => ?_)
        have hw_3 : (eS (tB r t) (-1) (eS (pHow r 1 (ix t)) (-3) 0) : Int32) = r_3 := hw_3.symm
        subst hw_3
        refine x_Vi (wN := fun _ => (wX G ad ho rn ln dr ro lt (rfU rf (eS (tB r t) (-1) (eS (pHow r 1 (ix t)) (-3) 0))) th sb ++ wR G (ad 1) kd r ++ wR G (ad 2) k1 r1 ++ wR G (ad 3) k2 r2 ++ wK (ad 4) ++ [(q9, .inr (9, [e1, e2, e3, .null, .null, .int 0, .int (eS (tB r t) (-1) (eS (pHow r 1 (ix t)) (-3) 0))]))])) ⟨C0, hK, hP, hD, hS, hA⟩ 0 rfl (ci := 0) rfl rfl ((m_refuse l G ad kd k1 k2 r r1 r2 ho rn ln dr ro lt rf th sb hr hp hk (eS (tB r t) (-1) (eS (pHow r 1 (ix t)) (-3) 0)) (rfOk_S rfOk_k.1 (rfOk_S rfOk_k.2.2.1 rfOk_0)))) (cwV 1 hts (lw_V q999 q1001 qs62 q86 q1002) rfl rfl rfl (by decide +kernel) ⟨Nat.le_of_ble_eq_true rfl, Nat.le_of_ble_eq_true rfl⟩) [0, 1, 2, 3, 4, 5, 6, 7, 8, 9, 10, 11, 12, 13, 14, 15, 16, 17, 18, 19, 20, 21, 22, 23, 24, 25, 26, 27, 28, 29, 30] [1, 3, 5, 7, 9, 11, 13, 15, 17, 19, 21, 23, 25, 27, 29, 31, 33, 35, 37, 39, 41, 43, 45, 47, 49, 51, 53, 55, 57, 59, 61, 62] rfl (fun _ => rfl) rfl rfl hl.1 rfl (Nat.le_of_ble_eq_true rfl) dX0_act_58 ⟨(Nat.le_of_ble_eq_true rfl), (Nat.le_of_ble_eq_true rfl)⟩ (fun r_4 u_4 H locs hw_4 hP hD hS => ?_)
        have hw_4 : (eS (tB r t) (-1) (eS (pHow r 1 (ix t)) (-3) 0) : Int32) = r_4 := hw_4.symm
        subst hw_4
        have hP : va_P G.1 vwCl (wX G ad ho rn ln dr ro lt (rfU rf (eS (tB r t) (-1) (eS (pHow r 1 (ix t)) (-3) 0))) th sb ++ wR G (ad 1) kd r ++ wR G (ad 2) k1 r1 ++ wR G (ad 3) k2 r2 ++ wK (ad 4) ++ [(q9, .inr (9, [e1, e2, e3, .null, .null, .int 0, .int (eS (tB r t) (-1) (eS (pHow r 1 (ix t)) (-3) 0))]))]) H := hP
        have hD : va_D A (wX G ad ho rn ln dr ro lt (rfU rf (eS (tB r t) (-1) (eS (pHow r 1 (ix t)) (-3) 0))) th sb ++ wR G (ad 1) kd r ++ wR G (ad 2) k1 r1 ++ wR G (ad 3) k2 r2 ++ wK (ad 4) ++ [(q9, .inr (9, [e1, e2, e3, .null, .null, .int 0, .int (eS (tB r t) (-1) (eS (pHow r 1 (ix t)) (-3) 0))]))]) := hD
        have hP := x_dropP hP
        have hD := x_dropD hD
        have hP : va_P G.1 vwCl (wX G ad ho rn ln dr ro lt (sel (eS (tB r t) (-1) (eS (pHow r 1 (ix t)) (-3) 0)) rf (rfU rf (eS (tB r t) (-1) (eS (pHow r 1 (ix t)) (-3) 0)))) th sb ++ wR G (ad 1) kd (sel (eS (tB r t) (-1) (eS (pHow r 1 (ix t)) (-3) 0)) (pSetUp r (ix t)) r) ++ wR G (ad 2) k1 r1 ++ wR G (ad 3) k2 r2 ++ wK (ad 4)) H := by simp only [sel_n hne]; exact hP
        have hD : va_D A (wX G ad ho rn ln dr ro lt (sel (eS (tB r t) (-1) (eS (pHow r 1 (ix t)) (-3) 0)) rf (rfU rf (eS (tB r t) (-1) (eS (pHow r 1 (ix t)) (-3) 0)))) th sb ++ wR G (ad 1) kd (sel (eS (tB r t) (-1) (eS (pHow r 1 (ix t)) (-3) 0)) (pSetUp r (ix t)) r) ++ wR G (ad 2) k1 r1 ++ wR G (ad 3) k2 r2 ++ wK (ad 4)) := by simp only [sel_n hne]; exact hD
        refine hret _ _ _ _ _ _ (eS (tB r t) (-1) (eS (pHow r 1 (ix t)) (-3) 0)) () dX0_act_61 ?_ hP hD hS (Nat.le_of_ble_eq_true rfl) (Nat.le_of_ble_eq_true rfl)
        exact (sel_n hne).symm
      · skip
        have hP : va_P G.1 vwCl (wX G ad ho rn ln dr ro lt rf th sb ++ wR G (ad 1) kd r ++ wR G (ad 2) k1 r1 ++ wR G (ad 3) k2 r2 ++ wK (ad 4) ++ [(q9, .inr (11, [e1, e2, e3, .null, .null, .int 0, .int en]))]) H := hP
        have hD : va_D A (wX G ad ho rn ln dr ro lt rf th sb ++ wR G (ad 1) kd r ++ wR G (ad 2) k1 r1 ++ wR G (ad 3) k2 r2 ++ wK (ad 4) ++ [(q9, .inr (11, [e1, e2, e3, .null, .null, .int 0, .int en]))]) := hD
        obtain ⟨een, hne⟩ := hthr9
        have een : en = eS (tB r t) (-1) (eS (pHow r 1 (ix t)) (-3) 0) := een
        subst een
        have hP : va_P G.1 vwCl (wX G ad ho rn ln dr ro lt rf th sb ++ wR G (ad 1) kd r ++ wR G (ad 2) k1 r1 ++ wR G (ad 3) k2 r2 ++ wK (ad 4) ++ [(q9, .inr (11, [e1, e2, e3, .null, .null, .int 0, .int (eS (tB r t) (-1) (eS (pHow r 1 (ix t)) (-3) 0))]))]) H := hP
        have hD : va_D A (wX G ad ho rn ln dr ro lt rf th sb ++ wR G (ad 1) kd r ++ wR G (ad 2) k1 r1 ++ wR G (ad 3) k2 r2 ++ wK (ad 4) ++ [(q9, .inr (11, [e1, e2, e3, .null, .null, .int 0, .int (eS (tB r t) (-1) (eS (pHow r 1 (ix t)) (-3) 0))]))]) := hD
        refine x_Ui (wN := fun _ => (wX G ad ho rn ln dr ro lt rf th sb ++ wR G (ad 1) kd r ++ wR G (ad 2) k1 r1 ++ wR G (ad 3) k2 r2 ++ wK (ad 4) ++ [(q9, .inr (11, [e1, e2, e3, .null, .null, .int 0, .int (eS (tB r t) (-1) (eS (pHow r 1 (ix t)) (-3) 0))]))])) ⟨C0, hK, hP, hD, hS, hA⟩ 31 rfl (ci := 11) rfl rfl ((m_X13_number l G q9 e1 e2 e3 (eS (tB r t) (-1) (eS (pHow r 1 (ix t)) (-3) 0)))) (va_cwA (owner := "PulledFromUnder$Refusal") 0 hts (lw_U q990 q992 q993 q994 q102 q995) rfl rfl rfl (hK.2.D 13 rfl) (by decide +kernel) ⟨Nat.le_of_ble_eq_true rfl, Nat.le_of_ble_eq_true rfl⟩) [31] [0, 2, 4, 6, 8, 10, 12, 14, 16, 18, 20, 22, 24, 26, 28, 30, 32, 34, 36, 38, 40, 42, 44, 46, 48, 50, 52, 54, 56, 58, 60, 1] rfl (fun _ => rfl) rfl rfl hl.1 rfl (Nat.le_of_ble_eq_true rfl) dX0_act_55 ⟨(Nat.le_of_ble_eq_true rfl), (Nat.le_of_ble_eq_true rfl)⟩ (fun r_5 u_5 H locs hw_5 hP hD hS => ?_)
        have hw_5 : (eS (tB r t) (-1) (eS (pHow r 1 (ix t)) (-3) 0) : Int32) = r_5 := hw_5.symm
        subst hw_5
        refine x_Vi (wN := fun _ => (wX G ad ho rn ln dr ro lt (rfU rf (eS (tB r t) (-1) (eS (pHow r 1 (ix t)) (-3) 0))) th sb ++ wR G (ad 1) kd r ++ wR G (ad 2) k1 r1 ++ wR G (ad 3) k2 r2 ++ wK (ad 4) ++ [(q9, .inr (11, [e1, e2, e3, .null, .null, .int 0, .int (eS (tB r t) (-1) (eS (pHow r 1 (ix t)) (-3) 0))]))])) ⟨C0, hK, hP, hD, hS, hA⟩ 0 rfl (ci := 0) rfl rfl ((m_refuse l G ad kd k1 k2 r r1 r2 ho rn ln dr ro lt rf th sb hr hp hk (eS (tB r t) (-1) (eS (pHow r 1 (ix t)) (-3) 0)) (rfOk_S rfOk_k.1 (rfOk_S rfOk_k.2.2.1 rfOk_0)))) (cwV 1 hts (lw_V q999 q1001 qs62 q86 q1002) rfl rfl rfl (by decide +kernel) ⟨Nat.le_of_ble_eq_true rfl, Nat.le_of_ble_eq_true rfl⟩) [0, 1, 2, 3, 4, 5, 6, 7, 8, 9, 10, 11, 12, 13, 14, 15, 16, 17, 18, 19, 20, 21, 22, 23, 24, 25, 26, 27, 28, 29, 30] [1, 3, 5, 7, 9, 11, 13, 15, 17, 19, 21, 23, 25, 27, 29, 31, 33, 35, 37, 39, 41, 43, 45, 47, 49, 51, 53, 55, 57, 59, 61, 62] rfl (fun _ => rfl) rfl rfl hl.1 rfl (Nat.le_of_ble_eq_true rfl) dX0_act_58 ⟨(Nat.le_of_ble_eq_true rfl), (Nat.le_of_ble_eq_true rfl)⟩ (fun r_6 u_6 H locs hw_6 hP hD hS => ?_)
        have hw_6 : (eS (tB r t) (-1) (eS (pHow r 1 (ix t)) (-3) 0) : Int32) = r_6 := hw_6.symm
        subst hw_6
        have hP : va_P G.1 vwCl (wX G ad ho rn ln dr ro lt (rfU rf (eS (tB r t) (-1) (eS (pHow r 1 (ix t)) (-3) 0))) th sb ++ wR G (ad 1) kd r ++ wR G (ad 2) k1 r1 ++ wR G (ad 3) k2 r2 ++ wK (ad 4) ++ [(q9, .inr (11, [e1, e2, e3, .null, .null, .int 0, .int (eS (tB r t) (-1) (eS (pHow r 1 (ix t)) (-3) 0))]))]) H := hP
        have hD : va_D A (wX G ad ho rn ln dr ro lt (rfU rf (eS (tB r t) (-1) (eS (pHow r 1 (ix t)) (-3) 0))) th sb ++ wR G (ad 1) kd r ++ wR G (ad 2) k1 r1 ++ wR G (ad 3) k2 r2 ++ wK (ad 4) ++ [(q9, .inr (11, [e1, e2, e3, .null, .null, .int 0, .int (eS (tB r t) (-1) (eS (pHow r 1 (ix t)) (-3) 0))]))]) := hD
        have hP := x_dropP hP
        have hD := x_dropD hD
        have hP : va_P G.1 vwCl (wX G ad ho rn ln dr ro lt (sel (eS (tB r t) (-1) (eS (pHow r 1 (ix t)) (-3) 0)) rf (rfU rf (eS (tB r t) (-1) (eS (pHow r 1 (ix t)) (-3) 0)))) th sb ++ wR G (ad 1) kd (sel (eS (tB r t) (-1) (eS (pHow r 1 (ix t)) (-3) 0)) (pSetUp r (ix t)) r) ++ wR G (ad 2) k1 r1 ++ wR G (ad 3) k2 r2 ++ wK (ad 4)) H := by simp only [sel_n hne]; exact hP
        have hD : va_D A (wX G ad ho rn ln dr ro lt (sel (eS (tB r t) (-1) (eS (pHow r 1 (ix t)) (-3) 0)) rf (rfU rf (eS (tB r t) (-1) (eS (pHow r 1 (ix t)) (-3) 0)))) th sb ++ wR G (ad 1) kd (sel (eS (tB r t) (-1) (eS (pHow r 1 (ix t)) (-3) 0)) (pSetUp r (ix t)) r) ++ wR G (ad 2) k1 r1 ++ wR G (ad 3) k2 r2 ++ wK (ad 4)) := by simp only [sel_n hne]; exact hD
        refine hret _ _ _ _ _ _ (eS (tB r t) (-1) (eS (pHow r 1 (ix t)) (-3) 0)) () dX0_act_61 ?_ hP hD hS (Nat.le_of_ble_eq_true rfl) (Nat.le_of_ble_eq_true rfl)
        exact (sel_n hne).symm
    · skip
      obtain ⟨hz_2, hw_2⟩ := hw_2
      have hw_2 : (bI (pHeld (pSetUp r (ix t)) (ix t)) : Int32) = r_2 := hw_2.symm
      subst hw_2
      have hP : va_P G.1 vwCl (wX G ad ho rn ln dr ro lt rf th sb ++ wR G (ad 1) kd (pSetUp r (ix t)) ++ wR G (ad 2) k1 r1 ++ wR G (ad 3) k2 r2 ++ wK (ad 4)) H := hP
      have hD : va_D A (wX G ad ho rn ln dr ro lt rf th sb ++ wR G (ad 1) kd (pSetUp r (ix t)) ++ wR G (ad 2) k1 r1 ++ wR G (ad 3) k2 r2 ++ wK (ad 4)) := hD
      refine W.widen (k := 2) (n := 14) (Nat.le_of_ble_eq_true rfl) (Nat.le_of_ble_eq_true rfl) ?_
      refine lv_goto (tgt := 49) hx hb dX0_act_15 (by decide) ?_
      have hP : va_P G.1 vwCl (wX G ad ho rn ln dr ro lt (sel (eS (tB r t) (-1) (eS (pHow r 1 (ix t)) (-3) 0)) rf (rfU rf (eS (tB r t) (-1) (eS (pHow r 1 (ix t)) (-3) 0)))) th sb ++ wR G (ad 1) kd (sel (eS (tB r t) (-1) (eS (pHow r 1 (ix t)) (-3) 0)) (pSetUp r (ix t)) r) ++ wR G (ad 2) k1 r1 ++ wR G (ad 3) k2 r2 ++ wK (ad 4)) H := by simp only [sel_0 hz_2]; exact hP
      have hD : va_D A (wX G ad ho rn ln dr ro lt (sel (eS (tB r t) (-1) (eS (pHow r 1 (ix t)) (-3) 0)) rf (rfU rf (eS (tB r t) (-1) (eS (pHow r 1 (ix t)) (-3) 0)))) th sb ++ wR G (ad 1) kd (sel (eS (tB r t) (-1) (eS (pHow r 1 (ix t)) (-3) 0)) (pSetUp r (ix t)) r) ++ wR G (ad 2) k1 r1 ++ wR G (ad 3) k2 r2 ++ wK (ad 4)) := by simp only [sel_0 hz_2]; exact hD
      refine hret _ _ _ _ _ _ (bI (pHeld (pSetUp r (ix t)) (ix t))) () dX0_act_49 ?_ hP hD hS (Nat.le_of_ble_eq_true rfl) (Nat.le_of_ble_eq_true rfl)
      exact (sel_0 hz_2).symm
set_option maxHeartbeats 4000000 in
set_option maxRecDepth 100000 in
theorem m_act_7 (l : Launch) (hl0 : l.stackTraces = false) (G : xG) (ad : Nat → Nat → Nat) (kd k1 k2 : Nat → Option Nat) (r r1 r2 : Rw) (ho rn ln dr : Int32) (ro lt rf th sb : Nat → Int32) (hr : Ok r) (hp : r 5 3 = 0) (hk : kOk (ad 4) kd r) (t kc fc z10 z11 : Int32) : zCi l G yX0_act (wsW_ yX0_act cX0_act 8 (some .int) [(0, 49, 50, 239)]) ({ frames := 12, cells := 4, slots := 28, locals := 219 } : Room) [.ref (ad 0 0), .int 7, .int t, .int kc, .int fc, .int z10, .int z11] (wX G ad ho rn ln dr ro lt rf th sb ++ wR G (ad 1) kd r ++ wR G (ad 2) k1 r1 ++ wR G (ad 3) k2 r2 ++ wK (ad 4)) (S := Unit) (fun v _ => v = sel (eS (tB r t) (-1) (eS (inR kc 0 5) (-2) (eW (wBy fc.toInt 0 9) 0))) (10 * r 0 (ix t) + r 1 (ix t)) (eS (tB r t) (-1) (eS (inR kc 0 5) (-2) (eW (wBy fc.toInt 0 9) 0)))) (fun _ => (wX G ad ho rn ln dr ro lt (sel (eS (tB r t) (-1) (eS (inR kc 0 5) (-2) (eW (wBy fc.toInt 0 9) 0))) rf (rfU rf (eS (tB r t) (-1) (eS (inR kc 0 5) (-2) (eW (wBy fc.toInt 0 9) 0))))) th sb ++ wR G (ad 1) (sel (eS (tB r t) (-1) (eS (inR kc 0 5) (-2) (eW (wBy fc.toInt 0 9) 0))) (va_up kd (ix t) (some ((ad 4) (ix kc)))) kd) (sel (eS (tB r t) (-1) (eS (inR kc 0 5) (-2) (eW (wBy fc.toInt 0 9) 0))) (pTurn r (ix t) (ix kc) (ix fc)) r) ++ wR G (ad 2) k1 r1 ++ wR G (ad 3) k2 r2 ++ wK (ad 4))) := by
  refine z_openiW (hh := [(0, 49, 50, 239)]) (by decide) (Nat.le_of_ble_eq_true rfl) (fun _ _ _ => rfl) ?_
  intro p e s m args below meth c A Q ls C0 hK hZ hP hD hA hl htb hret
  obtain ⟨hx, hb, hml, hown, hts⟩ := id C0
  have hS : va_S A s.heap s.heap [] := va_S.rf
  have hP : va_P G.1 vwCl (wX G ad ho rn ln dr ro lt rf th sb ++ wR G (ad 1) kd r ++ wR G (ad 2) k1 r1 ++ wR G (ad 3) k2 r2 ++ wK (ad 4)) s.heap := hP
  have hD : va_D A (wX G ad ho rn ln dr ro lt rf th sb ++ wR G (ad 1) kd r ++ wR G (ad 2) k1 r1 ++ wR G (ad 3) k2 r2 ++ wK (ad 4)) := hD
  have hl : lv_has ls 8 [(0, .ref (ad 0 0)), (1, .int 7), (2, .int t), (3, .int kc), (4, .int fc), (5, .int z10), (6, .int z11)] := hl
  have hr0 := hr.n
  have hN := hr.le
  refine lv_iload_n hx hb dX0_act_0 rfl (lv_at hl 1 rfl) ?_
  refine lv_bipush (v := 9) hx hb dX0_act_1 (by decide) ?_
  refine lv_icmp_ge (tgt := 18) hx hb dX0_act_3 (by decide) (fun c_1 => ?_) (fun c_1 => ?_)
  · skip
    exact absurd c_1 (by decide)
  · skip
    refine lv_aload_n hx hb dX0_act_6 rfl (lv_at hl 0 rfl) ?_
    refine lv_iload_n hx hb dX0_act_7 rfl (lv_at hl 1 rfl) ?_
    refine lv_iload_n hx hb dX0_act_8 rfl (lv_at hl 2 rfl) ?_
    refine lv_iload_n hx hb dX0_act_9 rfl (lv_at hl 3 rfl) ?_
    refine lv_iload hx hb dX0_act_10 (lv_at hl 4 rfl) ?_
    refine y_Vi (wN := fun u_2 => (wX G ad ho rn ln dr ro lt rf th sb ++ wR G (ad 1) (va_up kd (ix t) (some ((ad 4) (ix kc)))) (pTurn r (ix t) (ix kc) (ix fc)) ++ wR G (ad 2) k1 r1 ++ wR G (ad 3) k2 r2 ++ wK (ad 4))) (wNx := fun u9 => (wX G ad ho rn ln dr ro lt rf th sb ++ wR G (ad 1) kd r ++ wR G (ad 2) k1 r1 ++ wR G (ad 3) k2 r2 ++ wK (ad 4))) ⟨C0, hK, hP, hD, hS, hA⟩ hZ 0 rfl (ci := 0) rfl rfl ((m_of_7 l hl0 G ad kd k1 k2 r r1 r2 ho rn ln dr ro lt rf th sb hr hp hk t kc fc)) (cwV 4 hts (lw_V q274 q276 qs1 q86 q277) rfl rfl rfl (by decide +kernel) ⟨Nat.le_of_ble_eq_true rfl, Nat.le_of_ble_eq_true rfl⟩) [0, 1, 2, 3, 4, 5, 6, 7, 8, 9, 10, 11, 12, 13, 14, 15, 16, 17, 18, 19, 20, 21, 22, 23, 24, 25, 26, 27, 28, 29, 30] [1, 3, 5, 7, 9, 11, 13, 15, 17, 19, 21, 23, 25, 27, 29, 31, 33, 35, 37, 39, 41, 43, 45, 47, 49, 51, 53, 55, 57, 59, 61] [1, 3, 5, 7, 9, 11, 13, 15, 17, 19, 21, 23, 25, 27, 29, 31, 33, 35, 37, 39, 41, 43, 45, 47, 49, 51, 53, 55, 57, 59, 61, 63] rfl (fun _ => rfl) (fun _ _ _ => rfl) rfl rfl rfl hl.1 rfl (Nat.le_of_ble_eq_true rfl) dX0_act_12 ⟨(Nat.le_of_ble_eq_true rfl), (Nat.le_of_ble_eq_true rfl)⟩ (fun q9 u9 ee H locs hw_2 hP hD hS => ?_) (fun r_2 u_2 H locs hw_2 hP hD hS => ?_)
    · skip
      refine z_catch ⟨0, 49, 50, 239⟩ hown hK htb rfl (by decide) (by decide) (hts _ q273) hP ?_
      have hthr9 : ee.2.1 = eS (tB r t) (-1) (eS (inR kc 0 5) (-2) (eW (wBy fc.toInt 0 9) 0)) ∧ eS (tB r t) (-1) (eS (inR kc 0 5) (-2) (eW (wBy fc.toInt 0 9) 0)) ≠ 0 := hw_2
      refine lv_astore (lv' := [(7, .ref q9), (0, .ref (ad 0 0)), (1, .int 7), (2, .int t), (3, .int kc), (4, .int fc), (5, .int z10), (6, .int z11)]) hx hb dX0_act_50 hl (by decide) rfl (fun ls hl => ?_)
      refine lv_aload_n hx hb dX0_act_52 rfl (lv_at hl 1 rfl) ?_
      refine lv_aload hx hb dX0_act_53 (lv_at hl 0 rfl) ?_
      obtain ⟨ek, en, e1, e2, e3⟩ := ee
      cases ek
      · skip
        have hP : va_P G.1 vwCl (wX G ad ho rn ln dr ro lt rf th sb ++ wR G (ad 1) kd r ++ wR G (ad 2) k1 r1 ++ wR G (ad 3) k2 r2 ++ wK (ad 4) ++ [(q9, .inr (9, [e1, e2, e3, .null, .null, .int 0, .int en]))]) H := hP
        have hD : va_D A (wX G ad ho rn ln dr ro lt rf th sb ++ wR G (ad 1) kd r ++ wR G (ad 2) k1 r1 ++ wR G (ad 3) k2 r2 ++ wK (ad 4) ++ [(q9, .inr (9, [e1, e2, e3, .null, .null, .int 0, .int en]))]) := hD
        obtain ⟨een, hne⟩ := hthr9
        have een : en = eS (tB r t) (-1) (eS (inR kc 0 5) (-2) (eW (wBy fc.toInt 0 9) 0)) := een
        subst een
        have hP : va_P G.1 vwCl (wX G ad ho rn ln dr ro lt rf th sb ++ wR G (ad 1) kd r ++ wR G (ad 2) k1 r1 ++ wR G (ad 3) k2 r2 ++ wK (ad 4) ++ [(q9, .inr (9, [e1, e2, e3, .null, .null, .int 0, .int (eS (tB r t) (-1) (eS (inR kc 0 5) (-2) (eW (wBy fc.toInt 0 9) 0)))]))]) H := hP
        have hD : va_D A (wX G ad ho rn ln dr ro lt rf th sb ++ wR G (ad 1) kd r ++ wR G (ad 2) k1 r1 ++ wR G (ad 3) k2 r2 ++ wK (ad 4) ++ [(q9, .inr (9, [e1, e2, e3, .null, .null, .int 0, .int (eS (tB r t) (-1) (eS (inR kc 0 5) (-2) (eW (wBy fc.toInt 0 9) 0)))]))]) := hD
        refine x_Ui (wN := fun _ => (wX G ad ho rn ln dr ro lt rf th sb ++ wR G (ad 1) kd r ++ wR G (ad 2) k1 r1 ++ wR G (ad 3) k2 r2 ++ wK (ad 4) ++ [(q9, .inr (9, [e1, e2, e3, .null, .null, .int 0, .int (eS (tB r t) (-1) (eS (inR kc 0 5) (-2) (eW (wBy fc.toInt 0 9) 0)))]))])) ⟨C0, hK, hP, hD, hS, hA⟩ 31 rfl (ci := 9) rfl rfl ((m_X11_number l G q9 e1 e2 e3 (eS (tB r t) (-1) (eS (inR kc 0 5) (-2) (eW (wBy fc.toInt 0 9) 0))))) (va_cwA (owner := "PulledFromUnder$Refusal") 0 hts (lw_U q990 q992 q996 q997 q100 q998) rfl rfl rfl (hK.2.D 13 rfl) (by decide +kernel) ⟨Nat.le_of_ble_eq_true rfl, Nat.le_of_ble_eq_true rfl⟩) [31] [0, 2, 4, 6, 8, 10, 12, 14, 16, 18, 20, 22, 24, 26, 28, 30, 32, 34, 36, 38, 40, 42, 44, 46, 48, 50, 52, 54, 56, 58, 60, 1] rfl (fun _ => rfl) rfl rfl hl.1 rfl (Nat.le_of_ble_eq_true rfl) dX0_act_55 ⟨(Nat.le_of_ble_eq_true rfl), (Nat.le_of_ble_eq_true rfl)⟩ (fun r_3 u_3 H locs hw_3 hP hD hS => ?_)
        have hw_3 : (eS (tB r t) (-1) (eS (inR kc 0 5) (-2) (eW (wBy fc.toInt 0 9) 0)) : Int32) = r_3 := hw_3.symm
        subst hw_3
        refine x_Vi (wN := fun _ => (wX G ad ho rn ln dr ro lt (rfU rf (eS (tB r t) (-1) (eS (inR kc 0 5) (-2) (eW (wBy fc.toInt 0 9) 0)))) th sb ++ wR G (ad 1) kd r ++ wR G (ad 2) k1 r1 ++ wR G (ad 3) k2 r2 ++ wK (ad 4) ++ [(q9, .inr (9, [e1, e2, e3, .null, .null, .int 0, .int (eS (tB r t) (-1) (eS (inR kc 0 5) (-2) (eW (wBy fc.toInt 0 9) 0)))]))])) ⟨C0, hK, hP, hD, hS, hA⟩ 0 rfl (ci := 0) rfl rfl ((m_refuse l G ad kd k1 k2 r r1 r2 ho rn ln dr ro lt rf th sb hr hp hk (eS (tB r t) (-1) (eS (inR kc 0 5) (-2) (eW (wBy fc.toInt 0 9) 0))) (rfOk_S rfOk_k.1 (rfOk_S rfOk_k.2.1 (rfOk_W rfOk_0))))) (cwV 1 hts (lw_V q999 q1001 qs62 q86 q1002) rfl rfl rfl (by decide +kernel) ⟨Nat.le_of_ble_eq_true rfl, Nat.le_of_ble_eq_true rfl⟩) [0, 1, 2, 3, 4, 5, 6, 7, 8, 9, 10, 11, 12, 13, 14, 15, 16, 17, 18, 19, 20, 21, 22, 23, 24, 25, 26, 27, 28, 29, 30] [1, 3, 5, 7, 9, 11, 13, 15, 17, 19, 21, 23, 25, 27, 29, 31, 33, 35, 37, 39, 41, 43, 45, 47, 49, 51, 53, 55, 57, 59, 61, 62] rfl (fun _ => rfl) rfl rfl hl.1 rfl (Nat.le_of_ble_eq_true rfl) dX0_act_58 ⟨(Nat.le_of_ble_eq_true rfl), (Nat.le_of_ble_eq_true rfl)⟩ (fun r_4 u_4 H locs hw_4 hP hD hS => ?_)
        have hw_4 : (eS (tB r t) (-1) (eS (inR kc 0 5) (-2) (eW (wBy fc.toInt 0 9) 0)) : Int32) = r_4 := hw_4.symm
        subst hw_4
        have hP : va_P G.1 vwCl (wX G ad ho rn ln dr ro lt (rfU rf (eS (tB r t) (-1) (eS (inR kc 0 5) (-2) (eW (wBy fc.toInt 0 9) 0)))) th sb ++ wR G (ad 1) kd r ++ wR G (ad 2) k1 r1 ++ wR G (ad 3) k2 r2 ++ wK (ad 4) ++ [(q9, .inr (9, [e1, e2, e3, .null, .null, .int 0, .int (eS (tB r t) (-1) (eS (inR kc 0 5) (-2) (eW (wBy fc.toInt 0 9) 0)))]))]) H := hP
        have hD : va_D A (wX G ad ho rn ln dr ro lt (rfU rf (eS (tB r t) (-1) (eS (inR kc 0 5) (-2) (eW (wBy fc.toInt 0 9) 0)))) th sb ++ wR G (ad 1) kd r ++ wR G (ad 2) k1 r1 ++ wR G (ad 3) k2 r2 ++ wK (ad 4) ++ [(q9, .inr (9, [e1, e2, e3, .null, .null, .int 0, .int (eS (tB r t) (-1) (eS (inR kc 0 5) (-2) (eW (wBy fc.toInt 0 9) 0)))]))]) := hD
        have hP := x_dropP hP
        have hD := x_dropD hD
        have hP : va_P G.1 vwCl (wX G ad ho rn ln dr ro lt (sel (eS (tB r t) (-1) (eS (inR kc 0 5) (-2) (eW (wBy fc.toInt 0 9) 0))) rf (rfU rf (eS (tB r t) (-1) (eS (inR kc 0 5) (-2) (eW (wBy fc.toInt 0 9) 0))))) th sb ++ wR G (ad 1) (sel (eS (tB r t) (-1) (eS (inR kc 0 5) (-2) (eW (wBy fc.toInt 0 9) 0))) (va_up kd (ix t) (some ((ad 4) (ix kc)))) kd) (sel (eS (tB r t) (-1) (eS (inR kc 0 5) (-2) (eW (wBy fc.toInt 0 9) 0))) (pTurn r (ix t) (ix kc) (ix fc)) r) ++ wR G (ad 2) k1 r1 ++ wR G (ad 3) k2 r2 ++ wK (ad 4)) H := by simp only [sel_n hne]; exact hP
        have hD : va_D A (wX G ad ho rn ln dr ro lt (sel (eS (tB r t) (-1) (eS (inR kc 0 5) (-2) (eW (wBy fc.toInt 0 9) 0))) rf (rfU rf (eS (tB r t) (-1) (eS (inR kc 0 5) (-2) (eW (wBy fc.toInt 0 9) 0))))) th sb ++ wR G (ad 1) (sel (eS (tB r t) (-1) (eS (inR kc 0 5) (-2) (eW (wBy fc.toInt 0 9) 0))) (va_up kd (ix t) (some ((ad 4) (ix kc)))) kd) (sel (eS (tB r t) (-1) (eS (inR kc 0 5) (-2) (eW (wBy fc.toInt 0 9) 0))) (pTurn r (ix t) (ix kc) (ix fc)) r) ++ wR G (ad 2) k1 r1 ++ wR G (ad 3) k2 r2 ++ wK (ad 4)) := by simp only [sel_n hne]; exact hD
        refine hret _ _ _ _ _ _ (eS (tB r t) (-1) (eS (inR kc 0 5) (-2) (eW (wBy fc.toInt 0 9) 0))) () dX0_act_61 ?_ hP hD hS (Nat.le_of_ble_eq_true rfl) (Nat.le_of_ble_eq_true rfl)
        exact (sel_n hne).symm
      · skip
        have hP : va_P G.1 vwCl (wX G ad ho rn ln dr ro lt rf th sb ++ wR G (ad 1) kd r ++ wR G (ad 2) k1 r1 ++ wR G (ad 3) k2 r2 ++ wK (ad 4) ++ [(q9, .inr (11, [e1, e2, e3, .null, .null, .int 0, .int en]))]) H := hP
        have hD : va_D A (wX G ad ho rn ln dr ro lt rf th sb ++ wR G (ad 1) kd r ++ wR G (ad 2) k1 r1 ++ wR G (ad 3) k2 r2 ++ wK (ad 4) ++ [(q9, .inr (11, [e1, e2, e3, .null, .null, .int 0, .int en]))]) := hD
        obtain ⟨een, hne⟩ := hthr9
        have een : en = eS (tB r t) (-1) (eS (inR kc 0 5) (-2) (eW (wBy fc.toInt 0 9) 0)) := een
        subst een
        have hP : va_P G.1 vwCl (wX G ad ho rn ln dr ro lt rf th sb ++ wR G (ad 1) kd r ++ wR G (ad 2) k1 r1 ++ wR G (ad 3) k2 r2 ++ wK (ad 4) ++ [(q9, .inr (11, [e1, e2, e3, .null, .null, .int 0, .int (eS (tB r t) (-1) (eS (inR kc 0 5) (-2) (eW (wBy fc.toInt 0 9) 0)))]))]) H := hP
        have hD : va_D A (wX G ad ho rn ln dr ro lt rf th sb ++ wR G (ad 1) kd r ++ wR G (ad 2) k1 r1 ++ wR G (ad 3) k2 r2 ++ wK (ad 4) ++ [(q9, .inr (11, [e1, e2, e3, .null, .null, .int 0, .int (eS (tB r t) (-1) (eS (inR kc 0 5) (-2) (eW (wBy fc.toInt 0 9) 0)))]))]) := hD
        refine x_Ui (wN := fun _ => (wX G ad ho rn ln dr ro lt rf th sb ++ wR G (ad 1) kd r ++ wR G (ad 2) k1 r1 ++ wR G (ad 3) k2 r2 ++ wK (ad 4) ++ [(q9, .inr (11, [e1, e2, e3, .null, .null, .int 0, .int (eS (tB r t) (-1) (eS (inR kc 0 5) (-2) (eW (wBy fc.toInt 0 9) 0)))]))])) ⟨C0, hK, hP, hD, hS, hA⟩ 31 rfl (ci := 11) rfl rfl ((m_X13_number l G q9 e1 e2 e3 (eS (tB r t) (-1) (eS (inR kc 0 5) (-2) (eW (wBy fc.toInt 0 9) 0))))) (va_cwA (owner := "PulledFromUnder$Refusal") 0 hts (lw_U q990 q992 q993 q994 q102 q995) rfl rfl rfl (hK.2.D 13 rfl) (by decide +kernel) ⟨Nat.le_of_ble_eq_true rfl, Nat.le_of_ble_eq_true rfl⟩) [31] [0, 2, 4, 6, 8, 10, 12, 14, 16, 18, 20, 22, 24, 26, 28, 30, 32, 34, 36, 38, 40, 42, 44, 46, 48, 50, 52, 54, 56, 58, 60, 1] rfl (fun _ => rfl) rfl rfl hl.1 rfl (Nat.le_of_ble_eq_true rfl) dX0_act_55 ⟨(Nat.le_of_ble_eq_true rfl), (Nat.le_of_ble_eq_true rfl)⟩ (fun r_5 u_5 H locs hw_5 hP hD hS => ?_)
        have hw_5 : (eS (tB r t) (-1) (eS (inR kc 0 5) (-2) (eW (wBy fc.toInt 0 9) 0)) : Int32) = r_5 := hw_5.symm
        subst hw_5
        refine x_Vi (wN := fun _ => (wX G ad ho rn ln dr ro lt (rfU rf (eS (tB r t) (-1) (eS (inR kc 0 5) (-2) (eW (wBy fc.toInt 0 9) 0)))) th sb ++ wR G (ad 1) kd r ++ wR G (ad 2) k1 r1 ++ wR G (ad 3) k2 r2 ++ wK (ad 4) ++ [(q9, .inr (11, [e1, e2, e3, .null, .null, .int 0, .int (eS (tB r t) (-1) (eS (inR kc 0 5) (-2) (eW (wBy fc.toInt 0 9) 0)))]))])) ⟨C0, hK, hP, hD, hS, hA⟩ 0 rfl (ci := 0) rfl rfl ((m_refuse l G ad kd k1 k2 r r1 r2 ho rn ln dr ro lt rf th sb hr hp hk (eS (tB r t) (-1) (eS (inR kc 0 5) (-2) (eW (wBy fc.toInt 0 9) 0))) (rfOk_S rfOk_k.1 (rfOk_S rfOk_k.2.1 (rfOk_W rfOk_0))))) (cwV 1 hts (lw_V q999 q1001 qs62 q86 q1002) rfl rfl rfl (by decide +kernel) ⟨Nat.le_of_ble_eq_true rfl, Nat.le_of_ble_eq_true rfl⟩) [0, 1, 2, 3, 4, 5, 6, 7, 8, 9, 10, 11, 12, 13, 14, 15, 16, 17, 18, 19, 20, 21, 22, 23, 24, 25, 26, 27, 28, 29, 30] [1, 3, 5, 7, 9, 11, 13, 15, 17, 19, 21, 23, 25, 27, 29, 31, 33, 35, 37, 39, 41, 43, 45, 47, 49, 51, 53, 55, 57, 59, 61, 62] rfl (fun _ => rfl) rfl rfl hl.1 rfl (Nat.le_of_ble_eq_true rfl) dX0_act_58 ⟨(Nat.le_of_ble_eq_true rfl), (Nat.le_of_ble_eq_true rfl)⟩ (fun r_6 u_6 H locs hw_6 hP hD hS => ?_)
        have hw_6 : (eS (tB r t) (-1) (eS (inR kc 0 5) (-2) (eW (wBy fc.toInt 0 9) 0)) : Int32) = r_6 := hw_6.symm
        subst hw_6
        have hP : va_P G.1 vwCl (wX G ad ho rn ln dr ro lt (rfU rf (eS (tB r t) (-1) (eS (inR kc 0 5) (-2) (eW (wBy fc.toInt 0 9) 0)))) th sb ++ wR G (ad 1) kd r ++ wR G (ad 2) k1 r1 ++ wR G (ad 3) k2 r2 ++ wK (ad 4) ++ [(q9, .inr (11, [e1, e2, e3, .null, .null, .int 0, .int (eS (tB r t) (-1) (eS (inR kc 0 5) (-2) (eW (wBy fc.toInt 0 9) 0)))]))]) H := hP
        have hD : va_D A (wX G ad ho rn ln dr ro lt (rfU rf (eS (tB r t) (-1) (eS (inR kc 0 5) (-2) (eW (wBy fc.toInt 0 9) 0)))) th sb ++ wR G (ad 1) kd r ++ wR G (ad 2) k1 r1 ++ wR G (ad 3) k2 r2 ++ wK (ad 4) ++ [(q9, .inr (11, [e1, e2, e3, .null, .null, .int 0, .int (eS (tB r t) (-1) (eS (inR kc 0 5) (-2) (eW (wBy fc.toInt 0 9) 0)))]))]) := hD
        have hP := x_dropP hP
        have hD := x_dropD hD
        have hP : va_P G.1 vwCl (wX G ad ho rn ln dr ro lt (sel (eS (tB r t) (-1) (eS (inR kc 0 5) (-2) (eW (wBy fc.toInt 0 9) 0))) rf (rfU rf (eS (tB r t) (-1) (eS (inR kc 0 5) (-2) (eW (wBy fc.toInt 0 9) 0))))) th sb ++ wR G (ad 1) (sel (eS (tB r t) (-1) (eS (inR kc 0 5) (-2) (eW (wBy fc.toInt 0 9) 0))) (va_up kd (ix t) (some ((ad 4) (ix kc)))) kd) (sel (eS (tB r t) (-1) (eS (inR kc 0 5) (-2) (eW (wBy fc.toInt 0 9) 0))) (pTurn r (ix t) (ix kc) (ix fc)) r) ++ wR G (ad 2) k1 r1 ++ wR G (ad 3) k2 r2 ++ wK (ad 4)) H := by simp only [sel_n hne]; exact hP
        have hD : va_D A (wX G ad ho rn ln dr ro lt (sel (eS (tB r t) (-1) (eS (inR kc 0 5) (-2) (eW (wBy fc.toInt 0 9) 0))) rf (rfU rf (eS (tB r t) (-1) (eS (inR kc 0 5) (-2) (eW (wBy fc.toInt 0 9) 0))))) th sb ++ wR G (ad 1) (sel (eS (tB r t) (-1) (eS (inR kc 0 5) (-2) (eW (wBy fc.toInt 0 9) 0))) (va_up kd (ix t) (some ((ad 4) (ix kc)))) kd) (sel (eS (tB r t) (-1) (eS (inR kc 0 5) (-2) (eW (wBy fc.toInt 0 9) 0))) (pTurn r (ix t) (ix kc) (ix fc)) r) ++ wR G (ad 2) k1 r1 ++ wR G (ad 3) k2 r2 ++ wK (ad 4)) := by simp only [sel_n hne]; exact hD
        refine hret _ _ _ _ _ _ (eS (tB r t) (-1) (eS (inR kc 0 5) (-2) (eW (wBy fc.toInt 0 9) 0))) () dX0_act_61 ?_ hP hD hS (Nat.le_of_ble_eq_true rfl) (Nat.le_of_ble_eq_true rfl)
        exact (sel_n hne).symm
    · skip
      obtain ⟨hz_2, hw_2⟩ := hw_2
      have hw_2 : (10 * r 0 (ix t) + r 1 (ix t) : Int32) = r_2 := hw_2.symm
      subst hw_2
      have hP : va_P G.1 vwCl (wX G ad ho rn ln dr ro lt rf th sb ++ wR G (ad 1) (va_up kd (ix t) (some ((ad 4) (ix kc)))) (pTurn r (ix t) (ix kc) (ix fc)) ++ wR G (ad 2) k1 r1 ++ wR G (ad 3) k2 r2 ++ wK (ad 4)) H := hP
      have hD : va_D A (wX G ad ho rn ln dr ro lt rf th sb ++ wR G (ad 1) (va_up kd (ix t) (some ((ad 4) (ix kc)))) (pTurn r (ix t) (ix kc) (ix fc)) ++ wR G (ad 2) k1 r1 ++ wR G (ad 3) k2 r2 ++ wK (ad 4)) := hD
      refine W.widen (k := 4) (n := 28) (Nat.le_of_ble_eq_true rfl) (Nat.le_of_ble_eq_true rfl) ?_
      refine lv_goto (tgt := 49) hx hb dX0_act_15 (by decide) ?_
      have hP : va_P G.1 vwCl (wX G ad ho rn ln dr ro lt (sel (eS (tB r t) (-1) (eS (inR kc 0 5) (-2) (eW (wBy fc.toInt 0 9) 0))) rf (rfU rf (eS (tB r t) (-1) (eS (inR kc 0 5) (-2) (eW (wBy fc.toInt 0 9) 0))))) th sb ++ wR G (ad 1) (sel (eS (tB r t) (-1) (eS (inR kc 0 5) (-2) (eW (wBy fc.toInt 0 9) 0))) (va_up kd (ix t) (some ((ad 4) (ix kc)))) kd) (sel (eS (tB r t) (-1) (eS (inR kc 0 5) (-2) (eW (wBy fc.toInt 0 9) 0))) (pTurn r (ix t) (ix kc) (ix fc)) r) ++ wR G (ad 2) k1 r1 ++ wR G (ad 3) k2 r2 ++ wK (ad 4)) H := by simp only [sel_0 hz_2]; exact hP
      have hD : va_D A (wX G ad ho rn ln dr ro lt (sel (eS (tB r t) (-1) (eS (inR kc 0 5) (-2) (eW (wBy fc.toInt 0 9) 0))) rf (rfU rf (eS (tB r t) (-1) (eS (inR kc 0 5) (-2) (eW (wBy fc.toInt 0 9) 0))))) th sb ++ wR G (ad 1) (sel (eS (tB r t) (-1) (eS (inR kc 0 5) (-2) (eW (wBy fc.toInt 0 9) 0))) (va_up kd (ix t) (some ((ad 4) (ix kc)))) kd) (sel (eS (tB r t) (-1) (eS (inR kc 0 5) (-2) (eW (wBy fc.toInt 0 9) 0))) (pTurn r (ix t) (ix kc) (ix fc)) r) ++ wR G (ad 2) k1 r1 ++ wR G (ad 3) k2 r2 ++ wK (ad 4)) := by simp only [sel_0 hz_2]; exact hD
      refine hret _ _ _ _ _ _ (10 * r 0 (ix t) + r 1 (ix t)) () dX0_act_49 ?_ hP hD hS (Nat.le_of_ble_eq_true rfl) (Nat.le_of_ble_eq_true rfl)
      exact (sel_0 hz_2).symm
set_option maxHeartbeats 4000000 in
set_option maxRecDepth 100000 in
theorem m_act_8 (l : Launch) (hl0 : l.stackTraces = false) (G : xG) (ad : Nat → Nat → Nat) (kd k1 k2 : Nat → Option Nat) (r r1 r2 : Rw) (ho rn ln dr : Int32) (ro lt rf th sb : Nat → Int32) (hr : Ok r) (hp : r 5 3 = 0) (hk : kOk (ad 4) kd r) (mi z10 z11 z12 z13 : Int32) : zCi l G yX0_act (wsW_ yX0_act cX0_act 8 (some .int) [(0, 49, 50, 239)]) ({ frames := 11, cells := 3, slots := 21, locals := 199 } : Room) [.ref (ad 0 0), .int 8, .int mi, .int z10, .int z11, .int z12, .int z13] (wX G ad ho rn ln dr ro lt rf th sb ++ wR G (ad 1) kd r ++ wR G (ad 2) k1 r1 ++ wR G (ad 3) k2 r2 ++ wK (ad 4)) (S := Unit) (fun v _ => v = sel (eW (wBy mi.toInt 1 60) (eS (decide (r 5 1 + mi ≤ 999)) (-6) 0)) (pStN (pMins r (ix mi))) (eW (wBy mi.toInt 1 60) (eS (decide (r 5 1 + mi ≤ 999)) (-6) 0))) (fun _ => (wX G ad ho rn ln dr ro lt (sel (eW (wBy mi.toInt 1 60) (eS (decide (r 5 1 + mi ≤ 999)) (-6) 0)) rf (rfU rf (eW (wBy mi.toInt 1 60) (eS (decide (r 5 1 + mi ≤ 999)) (-6) 0)))) th sb ++ wR G (ad 1) kd (sel (eW (wBy mi.toInt 1 60) (eS (decide (r 5 1 + mi ≤ 999)) (-6) 0)) (pMins r (ix mi)) r) ++ wR G (ad 2) k1 r1 ++ wR G (ad 3) k2 r2 ++ wK (ad 4))) := by
  refine z_openiW (hh := [(0, 49, 50, 239)]) (by decide) (Nat.le_of_ble_eq_true rfl) (fun _ _ _ => rfl) ?_
  intro p e s m args below meth c A Q ls C0 hK hZ hP hD hA hl htb hret
  obtain ⟨hx, hb, hml, hown, hts⟩ := id C0
  have hS : va_S A s.heap s.heap [] := va_S.rf
  have hP : va_P G.1 vwCl (wX G ad ho rn ln dr ro lt rf th sb ++ wR G (ad 1) kd r ++ wR G (ad 2) k1 r1 ++ wR G (ad 3) k2 r2 ++ wK (ad 4)) s.heap := hP
  have hD : va_D A (wX G ad ho rn ln dr ro lt rf th sb ++ wR G (ad 1) kd r ++ wR G (ad 2) k1 r1 ++ wR G (ad 3) k2 r2 ++ wK (ad 4)) := hD
  have hl : lv_has ls 8 [(0, .ref (ad 0 0)), (1, .int 8), (2, .int mi), (3, .int z10), (4, .int z11), (5, .int z12), (6, .int z13)] := hl
  have hr0 := hr.n
  have hN := hr.le
  refine lv_iload_n hx hb dX0_act_0 rfl (lv_at hl 1 rfl) ?_
  refine lv_bipush (v := 9) hx hb dX0_act_1 (by decide) ?_
  refine lv_icmp_ge (tgt := 18) hx hb dX0_act_3 (by decide) (fun c_1 => ?_) (fun c_1 => ?_)
  · skip
    exact absurd c_1 (by decide)
  · skip
    refine lv_aload_n hx hb dX0_act_6 rfl (lv_at hl 0 rfl) ?_
    refine lv_iload_n hx hb dX0_act_7 rfl (lv_at hl 1 rfl) ?_
    refine lv_iload_n hx hb dX0_act_8 rfl (lv_at hl 2 rfl) ?_
    refine lv_iload_n hx hb dX0_act_9 rfl (lv_at hl 3 rfl) ?_
    refine lv_iload hx hb dX0_act_10 (lv_at hl 4 rfl) ?_
    refine y_Vi (wN := fun u_2 => (wX G ad ho rn ln dr ro lt rf th sb ++ wR G (ad 1) kd (pMins r (ix mi)) ++ wR G (ad 2) k1 r1 ++ wR G (ad 3) k2 r2 ++ wK (ad 4))) (wNx := fun u9 => (wX G ad ho rn ln dr ro lt rf th sb ++ wR G (ad 1) kd r ++ wR G (ad 2) k1 r1 ++ wR G (ad 3) k2 r2 ++ wK (ad 4))) ⟨C0, hK, hP, hD, hS, hA⟩ hZ 0 rfl (ci := 0) rfl rfl ((m_of_8 l hl0 G ad kd k1 k2 r r1 r2 ho rn ln dr ro lt rf th sb hr hp hk mi z10 z11)) (cwV 4 hts (lw_V q274 q276 qs1 q86 q277) rfl rfl rfl (by decide +kernel) ⟨Nat.le_of_ble_eq_true rfl, Nat.le_of_ble_eq_true rfl⟩) [0, 1, 2, 3, 4, 5, 6, 7, 8, 9, 10, 11, 12, 13, 14, 15, 16, 17, 18, 19, 20, 21, 22, 23, 24, 25, 26, 27, 28, 29, 30] [1, 3, 5, 7, 9, 11, 13, 15, 17, 19, 21, 23, 25, 27, 29, 31, 33, 35, 37, 39, 41, 43, 45, 47, 49, 51, 53, 55, 57, 59, 61] [1, 3, 5, 7, 9, 11, 13, 15, 17, 19, 21, 23, 25, 27, 29, 31, 33, 35, 37, 39, 41, 43, 45, 47, 49, 51, 53, 55, 57, 59, 61, 63] rfl (fun _ => rfl) (fun _ _ _ => rfl) rfl rfl rfl hl.1 rfl (Nat.le_of_ble_eq_true rfl) dX0_act_12 ⟨(Nat.le_of_ble_eq_true rfl), (Nat.le_of_ble_eq_true rfl)⟩ (fun q9 u9 ee H locs hw_2 hP hD hS => ?_) (fun r_2 u_2 H locs hw_2 hP hD hS => ?_)
    · skip
      refine z_catch ⟨0, 49, 50, 239⟩ hown hK htb rfl (by decide) (by decide) (hts _ q273) hP ?_
      have hthr9 : ee.2.1 = eW (wBy mi.toInt 1 60) (eS (decide (r 5 1 + mi ≤ 999)) (-6) 0) ∧ eW (wBy mi.toInt 1 60) (eS (decide (r 5 1 + mi ≤ 999)) (-6) 0) ≠ 0 := hw_2
      refine lv_astore (lv' := [(7, .ref q9), (0, .ref (ad 0 0)), (1, .int 8), (2, .int mi), (3, .int z10), (4, .int z11), (5, .int z12), (6, .int z13)]) hx hb dX0_act_50 hl (by decide) rfl (fun ls hl => ?_)
      refine lv_aload_n hx hb dX0_act_52 rfl (lv_at hl 1 rfl) ?_
      refine lv_aload hx hb dX0_act_53 (lv_at hl 0 rfl) ?_
      obtain ⟨ek, en, e1, e2, e3⟩ := ee
      cases ek
      · skip
        have hP : va_P G.1 vwCl (wX G ad ho rn ln dr ro lt rf th sb ++ wR G (ad 1) kd r ++ wR G (ad 2) k1 r1 ++ wR G (ad 3) k2 r2 ++ wK (ad 4) ++ [(q9, .inr (9, [e1, e2, e3, .null, .null, .int 0, .int en]))]) H := hP
        have hD : va_D A (wX G ad ho rn ln dr ro lt rf th sb ++ wR G (ad 1) kd r ++ wR G (ad 2) k1 r1 ++ wR G (ad 3) k2 r2 ++ wK (ad 4) ++ [(q9, .inr (9, [e1, e2, e3, .null, .null, .int 0, .int en]))]) := hD
        obtain ⟨een, hne⟩ := hthr9
        have een : en = eW (wBy mi.toInt 1 60) (eS (decide (r 5 1 + mi ≤ 999)) (-6) 0) := een
        subst een
        have hP : va_P G.1 vwCl (wX G ad ho rn ln dr ro lt rf th sb ++ wR G (ad 1) kd r ++ wR G (ad 2) k1 r1 ++ wR G (ad 3) k2 r2 ++ wK (ad 4) ++ [(q9, .inr (9, [e1, e2, e3, .null, .null, .int 0, .int (eW (wBy mi.toInt 1 60) (eS (decide (r 5 1 + mi ≤ 999)) (-6) 0))]))]) H := hP
        have hD : va_D A (wX G ad ho rn ln dr ro lt rf th sb ++ wR G (ad 1) kd r ++ wR G (ad 2) k1 r1 ++ wR G (ad 3) k2 r2 ++ wK (ad 4) ++ [(q9, .inr (9, [e1, e2, e3, .null, .null, .int 0, .int (eW (wBy mi.toInt 1 60) (eS (decide (r 5 1 + mi ≤ 999)) (-6) 0))]))]) := hD
        refine x_Ui (wN := fun _ => (wX G ad ho rn ln dr ro lt rf th sb ++ wR G (ad 1) kd r ++ wR G (ad 2) k1 r1 ++ wR G (ad 3) k2 r2 ++ wK (ad 4) ++ [(q9, .inr (9, [e1, e2, e3, .null, .null, .int 0, .int (eW (wBy mi.toInt 1 60) (eS (decide (r 5 1 + mi ≤ 999)) (-6) 0))]))])) ⟨C0, hK, hP, hD, hS, hA⟩ 31 rfl (ci := 9) rfl rfl ((m_X11_number l G q9 e1 e2 e3 (eW (wBy mi.toInt 1 60) (eS (decide (r 5 1 + mi ≤ 999)) (-6) 0)))) (va_cwA (owner := "PulledFromUnder$Refusal") 0 hts (lw_U q990 q992 q996 q997 q100 q998) rfl rfl rfl (hK.2.D 13 rfl) (by decide +kernel) ⟨Nat.le_of_ble_eq_true rfl, Nat.le_of_ble_eq_true rfl⟩) [31] [0, 2, 4, 6, 8, 10, 12, 14, 16, 18, 20, 22, 24, 26, 28, 30, 32, 34, 36, 38, 40, 42, 44, 46, 48, 50, 52, 54, 56, 58, 60, 1] rfl (fun _ => rfl) rfl rfl hl.1 rfl (Nat.le_of_ble_eq_true rfl) dX0_act_55 ⟨(Nat.le_of_ble_eq_true rfl), (Nat.le_of_ble_eq_true rfl)⟩ (fun r_3 u_3 H locs hw_3 hP hD hS => ?_)
        have hw_3 : (eW (wBy mi.toInt 1 60) (eS (decide (r 5 1 + mi ≤ 999)) (-6) 0) : Int32) = r_3 := hw_3.symm
        subst hw_3
        refine x_Vi (wN := fun _ => (wX G ad ho rn ln dr ro lt (rfU rf (eW (wBy mi.toInt 1 60) (eS (decide (r 5 1 + mi ≤ 999)) (-6) 0))) th sb ++ wR G (ad 1) kd r ++ wR G (ad 2) k1 r1 ++ wR G (ad 3) k2 r2 ++ wK (ad 4) ++ [(q9, .inr (9, [e1, e2, e3, .null, .null, .int 0, .int (eW (wBy mi.toInt 1 60) (eS (decide (r 5 1 + mi ≤ 999)) (-6) 0))]))])) ⟨C0, hK, hP, hD, hS, hA⟩ 0 rfl (ci := 0) rfl rfl ((m_refuse l G ad kd k1 k2 r r1 r2 ho rn ln dr ro lt rf th sb hr hp hk (eW (wBy mi.toInt 1 60) (eS (decide (r 5 1 + mi ≤ 999)) (-6) 0)) (rfOk_W (rfOk_S rfOk_k.2.2.2.2 rfOk_0)))) (cwV 1 hts (lw_V q999 q1001 qs62 q86 q1002) rfl rfl rfl (by decide +kernel) ⟨Nat.le_of_ble_eq_true rfl, Nat.le_of_ble_eq_true rfl⟩) [0, 1, 2, 3, 4, 5, 6, 7, 8, 9, 10, 11, 12, 13, 14, 15, 16, 17, 18, 19, 20, 21, 22, 23, 24, 25, 26, 27, 28, 29, 30] [1, 3, 5, 7, 9, 11, 13, 15, 17, 19, 21, 23, 25, 27, 29, 31, 33, 35, 37, 39, 41, 43, 45, 47, 49, 51, 53, 55, 57, 59, 61, 62] rfl (fun _ => rfl) rfl rfl hl.1 rfl (Nat.le_of_ble_eq_true rfl) dX0_act_58 ⟨(Nat.le_of_ble_eq_true rfl), (Nat.le_of_ble_eq_true rfl)⟩ (fun r_4 u_4 H locs hw_4 hP hD hS => ?_)
        have hw_4 : (eW (wBy mi.toInt 1 60) (eS (decide (r 5 1 + mi ≤ 999)) (-6) 0) : Int32) = r_4 := hw_4.symm
        subst hw_4
        have hP : va_P G.1 vwCl (wX G ad ho rn ln dr ro lt (rfU rf (eW (wBy mi.toInt 1 60) (eS (decide (r 5 1 + mi ≤ 999)) (-6) 0))) th sb ++ wR G (ad 1) kd r ++ wR G (ad 2) k1 r1 ++ wR G (ad 3) k2 r2 ++ wK (ad 4) ++ [(q9, .inr (9, [e1, e2, e3, .null, .null, .int 0, .int (eW (wBy mi.toInt 1 60) (eS (decide (r 5 1 + mi ≤ 999)) (-6) 0))]))]) H := hP
        have hD : va_D A (wX G ad ho rn ln dr ro lt (rfU rf (eW (wBy mi.toInt 1 60) (eS (decide (r 5 1 + mi ≤ 999)) (-6) 0))) th sb ++ wR G (ad 1) kd r ++ wR G (ad 2) k1 r1 ++ wR G (ad 3) k2 r2 ++ wK (ad 4) ++ [(q9, .inr (9, [e1, e2, e3, .null, .null, .int 0, .int (eW (wBy mi.toInt 1 60) (eS (decide (r 5 1 + mi ≤ 999)) (-6) 0))]))]) := hD
        have hP := x_dropP hP
        have hD := x_dropD hD
        have hP : va_P G.1 vwCl (wX G ad ho rn ln dr ro lt (sel (eW (wBy mi.toInt 1 60) (eS (decide (r 5 1 + mi ≤ 999)) (-6) 0)) rf (rfU rf (eW (wBy mi.toInt 1 60) (eS (decide (r 5 1 + mi ≤ 999)) (-6) 0)))) th sb ++ wR G (ad 1) kd (sel (eW (wBy mi.toInt 1 60) (eS (decide (r 5 1 + mi ≤ 999)) (-6) 0)) (pMins r (ix mi)) r) ++ wR G (ad 2) k1 r1 ++ wR G (ad 3) k2 r2 ++ wK (ad 4)) H := by simp only [sel_n hne]; exact hP
        have hD : va_D A (wX G ad ho rn ln dr ro lt (sel (eW (wBy mi.toInt 1 60) (eS (decide (r 5 1 + mi ≤ 999)) (-6) 0)) rf (rfU rf (eW (wBy mi.toInt 1 60) (eS (decide (r 5 1 + mi ≤ 999)) (-6) 0)))) th sb ++ wR G (ad 1) kd (sel (eW (wBy mi.toInt 1 60) (eS (decide (r 5 1 + mi ≤ 999)) (-6) 0)) (pMins r (ix mi)) r) ++ wR G (ad 2) k1 r1 ++ wR G (ad 3) k2 r2 ++ wK (ad 4)) := by simp only [sel_n hne]; exact hD
        refine hret _ _ _ _ _ _ (eW (wBy mi.toInt 1 60) (eS (decide (r 5 1 + mi ≤ 999)) (-6) 0)) () dX0_act_61 ?_ hP hD hS (Nat.le_of_ble_eq_true rfl) (Nat.le_of_ble_eq_true rfl)
        exact (sel_n hne).symm
      · skip
        have hP : va_P G.1 vwCl (wX G ad ho rn ln dr ro lt rf th sb ++ wR G (ad 1) kd r ++ wR G (ad 2) k1 r1 ++ wR G (ad 3) k2 r2 ++ wK (ad 4) ++ [(q9, .inr (11, [e1, e2, e3, .null, .null, .int 0, .int en]))]) H := hP
        have hD : va_D A (wX G ad ho rn ln dr ro lt rf th sb ++ wR G (ad 1) kd r ++ wR G (ad 2) k1 r1 ++ wR G (ad 3) k2 r2 ++ wK (ad 4) ++ [(q9, .inr (11, [e1, e2, e3, .null, .null, .int 0, .int en]))]) := hD
        obtain ⟨een, hne⟩ := hthr9
        have een : en = eW (wBy mi.toInt 1 60) (eS (decide (r 5 1 + mi ≤ 999)) (-6) 0) := een
        subst een
        have hP : va_P G.1 vwCl (wX G ad ho rn ln dr ro lt rf th sb ++ wR G (ad 1) kd r ++ wR G (ad 2) k1 r1 ++ wR G (ad 3) k2 r2 ++ wK (ad 4) ++ [(q9, .inr (11, [e1, e2, e3, .null, .null, .int 0, .int (eW (wBy mi.toInt 1 60) (eS (decide (r 5 1 + mi ≤ 999)) (-6) 0))]))]) H := hP
        have hD : va_D A (wX G ad ho rn ln dr ro lt rf th sb ++ wR G (ad 1) kd r ++ wR G (ad 2) k1 r1 ++ wR G (ad 3) k2 r2 ++ wK (ad 4) ++ [(q9, .inr (11, [e1, e2, e3, .null, .null, .int 0, .int (eW (wBy mi.toInt 1 60) (eS (decide (r 5 1 + mi ≤ 999)) (-6) 0))]))]) := hD
        refine x_Ui (wN := fun _ => (wX G ad ho rn ln dr ro lt rf th sb ++ wR G (ad 1) kd r ++ wR G (ad 2) k1 r1 ++ wR G (ad 3) k2 r2 ++ wK (ad 4) ++ [(q9, .inr (11, [e1, e2, e3, .null, .null, .int 0, .int (eW (wBy mi.toInt 1 60) (eS (decide (r 5 1 + mi ≤ 999)) (-6) 0))]))])) ⟨C0, hK, hP, hD, hS, hA⟩ 31 rfl (ci := 11) rfl rfl ((m_X13_number l G q9 e1 e2 e3 (eW (wBy mi.toInt 1 60) (eS (decide (r 5 1 + mi ≤ 999)) (-6) 0)))) (va_cwA (owner := "PulledFromUnder$Refusal") 0 hts (lw_U q990 q992 q993 q994 q102 q995) rfl rfl rfl (hK.2.D 13 rfl) (by decide +kernel) ⟨Nat.le_of_ble_eq_true rfl, Nat.le_of_ble_eq_true rfl⟩) [31] [0, 2, 4, 6, 8, 10, 12, 14, 16, 18, 20, 22, 24, 26, 28, 30, 32, 34, 36, 38, 40, 42, 44, 46, 48, 50, 52, 54, 56, 58, 60, 1] rfl (fun _ => rfl) rfl rfl hl.1 rfl (Nat.le_of_ble_eq_true rfl) dX0_act_55 ⟨(Nat.le_of_ble_eq_true rfl), (Nat.le_of_ble_eq_true rfl)⟩ (fun r_5 u_5 H locs hw_5 hP hD hS => ?_)
        have hw_5 : (eW (wBy mi.toInt 1 60) (eS (decide (r 5 1 + mi ≤ 999)) (-6) 0) : Int32) = r_5 := hw_5.symm
        subst hw_5
        refine x_Vi (wN := fun _ => (wX G ad ho rn ln dr ro lt (rfU rf (eW (wBy mi.toInt 1 60) (eS (decide (r 5 1 + mi ≤ 999)) (-6) 0))) th sb ++ wR G (ad 1) kd r ++ wR G (ad 2) k1 r1 ++ wR G (ad 3) k2 r2 ++ wK (ad 4) ++ [(q9, .inr (11, [e1, e2, e3, .null, .null, .int 0, .int (eW (wBy mi.toInt 1 60) (eS (decide (r 5 1 + mi ≤ 999)) (-6) 0))]))])) ⟨C0, hK, hP, hD, hS, hA⟩ 0 rfl (ci := 0) rfl rfl ((m_refuse l G ad kd k1 k2 r r1 r2 ho rn ln dr ro lt rf th sb hr hp hk (eW (wBy mi.toInt 1 60) (eS (decide (r 5 1 + mi ≤ 999)) (-6) 0)) (rfOk_W (rfOk_S rfOk_k.2.2.2.2 rfOk_0)))) (cwV 1 hts (lw_V q999 q1001 qs62 q86 q1002) rfl rfl rfl (by decide +kernel) ⟨Nat.le_of_ble_eq_true rfl, Nat.le_of_ble_eq_true rfl⟩) [0, 1, 2, 3, 4, 5, 6, 7, 8, 9, 10, 11, 12, 13, 14, 15, 16, 17, 18, 19, 20, 21, 22, 23, 24, 25, 26, 27, 28, 29, 30] [1, 3, 5, 7, 9, 11, 13, 15, 17, 19, 21, 23, 25, 27, 29, 31, 33, 35, 37, 39, 41, 43, 45, 47, 49, 51, 53, 55, 57, 59, 61, 62] rfl (fun _ => rfl) rfl rfl hl.1 rfl (Nat.le_of_ble_eq_true rfl) dX0_act_58 ⟨(Nat.le_of_ble_eq_true rfl), (Nat.le_of_ble_eq_true rfl)⟩ (fun r_6 u_6 H locs hw_6 hP hD hS => ?_)
        have hw_6 : (eW (wBy mi.toInt 1 60) (eS (decide (r 5 1 + mi ≤ 999)) (-6) 0) : Int32) = r_6 := hw_6.symm
        subst hw_6
        have hP : va_P G.1 vwCl (wX G ad ho rn ln dr ro lt (rfU rf (eW (wBy mi.toInt 1 60) (eS (decide (r 5 1 + mi ≤ 999)) (-6) 0))) th sb ++ wR G (ad 1) kd r ++ wR G (ad 2) k1 r1 ++ wR G (ad 3) k2 r2 ++ wK (ad 4) ++ [(q9, .inr (11, [e1, e2, e3, .null, .null, .int 0, .int (eW (wBy mi.toInt 1 60) (eS (decide (r 5 1 + mi ≤ 999)) (-6) 0))]))]) H := hP
        have hD : va_D A (wX G ad ho rn ln dr ro lt (rfU rf (eW (wBy mi.toInt 1 60) (eS (decide (r 5 1 + mi ≤ 999)) (-6) 0))) th sb ++ wR G (ad 1) kd r ++ wR G (ad 2) k1 r1 ++ wR G (ad 3) k2 r2 ++ wK (ad 4) ++ [(q9, .inr (11, [e1, e2, e3, .null, .null, .int 0, .int (eW (wBy mi.toInt 1 60) (eS (decide (r 5 1 + mi ≤ 999)) (-6) 0))]))]) := hD
        have hP := x_dropP hP
        have hD := x_dropD hD
        have hP : va_P G.1 vwCl (wX G ad ho rn ln dr ro lt (sel (eW (wBy mi.toInt 1 60) (eS (decide (r 5 1 + mi ≤ 999)) (-6) 0)) rf (rfU rf (eW (wBy mi.toInt 1 60) (eS (decide (r 5 1 + mi ≤ 999)) (-6) 0)))) th sb ++ wR G (ad 1) kd (sel (eW (wBy mi.toInt 1 60) (eS (decide (r 5 1 + mi ≤ 999)) (-6) 0)) (pMins r (ix mi)) r) ++ wR G (ad 2) k1 r1 ++ wR G (ad 3) k2 r2 ++ wK (ad 4)) H := by simp only [sel_n hne]; exact hP
        have hD : va_D A (wX G ad ho rn ln dr ro lt (sel (eW (wBy mi.toInt 1 60) (eS (decide (r 5 1 + mi ≤ 999)) (-6) 0)) rf (rfU rf (eW (wBy mi.toInt 1 60) (eS (decide (r 5 1 + mi ≤ 999)) (-6) 0)))) th sb ++ wR G (ad 1) kd (sel (eW (wBy mi.toInt 1 60) (eS (decide (r 5 1 + mi ≤ 999)) (-6) 0)) (pMins r (ix mi)) r) ++ wR G (ad 2) k1 r1 ++ wR G (ad 3) k2 r2 ++ wK (ad 4)) := by simp only [sel_n hne]; exact hD
        refine hret _ _ _ _ _ _ (eW (wBy mi.toInt 1 60) (eS (decide (r 5 1 + mi ≤ 999)) (-6) 0)) () dX0_act_61 ?_ hP hD hS (Nat.le_of_ble_eq_true rfl) (Nat.le_of_ble_eq_true rfl)
        exact (sel_n hne).symm
    · skip
      obtain ⟨hz_2, hw_2⟩ := hw_2
      have hw_2 : (pStN (pMins r (ix mi)) : Int32) = r_2 := hw_2.symm
      subst hw_2
      have hP : va_P G.1 vwCl (wX G ad ho rn ln dr ro lt rf th sb ++ wR G (ad 1) kd (pMins r (ix mi)) ++ wR G (ad 2) k1 r1 ++ wR G (ad 3) k2 r2 ++ wK (ad 4)) H := hP
      have hD : va_D A (wX G ad ho rn ln dr ro lt rf th sb ++ wR G (ad 1) kd (pMins r (ix mi)) ++ wR G (ad 2) k1 r1 ++ wR G (ad 3) k2 r2 ++ wK (ad 4)) := hD
      refine W.widen (k := 3) (n := 21) (Nat.le_of_ble_eq_true rfl) (Nat.le_of_ble_eq_true rfl) ?_
      refine lv_goto (tgt := 49) hx hb dX0_act_15 (by decide) ?_
      have hP : va_P G.1 vwCl (wX G ad ho rn ln dr ro lt (sel (eW (wBy mi.toInt 1 60) (eS (decide (r 5 1 + mi ≤ 999)) (-6) 0)) rf (rfU rf (eW (wBy mi.toInt 1 60) (eS (decide (r 5 1 + mi ≤ 999)) (-6) 0)))) th sb ++ wR G (ad 1) kd (sel (eW (wBy mi.toInt 1 60) (eS (decide (r 5 1 + mi ≤ 999)) (-6) 0)) (pMins r (ix mi)) r) ++ wR G (ad 2) k1 r1 ++ wR G (ad 3) k2 r2 ++ wK (ad 4)) H := by simp only [sel_0 hz_2]; exact hP
      have hD : va_D A (wX G ad ho rn ln dr ro lt (sel (eW (wBy mi.toInt 1 60) (eS (decide (r 5 1 + mi ≤ 999)) (-6) 0)) rf (rfU rf (eW (wBy mi.toInt 1 60) (eS (decide (r 5 1 + mi ≤ 999)) (-6) 0)))) th sb ++ wR G (ad 1) kd (sel (eW (wBy mi.toInt 1 60) (eS (decide (r 5 1 + mi ≤ 999)) (-6) 0)) (pMins r (ix mi)) r) ++ wR G (ad 2) k1 r1 ++ wR G (ad 3) k2 r2 ++ wK (ad 4)) := by simp only [sel_0 hz_2]; exact hD
      refine hret _ _ _ _ _ _ (pStN (pMins r (ix mi))) () dX0_act_49 ?_ hP hD hS (Nat.le_of_ble_eq_true rfl) (Nat.le_of_ble_eq_true rfl)
      exact (sel_0 hz_2).symm
set_option maxHeartbeats 4000000 in
set_option maxRecDepth 100000 in
theorem m_act_9 (l : Launch) (hl0 : l.stackTraces = false) (G : xG) (ad : Nat → Nat → Nat) (kd k1 k2 : Nat → Option Nat) (r r1 r2 : Rw) (ho rn ln dr : Int32) (ro lt rf th sb : Nat → Int32) (hr : Ok r) (hp : r 5 3 = 0) (hk : kOk (ad 4) kd r) (t mi w z10 z11 : Int32) : zCi l G yX0_act (wsW_ yX0_act cX0_act 8 (some .int) [(0, 49, 50, 239)]) ({ frames := 12, cells := 4, slots := 28, locals := 222 } : Room) [.ref (ad 0 0), .int 9, .int t, .int mi, .int w, .int z10, .int z11] (wX G ad ho rn ln dr ro lt rf th sb ++ wR G (ad 1) kd r ++ wR G (ad 2) k1 r1 ++ wR G (ad 3) k2 r2 ++ wK (ad 4)) (S := ((Nat → Option Nat) × Rw)) (fun v _ => v = sel (eS (tB r t) (-1) (eW (wBy mi.toInt 0 99) (eS (inR w 0 2) (-2) 0))) (pBeh r (ix t) (ix mi) w) (eS (tB r t) (-1) (eW (wBy mi.toInt 0 99) (eS (inR w 0 2) (-2) 0)))) (fun u => (wX G ad ho rn ln dr ro lt (sel (eS (tB r t) (-1) (eW (wBy mi.toInt 0 99) (eS (inR w 0 2) (-2) 0))) rf (rfU rf (eS (tB r t) (-1) (eW (wBy mi.toInt 0 99) (eS (inR w 0 2) (-2) 0))))) th sb ++ wR G (ad 1) kd r ++ wR G (ad 2) u.1 u.2 ++ wR G (ad 3) k2 r2 ++ wK (ad 4))) := by
  refine z_openiW (hh := [(0, 49, 50, 239)]) (by decide) (Nat.le_of_ble_eq_true rfl) (fun _ _ _ => rfl) ?_
  intro p e s m args below meth c A Q ls C0 hK hZ hP hD hA hl htb hret
  obtain ⟨hx, hb, hml, hown, hts⟩ := id C0
  have hS : va_S A s.heap s.heap [] := va_S.rf
  have hP : va_P G.1 vwCl (wX G ad ho rn ln dr ro lt rf th sb ++ wR G (ad 1) kd r ++ wR G (ad 2) k1 r1 ++ wR G (ad 3) k2 r2 ++ wK (ad 4)) s.heap := hP
  have hD : va_D A (wX G ad ho rn ln dr ro lt rf th sb ++ wR G (ad 1) kd r ++ wR G (ad 2) k1 r1 ++ wR G (ad 3) k2 r2 ++ wK (ad 4)) := hD
  have hl : lv_has ls 8 [(0, .ref (ad 0 0)), (1, .int 9), (2, .int t), (3, .int mi), (4, .int w), (5, .int z10), (6, .int z11)] := hl
  have hr0 := hr.n
  have hN := hr.le
  refine lv_iload_n hx hb dX0_act_0 rfl (lv_at hl 1 rfl) ?_
  refine lv_bipush (v := 9) hx hb dX0_act_1 (by decide) ?_
  refine lv_icmp_ge (tgt := 18) hx hb dX0_act_3 (by decide) (fun c_1 => ?_) (fun c_1 => ?_)
  · skip
    refine lv_iload_n hx hb dX0_act_18 rfl (lv_at hl 1 rfl) ?_
    refine lv_bipush (v := 18) hx hb dX0_act_19 (by decide) ?_
    refine lv_icmp_ge (tgt := 36) hx hb dX0_act_21 (by decide) (fun c_2 => ?_) (fun c_2 => ?_)
    · skip
      exact absurd c_2 (by decide)
    · skip
      refine lv_aload_n hx hb dX0_act_24 rfl (lv_at hl 0 rfl) ?_
      refine lv_iload_n hx hb dX0_act_25 rfl (lv_at hl 1 rfl) ?_
      refine lv_iload_n hx hb dX0_act_26 rfl (lv_at hl 2 rfl) ?_
      refine lv_iload_n hx hb dX0_act_27 rfl (lv_at hl 3 rfl) ?_
      refine lv_iload hx hb dX0_act_28 (lv_at hl 4 rfl) ?_
      refine y_Vi (wN := fun u_3 => (wX G ad ho rn ln dr ro lt rf th sb ++ wR G (ad 1) kd r ++ wR G (ad 2) u_3.1 u_3.2 ++ wR G (ad 3) k2 r2 ++ wK (ad 4))) (wNx := fun u9 => (wX G ad ho rn ln dr ro lt rf th sb ++ wR G (ad 1) kd r ++ wR G (ad 2) k1 r1 ++ wR G (ad 3) k2 r2 ++ wK (ad 4))) ⟨C0, hK, hP, hD, hS, hA⟩ hZ 0 rfl (ci := 0) rfl rfl ((m_of_9 l hl0 G ad kd k1 k2 r r1 r2 ho rn ln dr ro lt rf th sb hr hp hk t mi w)) (cwV 4 hts (lw_V q778 q780 qs22 q86 q781) rfl rfl rfl (by decide +kernel) ⟨Nat.le_of_ble_eq_true rfl, Nat.le_of_ble_eq_true rfl⟩) [0, 1, 2, 3, 4, 5, 6, 7, 8, 9, 10, 11, 12, 13, 14, 15, 16, 17, 18, 19, 20, 21, 22, 23, 24, 25, 26, 27, 28, 29, 30] [1, 3, 5, 7, 9, 11, 13, 15, 17, 19, 21, 23, 25, 27, 29, 31, 33, 35, 37, 39, 41, 43, 45, 47, 49, 51, 53, 55, 57, 59, 61] [1, 3, 5, 7, 9, 11, 13, 15, 17, 19, 21, 23, 25, 27, 29, 31, 33, 35, 37, 39, 41, 43, 45, 47, 49, 51, 53, 55, 57, 59, 61, 63] rfl (fun _ => rfl) (fun _ _ _ => rfl) rfl rfl rfl hl.1 rfl (Nat.le_of_ble_eq_true rfl) dX0_act_30 ⟨(Nat.le_of_ble_eq_true rfl), (Nat.le_of_ble_eq_true rfl)⟩ (fun q9 u9 ee H locs hw_3 hP hD hS => ?_) (fun r_3 u_3 H locs hw_3 hP hD hS => ?_)
      · skip
        refine z_catch ⟨0, 49, 50, 239⟩ hown hK htb rfl (by decide) (by decide) (hts _ q273) hP ?_
        have hthr9 : ee.2.1 = eS (tB r t) (-1) (eW (wBy mi.toInt 0 99) (eS (inR w 0 2) (-2) 0)) ∧ eS (tB r t) (-1) (eW (wBy mi.toInt 0 99) (eS (inR w 0 2) (-2) 0)) ≠ 0 := hw_3
        refine lv_astore (lv' := [(7, .ref q9), (0, .ref (ad 0 0)), (1, .int 9), (2, .int t), (3, .int mi), (4, .int w), (5, .int z10), (6, .int z11)]) hx hb dX0_act_50 hl (by decide) rfl (fun ls hl => ?_)
        refine lv_aload_n hx hb dX0_act_52 rfl (lv_at hl 1 rfl) ?_
        refine lv_aload hx hb dX0_act_53 (lv_at hl 0 rfl) ?_
        obtain ⟨ek, en, e1, e2, e3⟩ := ee
        cases ek
        · skip
          have hP : va_P G.1 vwCl (wX G ad ho rn ln dr ro lt rf th sb ++ wR G (ad 1) kd r ++ wR G (ad 2) k1 r1 ++ wR G (ad 3) k2 r2 ++ wK (ad 4) ++ [(q9, .inr (9, [e1, e2, e3, .null, .null, .int 0, .int en]))]) H := hP
          have hD : va_D A (wX G ad ho rn ln dr ro lt rf th sb ++ wR G (ad 1) kd r ++ wR G (ad 2) k1 r1 ++ wR G (ad 3) k2 r2 ++ wK (ad 4) ++ [(q9, .inr (9, [e1, e2, e3, .null, .null, .int 0, .int en]))]) := hD
          obtain ⟨een, hne⟩ := hthr9
          have een : en = eS (tB r t) (-1) (eW (wBy mi.toInt 0 99) (eS (inR w 0 2) (-2) 0)) := een
          subst een
          have hP : va_P G.1 vwCl (wX G ad ho rn ln dr ro lt rf th sb ++ wR G (ad 1) kd r ++ wR G (ad 2) k1 r1 ++ wR G (ad 3) k2 r2 ++ wK (ad 4) ++ [(q9, .inr (9, [e1, e2, e3, .null, .null, .int 0, .int (eS (tB r t) (-1) (eW (wBy mi.toInt 0 99) (eS (inR w 0 2) (-2) 0)))]))]) H := hP
          have hD : va_D A (wX G ad ho rn ln dr ro lt rf th sb ++ wR G (ad 1) kd r ++ wR G (ad 2) k1 r1 ++ wR G (ad 3) k2 r2 ++ wK (ad 4) ++ [(q9, .inr (9, [e1, e2, e3, .null, .null, .int 0, .int (eS (tB r t) (-1) (eW (wBy mi.toInt 0 99) (eS (inR w 0 2) (-2) 0)))]))]) := hD
          refine x_Ui (wN := fun _ => (wX G ad ho rn ln dr ro lt rf th sb ++ wR G (ad 1) kd r ++ wR G (ad 2) k1 r1 ++ wR G (ad 3) k2 r2 ++ wK (ad 4) ++ [(q9, .inr (9, [e1, e2, e3, .null, .null, .int 0, .int (eS (tB r t) (-1) (eW (wBy mi.toInt 0 99) (eS (inR w 0 2) (-2) 0)))]))])) ⟨C0, hK, hP, hD, hS, hA⟩ 31 rfl (ci := 9) rfl rfl ((m_X11_number l G q9 e1 e2 e3 (eS (tB r t) (-1) (eW (wBy mi.toInt 0 99) (eS (inR w 0 2) (-2) 0))))) (va_cwA (owner := "PulledFromUnder$Refusal") 0 hts (lw_U q990 q992 q996 q997 q100 q998) rfl rfl rfl (hK.2.D 13 rfl) (by decide +kernel) ⟨Nat.le_of_ble_eq_true rfl, Nat.le_of_ble_eq_true rfl⟩) [31] [0, 2, 4, 6, 8, 10, 12, 14, 16, 18, 20, 22, 24, 26, 28, 30, 32, 34, 36, 38, 40, 42, 44, 46, 48, 50, 52, 54, 56, 58, 60, 1] rfl (fun _ => rfl) rfl rfl hl.1 rfl (Nat.le_of_ble_eq_true rfl) dX0_act_55 ⟨(Nat.le_of_ble_eq_true rfl), (Nat.le_of_ble_eq_true rfl)⟩ (fun r_4 u_4 H locs hw_4 hP hD hS => ?_)
          have hw_4 : (eS (tB r t) (-1) (eW (wBy mi.toInt 0 99) (eS (inR w 0 2) (-2) 0)) : Int32) = r_4 := hw_4.symm
          subst hw_4
          refine x_Vi (wN := fun _ => (wX G ad ho rn ln dr ro lt (rfU rf (eS (tB r t) (-1) (eW (wBy mi.toInt 0 99) (eS (inR w 0 2) (-2) 0)))) th sb ++ wR G (ad 1) kd r ++ wR G (ad 2) k1 r1 ++ wR G (ad 3) k2 r2 ++ wK (ad 4) ++ [(q9, .inr (9, [e1, e2, e3, .null, .null, .int 0, .int (eS (tB r t) (-1) (eW (wBy mi.toInt 0 99) (eS (inR w 0 2) (-2) 0)))]))])) ⟨C0, hK, hP, hD, hS, hA⟩ 0 rfl (ci := 0) rfl rfl ((m_refuse l G ad kd k1 k2 r r1 r2 ho rn ln dr ro lt rf th sb hr hp hk (eS (tB r t) (-1) (eW (wBy mi.toInt 0 99) (eS (inR w 0 2) (-2) 0))) (rfOk_S rfOk_k.1 (rfOk_W (rfOk_S rfOk_k.2.1 rfOk_0))))) (cwV 1 hts (lw_V q999 q1001 qs62 q86 q1002) rfl rfl rfl (by decide +kernel) ⟨Nat.le_of_ble_eq_true rfl, Nat.le_of_ble_eq_true rfl⟩) [0, 1, 2, 3, 4, 5, 6, 7, 8, 9, 10, 11, 12, 13, 14, 15, 16, 17, 18, 19, 20, 21, 22, 23, 24, 25, 26, 27, 28, 29, 30] [1, 3, 5, 7, 9, 11, 13, 15, 17, 19, 21, 23, 25, 27, 29, 31, 33, 35, 37, 39, 41, 43, 45, 47, 49, 51, 53, 55, 57, 59, 61, 62] rfl (fun _ => rfl) rfl rfl hl.1 rfl (Nat.le_of_ble_eq_true rfl) dX0_act_58 ⟨(Nat.le_of_ble_eq_true rfl), (Nat.le_of_ble_eq_true rfl)⟩ (fun r_5 u_5 H locs hw_5 hP hD hS => ?_)
          have hw_5 : (eS (tB r t) (-1) (eW (wBy mi.toInt 0 99) (eS (inR w 0 2) (-2) 0)) : Int32) = r_5 := hw_5.symm
          subst hw_5
          have hP : va_P G.1 vwCl (wX G ad ho rn ln dr ro lt (rfU rf (eS (tB r t) (-1) (eW (wBy mi.toInt 0 99) (eS (inR w 0 2) (-2) 0)))) th sb ++ wR G (ad 1) kd r ++ wR G (ad 2) k1 r1 ++ wR G (ad 3) k2 r2 ++ wK (ad 4) ++ [(q9, .inr (9, [e1, e2, e3, .null, .null, .int 0, .int (eS (tB r t) (-1) (eW (wBy mi.toInt 0 99) (eS (inR w 0 2) (-2) 0)))]))]) H := hP
          have hD : va_D A (wX G ad ho rn ln dr ro lt (rfU rf (eS (tB r t) (-1) (eW (wBy mi.toInt 0 99) (eS (inR w 0 2) (-2) 0)))) th sb ++ wR G (ad 1) kd r ++ wR G (ad 2) k1 r1 ++ wR G (ad 3) k2 r2 ++ wK (ad 4) ++ [(q9, .inr (9, [e1, e2, e3, .null, .null, .int 0, .int (eS (tB r t) (-1) (eW (wBy mi.toInt 0 99) (eS (inR w 0 2) (-2) 0)))]))]) := hD
          have hP := x_dropP hP
          have hD := x_dropD hD
          have hP : va_P G.1 vwCl (wX G ad ho rn ln dr ro lt (sel (eS (tB r t) (-1) (eW (wBy mi.toInt 0 99) (eS (inR w 0 2) (-2) 0))) rf (rfU rf (eS (tB r t) (-1) (eW (wBy mi.toInt 0 99) (eS (inR w 0 2) (-2) 0))))) th sb ++ wR G (ad 1) kd r ++ wR G (ad 2) ((k1, r1).1) ((k1, r1).2) ++ wR G (ad 3) k2 r2 ++ wK (ad 4)) H := by simp only [sel_n hne]; exact hP
          have hD : va_D A (wX G ad ho rn ln dr ro lt (sel (eS (tB r t) (-1) (eW (wBy mi.toInt 0 99) (eS (inR w 0 2) (-2) 0))) rf (rfU rf (eS (tB r t) (-1) (eW (wBy mi.toInt 0 99) (eS (inR w 0 2) (-2) 0))))) th sb ++ wR G (ad 1) kd r ++ wR G (ad 2) ((k1, r1).1) ((k1, r1).2) ++ wR G (ad 3) k2 r2 ++ wK (ad 4)) := by simp only [sel_n hne]; exact hD
          refine hret _ _ _ _ _ _ (eS (tB r t) (-1) (eW (wBy mi.toInt 0 99) (eS (inR w 0 2) (-2) 0))) (k1, r1) dX0_act_61 ?_ hP hD hS (Nat.le_of_ble_eq_true rfl) (Nat.le_of_ble_eq_true rfl)
          exact (sel_n hne).symm
        · skip
          have hP : va_P G.1 vwCl (wX G ad ho rn ln dr ro lt rf th sb ++ wR G (ad 1) kd r ++ wR G (ad 2) k1 r1 ++ wR G (ad 3) k2 r2 ++ wK (ad 4) ++ [(q9, .inr (11, [e1, e2, e3, .null, .null, .int 0, .int en]))]) H := hP
          have hD : va_D A (wX G ad ho rn ln dr ro lt rf th sb ++ wR G (ad 1) kd r ++ wR G (ad 2) k1 r1 ++ wR G (ad 3) k2 r2 ++ wK (ad 4) ++ [(q9, .inr (11, [e1, e2, e3, .null, .null, .int 0, .int en]))]) := hD
          obtain ⟨een, hne⟩ := hthr9
          have een : en = eS (tB r t) (-1) (eW (wBy mi.toInt 0 99) (eS (inR w 0 2) (-2) 0)) := een
          subst een
          have hP : va_P G.1 vwCl (wX G ad ho rn ln dr ro lt rf th sb ++ wR G (ad 1) kd r ++ wR G (ad 2) k1 r1 ++ wR G (ad 3) k2 r2 ++ wK (ad 4) ++ [(q9, .inr (11, [e1, e2, e3, .null, .null, .int 0, .int (eS (tB r t) (-1) (eW (wBy mi.toInt 0 99) (eS (inR w 0 2) (-2) 0)))]))]) H := hP
          have hD : va_D A (wX G ad ho rn ln dr ro lt rf th sb ++ wR G (ad 1) kd r ++ wR G (ad 2) k1 r1 ++ wR G (ad 3) k2 r2 ++ wK (ad 4) ++ [(q9, .inr (11, [e1, e2, e3, .null, .null, .int 0, .int (eS (tB r t) (-1) (eW (wBy mi.toInt 0 99) (eS (inR w 0 2) (-2) 0)))]))]) := hD
          refine x_Ui (wN := fun _ => (wX G ad ho rn ln dr ro lt rf th sb ++ wR G (ad 1) kd r ++ wR G (ad 2) k1 r1 ++ wR G (ad 3) k2 r2 ++ wK (ad 4) ++ [(q9, .inr (11, [e1, e2, e3, .null, .null, .int 0, .int (eS (tB r t) (-1) (eW (wBy mi.toInt 0 99) (eS (inR w 0 2) (-2) 0)))]))])) ⟨C0, hK, hP, hD, hS, hA⟩ 31 rfl (ci := 11) rfl rfl ((m_X13_number l G q9 e1 e2 e3 (eS (tB r t) (-1) (eW (wBy mi.toInt 0 99) (eS (inR w 0 2) (-2) 0))))) (va_cwA (owner := "PulledFromUnder$Refusal") 0 hts (lw_U q990 q992 q993 q994 q102 q995) rfl rfl rfl (hK.2.D 13 rfl) (by decide +kernel) ⟨Nat.le_of_ble_eq_true rfl, Nat.le_of_ble_eq_true rfl⟩) [31] [0, 2, 4, 6, 8, 10, 12, 14, 16, 18, 20, 22, 24, 26, 28, 30, 32, 34, 36, 38, 40, 42, 44, 46, 48, 50, 52, 54, 56, 58, 60, 1] rfl (fun _ => rfl) rfl rfl hl.1 rfl (Nat.le_of_ble_eq_true rfl) dX0_act_55 ⟨(Nat.le_of_ble_eq_true rfl), (Nat.le_of_ble_eq_true rfl)⟩ (fun r_6 u_6 H locs hw_6 hP hD hS => ?_)
          have hw_6 : (eS (tB r t) (-1) (eW (wBy mi.toInt 0 99) (eS (inR w 0 2) (-2) 0)) : Int32) = r_6 := hw_6.symm
          subst hw_6
          refine x_Vi (wN := fun _ => (wX G ad ho rn ln dr ro lt (rfU rf (eS (tB r t) (-1) (eW (wBy mi.toInt 0 99) (eS (inR w 0 2) (-2) 0)))) th sb ++ wR G (ad 1) kd r ++ wR G (ad 2) k1 r1 ++ wR G (ad 3) k2 r2 ++ wK (ad 4) ++ [(q9, .inr (11, [e1, e2, e3, .null, .null, .int 0, .int (eS (tB r t) (-1) (eW (wBy mi.toInt 0 99) (eS (inR w 0 2) (-2) 0)))]))])) ⟨C0, hK, hP, hD, hS, hA⟩ 0 rfl (ci := 0) rfl rfl ((m_refuse l G ad kd k1 k2 r r1 r2 ho rn ln dr ro lt rf th sb hr hp hk (eS (tB r t) (-1) (eW (wBy mi.toInt 0 99) (eS (inR w 0 2) (-2) 0))) (rfOk_S rfOk_k.1 (rfOk_W (rfOk_S rfOk_k.2.1 rfOk_0))))) (cwV 1 hts (lw_V q999 q1001 qs62 q86 q1002) rfl rfl rfl (by decide +kernel) ⟨Nat.le_of_ble_eq_true rfl, Nat.le_of_ble_eq_true rfl⟩) [0, 1, 2, 3, 4, 5, 6, 7, 8, 9, 10, 11, 12, 13, 14, 15, 16, 17, 18, 19, 20, 21, 22, 23, 24, 25, 26, 27, 28, 29, 30] [1, 3, 5, 7, 9, 11, 13, 15, 17, 19, 21, 23, 25, 27, 29, 31, 33, 35, 37, 39, 41, 43, 45, 47, 49, 51, 53, 55, 57, 59, 61, 62] rfl (fun _ => rfl) rfl rfl hl.1 rfl (Nat.le_of_ble_eq_true rfl) dX0_act_58 ⟨(Nat.le_of_ble_eq_true rfl), (Nat.le_of_ble_eq_true rfl)⟩ (fun r_7 u_7 H locs hw_7 hP hD hS => ?_)
          have hw_7 : (eS (tB r t) (-1) (eW (wBy mi.toInt 0 99) (eS (inR w 0 2) (-2) 0)) : Int32) = r_7 := hw_7.symm
          subst hw_7
          have hP : va_P G.1 vwCl (wX G ad ho rn ln dr ro lt (rfU rf (eS (tB r t) (-1) (eW (wBy mi.toInt 0 99) (eS (inR w 0 2) (-2) 0)))) th sb ++ wR G (ad 1) kd r ++ wR G (ad 2) k1 r1 ++ wR G (ad 3) k2 r2 ++ wK (ad 4) ++ [(q9, .inr (11, [e1, e2, e3, .null, .null, .int 0, .int (eS (tB r t) (-1) (eW (wBy mi.toInt 0 99) (eS (inR w 0 2) (-2) 0)))]))]) H := hP
          have hD : va_D A (wX G ad ho rn ln dr ro lt (rfU rf (eS (tB r t) (-1) (eW (wBy mi.toInt 0 99) (eS (inR w 0 2) (-2) 0)))) th sb ++ wR G (ad 1) kd r ++ wR G (ad 2) k1 r1 ++ wR G (ad 3) k2 r2 ++ wK (ad 4) ++ [(q9, .inr (11, [e1, e2, e3, .null, .null, .int 0, .int (eS (tB r t) (-1) (eW (wBy mi.toInt 0 99) (eS (inR w 0 2) (-2) 0)))]))]) := hD
          have hP := x_dropP hP
          have hD := x_dropD hD
          have hP : va_P G.1 vwCl (wX G ad ho rn ln dr ro lt (sel (eS (tB r t) (-1) (eW (wBy mi.toInt 0 99) (eS (inR w 0 2) (-2) 0))) rf (rfU rf (eS (tB r t) (-1) (eW (wBy mi.toInt 0 99) (eS (inR w 0 2) (-2) 0))))) th sb ++ wR G (ad 1) kd r ++ wR G (ad 2) ((k1, r1).1) ((k1, r1).2) ++ wR G (ad 3) k2 r2 ++ wK (ad 4)) H := by simp only [sel_n hne]; exact hP
          have hD : va_D A (wX G ad ho rn ln dr ro lt (sel (eS (tB r t) (-1) (eW (wBy mi.toInt 0 99) (eS (inR w 0 2) (-2) 0))) rf (rfU rf (eS (tB r t) (-1) (eW (wBy mi.toInt 0 99) (eS (inR w 0 2) (-2) 0))))) th sb ++ wR G (ad 1) kd r ++ wR G (ad 2) ((k1, r1).1) ((k1, r1).2) ++ wR G (ad 3) k2 r2 ++ wK (ad 4)) := by simp only [sel_n hne]; exact hD
          refine hret _ _ _ _ _ _ (eS (tB r t) (-1) (eW (wBy mi.toInt 0 99) (eS (inR w 0 2) (-2) 0))) (k1, r1) dX0_act_61 ?_ hP hD hS (Nat.le_of_ble_eq_true rfl) (Nat.le_of_ble_eq_true rfl)
          exact (sel_n hne).symm
      · skip
        obtain ⟨hz_3, hw_3⟩ := hw_3
        have hw_3 : (pBeh r (ix t) (ix mi) w : Int32) = r_3 := hw_3.symm
        subst hw_3
        have hP : va_P G.1 vwCl (wX G ad ho rn ln dr ro lt rf th sb ++ wR G (ad 1) kd r ++ wR G (ad 2) u_3.1 u_3.2 ++ wR G (ad 3) k2 r2 ++ wK (ad 4)) H := hP
        have hD : va_D A (wX G ad ho rn ln dr ro lt rf th sb ++ wR G (ad 1) kd r ++ wR G (ad 2) u_3.1 u_3.2 ++ wR G (ad 3) k2 r2 ++ wK (ad 4)) := hD
        refine W.widen (k := 4) (n := 28) (Nat.le_of_ble_eq_true rfl) (Nat.le_of_ble_eq_true rfl) ?_
        refine lv_goto (tgt := 49) hx hb dX0_act_33 (by decide) ?_
        have hP : va_P G.1 vwCl (wX G ad ho rn ln dr ro lt (sel (eS (tB r t) (-1) (eW (wBy mi.toInt 0 99) (eS (inR w 0 2) (-2) 0))) rf (rfU rf (eS (tB r t) (-1) (eW (wBy mi.toInt 0 99) (eS (inR w 0 2) (-2) 0))))) th sb ++ wR G (ad 1) kd r ++ wR G (ad 2) u_3.1 u_3.2 ++ wR G (ad 3) k2 r2 ++ wK (ad 4)) H := by simp only [sel_0 hz_3]; exact hP
        have hD : va_D A (wX G ad ho rn ln dr ro lt (sel (eS (tB r t) (-1) (eW (wBy mi.toInt 0 99) (eS (inR w 0 2) (-2) 0))) rf (rfU rf (eS (tB r t) (-1) (eW (wBy mi.toInt 0 99) (eS (inR w 0 2) (-2) 0))))) th sb ++ wR G (ad 1) kd r ++ wR G (ad 2) u_3.1 u_3.2 ++ wR G (ad 3) k2 r2 ++ wK (ad 4)) := by simp only [sel_0 hz_3]; exact hD
        refine hret _ _ _ _ _ _ (pBeh r (ix t) (ix mi) w) u_3 dX0_act_49 ?_ hP hD hS (Nat.le_of_ble_eq_true rfl) (Nat.le_of_ble_eq_true rfl)
        exact (sel_0 hz_3).symm
  · skip
    exact absurd c_1 (by decide)
set_option maxHeartbeats 4000000 in
set_option maxRecDepth 100000 in
theorem m_act_10 (l : Launch) (hl0 : l.stackTraces = false) (G : xG) (ad : Nat → Nat → Nat) (kd k1 k2 : Nat → Option Nat) (r r1 r2 : Rw) (ho rn ln dr : Int32) (ro lt rf th sb : Nat → Int32) (hr : Ok r) (hp : r 5 3 = 0) (hk : kOk (ad 4) kd r) (t z10 z11 z12 z13 : Int32) : zCi l G yX0_act (wsW_ yX0_act cX0_act 8 (some .int) [(0, 49, 50, 239)]) ({ frames := 12, cells := 1, slots := 7, locals := 217 } : Room) [.ref (ad 0 0), .int 10, .int t, .int z10, .int z11, .int z12, .int z13] (wX G ad ho rn ln dr ro lt rf th sb ++ wR G (ad 1) kd r ++ wR G (ad 2) k1 r1 ++ wR G (ad 3) k2 r2 ++ wK (ad 4)) (S := ((Nat → Option Nat) × Rw)) (fun v _ => v = sel (eS (tB r t) (-1) 0) (pFls r (ix t)) (eS (tB r t) (-1) 0)) (fun u => (wX G ad ho rn ln dr ro lt (sel (eS (tB r t) (-1) 0) rf (rfU rf (eS (tB r t) (-1) 0))) th sb ++ wR G (ad 1) kd r ++ wR G (ad 2) u.1 u.2 ++ wR G (ad 3) k2 r2 ++ wK (ad 4))) := by
  refine z_openiW (hh := [(0, 49, 50, 239)]) (by decide) (Nat.le_of_ble_eq_true rfl) (fun _ _ _ => rfl) ?_
  intro p e s m args below meth c A Q ls C0 hK hZ hP hD hA hl htb hret
  obtain ⟨hx, hb, hml, hown, hts⟩ := id C0
  have hS : va_S A s.heap s.heap [] := va_S.rf
  have hP : va_P G.1 vwCl (wX G ad ho rn ln dr ro lt rf th sb ++ wR G (ad 1) kd r ++ wR G (ad 2) k1 r1 ++ wR G (ad 3) k2 r2 ++ wK (ad 4)) s.heap := hP
  have hD : va_D A (wX G ad ho rn ln dr ro lt rf th sb ++ wR G (ad 1) kd r ++ wR G (ad 2) k1 r1 ++ wR G (ad 3) k2 r2 ++ wK (ad 4)) := hD
  have hl : lv_has ls 8 [(0, .ref (ad 0 0)), (1, .int 10), (2, .int t), (3, .int z10), (4, .int z11), (5, .int z12), (6, .int z13)] := hl
  have hr0 := hr.n
  have hN := hr.le
  refine lv_iload_n hx hb dX0_act_0 rfl (lv_at hl 1 rfl) ?_
  refine lv_bipush (v := 9) hx hb dX0_act_1 (by decide) ?_
  refine lv_icmp_ge (tgt := 18) hx hb dX0_act_3 (by decide) (fun c_1 => ?_) (fun c_1 => ?_)
  · skip
    refine lv_iload_n hx hb dX0_act_18 rfl (lv_at hl 1 rfl) ?_
    refine lv_bipush (v := 18) hx hb dX0_act_19 (by decide) ?_
    refine lv_icmp_ge (tgt := 36) hx hb dX0_act_21 (by decide) (fun c_2 => ?_) (fun c_2 => ?_)
    · skip
      exact absurd c_2 (by decide)
    · skip
      refine lv_aload_n hx hb dX0_act_24 rfl (lv_at hl 0 rfl) ?_
      refine lv_iload_n hx hb dX0_act_25 rfl (lv_at hl 1 rfl) ?_
      refine lv_iload_n hx hb dX0_act_26 rfl (lv_at hl 2 rfl) ?_
      refine lv_iload_n hx hb dX0_act_27 rfl (lv_at hl 3 rfl) ?_
      refine lv_iload hx hb dX0_act_28 (lv_at hl 4 rfl) ?_
      refine y_Vi (wN := fun u_3 => (wX G ad ho rn ln dr ro lt rf th sb ++ wR G (ad 1) kd r ++ wR G (ad 2) u_3.1 u_3.2 ++ wR G (ad 3) k2 r2 ++ wK (ad 4))) (wNx := fun u9 => (wX G ad ho rn ln dr ro lt rf th sb ++ wR G (ad 1) kd r ++ wR G (ad 2) k1 r1 ++ wR G (ad 3) k2 r2 ++ wK (ad 4))) ⟨C0, hK, hP, hD, hS, hA⟩ hZ 0 rfl (ci := 0) rfl rfl ((m_of_10 l hl0 G ad kd k1 k2 r r1 r2 ho rn ln dr ro lt rf th sb hr hp hk t z10 z11)) (cwV 4 hts (lw_V q778 q780 qs22 q86 q781) rfl rfl rfl (by decide +kernel) ⟨Nat.le_of_ble_eq_true rfl, Nat.le_of_ble_eq_true rfl⟩) [0, 1, 2, 3, 4, 5, 6, 7, 8, 9, 10, 11, 12, 13, 14, 15, 16, 17, 18, 19, 20, 21, 22, 23, 24, 25, 26, 27, 28, 29, 30] [1, 3, 5, 7, 9, 11, 13, 15, 17, 19, 21, 23, 25, 27, 29, 31, 33, 35, 37, 39, 41, 43, 45, 47, 49, 51, 53, 55, 57, 59, 61] [1, 3, 5, 7, 9, 11, 13, 15, 17, 19, 21, 23, 25, 27, 29, 31, 33, 35, 37, 39, 41, 43, 45, 47, 49, 51, 53, 55, 57, 59, 61, 63] rfl (fun _ => rfl) (fun _ _ _ => rfl) rfl rfl rfl hl.1 rfl (Nat.le_of_ble_eq_true rfl) dX0_act_30 ⟨(Nat.le_of_ble_eq_true rfl), (Nat.le_of_ble_eq_true rfl)⟩ (fun q9 u9 ee H locs hw_3 hP hD hS => ?_) (fun r_3 u_3 H locs hw_3 hP hD hS => ?_)
      · skip
        refine z_catch ⟨0, 49, 50, 239⟩ hown hK htb rfl (by decide) (by decide) (hts _ q273) hP ?_
        have hthr9 : ee.2.1 = eS (tB r t) (-1) 0 ∧ eS (tB r t) (-1) 0 ≠ 0 := hw_3
        refine lv_astore (lv' := [(7, .ref q9), (0, .ref (ad 0 0)), (1, .int 10), (2, .int t), (3, .int z10), (4, .int z11), (5, .int z12), (6, .int z13)]) hx hb dX0_act_50 hl (by decide) rfl (fun ls hl => ?_)
        refine lv_aload_n hx hb dX0_act_52 rfl (lv_at hl 1 rfl) ?_
        refine lv_aload hx hb dX0_act_53 (lv_at hl 0 rfl) ?_
        obtain ⟨ek, en, e1, e2, e3⟩ := ee
        cases ek
        · skip
          have hP : va_P G.1 vwCl (wX G ad ho rn ln dr ro lt rf th sb ++ wR G (ad 1) kd r ++ wR G (ad 2) k1 r1 ++ wR G (ad 3) k2 r2 ++ wK (ad 4) ++ [(q9, .inr (9, [e1, e2, e3, .null, .null, .int 0, .int en]))]) H := hP
          have hD : va_D A (wX G ad ho rn ln dr ro lt rf th sb ++ wR G (ad 1) kd r ++ wR G (ad 2) k1 r1 ++ wR G (ad 3) k2 r2 ++ wK (ad 4) ++ [(q9, .inr (9, [e1, e2, e3, .null, .null, .int 0, .int en]))]) := hD
          obtain ⟨een, hne⟩ := hthr9
          have een : en = eS (tB r t) (-1) 0 := een
          subst een
          have hP : va_P G.1 vwCl (wX G ad ho rn ln dr ro lt rf th sb ++ wR G (ad 1) kd r ++ wR G (ad 2) k1 r1 ++ wR G (ad 3) k2 r2 ++ wK (ad 4) ++ [(q9, .inr (9, [e1, e2, e3, .null, .null, .int 0, .int (eS (tB r t) (-1) 0)]))]) H := hP
          have hD : va_D A (wX G ad ho rn ln dr ro lt rf th sb ++ wR G (ad 1) kd r ++ wR G (ad 2) k1 r1 ++ wR G (ad 3) k2 r2 ++ wK (ad 4) ++ [(q9, .inr (9, [e1, e2, e3, .null, .null, .int 0, .int (eS (tB r t) (-1) 0)]))]) := hD
          refine x_Ui (wN := fun _ => (wX G ad ho rn ln dr ro lt rf th sb ++ wR G (ad 1) kd r ++ wR G (ad 2) k1 r1 ++ wR G (ad 3) k2 r2 ++ wK (ad 4) ++ [(q9, .inr (9, [e1, e2, e3, .null, .null, .int 0, .int (eS (tB r t) (-1) 0)]))])) ⟨C0, hK, hP, hD, hS, hA⟩ 31 rfl (ci := 9) rfl rfl ((m_X11_number l G q9 e1 e2 e3 (eS (tB r t) (-1) 0))) (va_cwA (owner := "PulledFromUnder$Refusal") 0 hts (lw_U q990 q992 q996 q997 q100 q998) rfl rfl rfl (hK.2.D 13 rfl) (by decide +kernel) ⟨Nat.le_of_ble_eq_true rfl, Nat.le_of_ble_eq_true rfl⟩) [31] [0, 2, 4, 6, 8, 10, 12, 14, 16, 18, 20, 22, 24, 26, 28, 30, 32, 34, 36, 38, 40, 42, 44, 46, 48, 50, 52, 54, 56, 58, 60, 1] rfl (fun _ => rfl) rfl rfl hl.1 rfl (Nat.le_of_ble_eq_true rfl) dX0_act_55 ⟨(Nat.le_of_ble_eq_true rfl), (Nat.le_of_ble_eq_true rfl)⟩ (fun r_4 u_4 H locs hw_4 hP hD hS => ?_)
          have hw_4 : (eS (tB r t) (-1) 0 : Int32) = r_4 := hw_4.symm
          subst hw_4
          refine x_Vi (wN := fun _ => (wX G ad ho rn ln dr ro lt (rfU rf (eS (tB r t) (-1) 0)) th sb ++ wR G (ad 1) kd r ++ wR G (ad 2) k1 r1 ++ wR G (ad 3) k2 r2 ++ wK (ad 4) ++ [(q9, .inr (9, [e1, e2, e3, .null, .null, .int 0, .int (eS (tB r t) (-1) 0)]))])) ⟨C0, hK, hP, hD, hS, hA⟩ 0 rfl (ci := 0) rfl rfl ((m_refuse l G ad kd k1 k2 r r1 r2 ho rn ln dr ro lt rf th sb hr hp hk (eS (tB r t) (-1) 0) (rfOk_S rfOk_k.1 rfOk_0))) (cwV 1 hts (lw_V q999 q1001 qs62 q86 q1002) rfl rfl rfl (by decide +kernel) ⟨Nat.le_of_ble_eq_true rfl, Nat.le_of_ble_eq_true rfl⟩) [0, 1, 2, 3, 4, 5, 6, 7, 8, 9, 10, 11, 12, 13, 14, 15, 16, 17, 18, 19, 20, 21, 22, 23, 24, 25, 26, 27, 28, 29, 30] [1, 3, 5, 7, 9, 11, 13, 15, 17, 19, 21, 23, 25, 27, 29, 31, 33, 35, 37, 39, 41, 43, 45, 47, 49, 51, 53, 55, 57, 59, 61, 62] rfl (fun _ => rfl) rfl rfl hl.1 rfl (Nat.le_of_ble_eq_true rfl) dX0_act_58 ⟨(Nat.le_of_ble_eq_true rfl), (Nat.le_of_ble_eq_true rfl)⟩ (fun r_5 u_5 H locs hw_5 hP hD hS => ?_)
          have hw_5 : (eS (tB r t) (-1) 0 : Int32) = r_5 := hw_5.symm
          subst hw_5
          have hP : va_P G.1 vwCl (wX G ad ho rn ln dr ro lt (rfU rf (eS (tB r t) (-1) 0)) th sb ++ wR G (ad 1) kd r ++ wR G (ad 2) k1 r1 ++ wR G (ad 3) k2 r2 ++ wK (ad 4) ++ [(q9, .inr (9, [e1, e2, e3, .null, .null, .int 0, .int (eS (tB r t) (-1) 0)]))]) H := hP
          have hD : va_D A (wX G ad ho rn ln dr ro lt (rfU rf (eS (tB r t) (-1) 0)) th sb ++ wR G (ad 1) kd r ++ wR G (ad 2) k1 r1 ++ wR G (ad 3) k2 r2 ++ wK (ad 4) ++ [(q9, .inr (9, [e1, e2, e3, .null, .null, .int 0, .int (eS (tB r t) (-1) 0)]))]) := hD
          have hP := x_dropP hP
          have hD := x_dropD hD
          have hP : va_P G.1 vwCl (wX G ad ho rn ln dr ro lt (sel (eS (tB r t) (-1) 0) rf (rfU rf (eS (tB r t) (-1) 0))) th sb ++ wR G (ad 1) kd r ++ wR G (ad 2) ((k1, r1).1) ((k1, r1).2) ++ wR G (ad 3) k2 r2 ++ wK (ad 4)) H := by simp only [sel_n hne]; exact hP
          have hD : va_D A (wX G ad ho rn ln dr ro lt (sel (eS (tB r t) (-1) 0) rf (rfU rf (eS (tB r t) (-1) 0))) th sb ++ wR G (ad 1) kd r ++ wR G (ad 2) ((k1, r1).1) ((k1, r1).2) ++ wR G (ad 3) k2 r2 ++ wK (ad 4)) := by simp only [sel_n hne]; exact hD
          refine hret _ _ _ _ _ _ (eS (tB r t) (-1) 0) (k1, r1) dX0_act_61 ?_ hP hD hS (Nat.le_of_ble_eq_true rfl) (Nat.le_of_ble_eq_true rfl)
          exact (sel_n hne).symm
        · skip
          have hP : va_P G.1 vwCl (wX G ad ho rn ln dr ro lt rf th sb ++ wR G (ad 1) kd r ++ wR G (ad 2) k1 r1 ++ wR G (ad 3) k2 r2 ++ wK (ad 4) ++ [(q9, .inr (11, [e1, e2, e3, .null, .null, .int 0, .int en]))]) H := hP
          have hD : va_D A (wX G ad ho rn ln dr ro lt rf th sb ++ wR G (ad 1) kd r ++ wR G (ad 2) k1 r1 ++ wR G (ad 3) k2 r2 ++ wK (ad 4) ++ [(q9, .inr (11, [e1, e2, e3, .null, .null, .int 0, .int en]))]) := hD
          obtain ⟨een, hne⟩ := hthr9
          have een : en = eS (tB r t) (-1) 0 := een
          subst een
          have hP : va_P G.1 vwCl (wX G ad ho rn ln dr ro lt rf th sb ++ wR G (ad 1) kd r ++ wR G (ad 2) k1 r1 ++ wR G (ad 3) k2 r2 ++ wK (ad 4) ++ [(q9, .inr (11, [e1, e2, e3, .null, .null, .int 0, .int (eS (tB r t) (-1) 0)]))]) H := hP
          have hD : va_D A (wX G ad ho rn ln dr ro lt rf th sb ++ wR G (ad 1) kd r ++ wR G (ad 2) k1 r1 ++ wR G (ad 3) k2 r2 ++ wK (ad 4) ++ [(q9, .inr (11, [e1, e2, e3, .null, .null, .int 0, .int (eS (tB r t) (-1) 0)]))]) := hD
          refine x_Ui (wN := fun _ => (wX G ad ho rn ln dr ro lt rf th sb ++ wR G (ad 1) kd r ++ wR G (ad 2) k1 r1 ++ wR G (ad 3) k2 r2 ++ wK (ad 4) ++ [(q9, .inr (11, [e1, e2, e3, .null, .null, .int 0, .int (eS (tB r t) (-1) 0)]))])) ⟨C0, hK, hP, hD, hS, hA⟩ 31 rfl (ci := 11) rfl rfl ((m_X13_number l G q9 e1 e2 e3 (eS (tB r t) (-1) 0))) (va_cwA (owner := "PulledFromUnder$Refusal") 0 hts (lw_U q990 q992 q993 q994 q102 q995) rfl rfl rfl (hK.2.D 13 rfl) (by decide +kernel) ⟨Nat.le_of_ble_eq_true rfl, Nat.le_of_ble_eq_true rfl⟩) [31] [0, 2, 4, 6, 8, 10, 12, 14, 16, 18, 20, 22, 24, 26, 28, 30, 32, 34, 36, 38, 40, 42, 44, 46, 48, 50, 52, 54, 56, 58, 60, 1] rfl (fun _ => rfl) rfl rfl hl.1 rfl (Nat.le_of_ble_eq_true rfl) dX0_act_55 ⟨(Nat.le_of_ble_eq_true rfl), (Nat.le_of_ble_eq_true rfl)⟩ (fun r_6 u_6 H locs hw_6 hP hD hS => ?_)
          have hw_6 : (eS (tB r t) (-1) 0 : Int32) = r_6 := hw_6.symm
          subst hw_6
          refine x_Vi (wN := fun _ => (wX G ad ho rn ln dr ro lt (rfU rf (eS (tB r t) (-1) 0)) th sb ++ wR G (ad 1) kd r ++ wR G (ad 2) k1 r1 ++ wR G (ad 3) k2 r2 ++ wK (ad 4) ++ [(q9, .inr (11, [e1, e2, e3, .null, .null, .int 0, .int (eS (tB r t) (-1) 0)]))])) ⟨C0, hK, hP, hD, hS, hA⟩ 0 rfl (ci := 0) rfl rfl ((m_refuse l G ad kd k1 k2 r r1 r2 ho rn ln dr ro lt rf th sb hr hp hk (eS (tB r t) (-1) 0) (rfOk_S rfOk_k.1 rfOk_0))) (cwV 1 hts (lw_V q999 q1001 qs62 q86 q1002) rfl rfl rfl (by decide +kernel) ⟨Nat.le_of_ble_eq_true rfl, Nat.le_of_ble_eq_true rfl⟩) [0, 1, 2, 3, 4, 5, 6, 7, 8, 9, 10, 11, 12, 13, 14, 15, 16, 17, 18, 19, 20, 21, 22, 23, 24, 25, 26, 27, 28, 29, 30] [1, 3, 5, 7, 9, 11, 13, 15, 17, 19, 21, 23, 25, 27, 29, 31, 33, 35, 37, 39, 41, 43, 45, 47, 49, 51, 53, 55, 57, 59, 61, 62] rfl (fun _ => rfl) rfl rfl hl.1 rfl (Nat.le_of_ble_eq_true rfl) dX0_act_58 ⟨(Nat.le_of_ble_eq_true rfl), (Nat.le_of_ble_eq_true rfl)⟩ (fun r_7 u_7 H locs hw_7 hP hD hS => ?_)
          have hw_7 : (eS (tB r t) (-1) 0 : Int32) = r_7 := hw_7.symm
          subst hw_7
          have hP : va_P G.1 vwCl (wX G ad ho rn ln dr ro lt (rfU rf (eS (tB r t) (-1) 0)) th sb ++ wR G (ad 1) kd r ++ wR G (ad 2) k1 r1 ++ wR G (ad 3) k2 r2 ++ wK (ad 4) ++ [(q9, .inr (11, [e1, e2, e3, .null, .null, .int 0, .int (eS (tB r t) (-1) 0)]))]) H := hP
          have hD : va_D A (wX G ad ho rn ln dr ro lt (rfU rf (eS (tB r t) (-1) 0)) th sb ++ wR G (ad 1) kd r ++ wR G (ad 2) k1 r1 ++ wR G (ad 3) k2 r2 ++ wK (ad 4) ++ [(q9, .inr (11, [e1, e2, e3, .null, .null, .int 0, .int (eS (tB r t) (-1) 0)]))]) := hD
          have hP := x_dropP hP
          have hD := x_dropD hD
          have hP : va_P G.1 vwCl (wX G ad ho rn ln dr ro lt (sel (eS (tB r t) (-1) 0) rf (rfU rf (eS (tB r t) (-1) 0))) th sb ++ wR G (ad 1) kd r ++ wR G (ad 2) ((k1, r1).1) ((k1, r1).2) ++ wR G (ad 3) k2 r2 ++ wK (ad 4)) H := by simp only [sel_n hne]; exact hP
          have hD : va_D A (wX G ad ho rn ln dr ro lt (sel (eS (tB r t) (-1) 0) rf (rfU rf (eS (tB r t) (-1) 0))) th sb ++ wR G (ad 1) kd r ++ wR G (ad 2) ((k1, r1).1) ((k1, r1).2) ++ wR G (ad 3) k2 r2 ++ wK (ad 4)) := by simp only [sel_n hne]; exact hD
          refine hret _ _ _ _ _ _ (eS (tB r t) (-1) 0) (k1, r1) dX0_act_61 ?_ hP hD hS (Nat.le_of_ble_eq_true rfl) (Nat.le_of_ble_eq_true rfl)
          exact (sel_n hne).symm
      · skip
        obtain ⟨hz_3, hw_3⟩ := hw_3
        have hw_3 : (pFls r (ix t) : Int32) = r_3 := hw_3.symm
        subst hw_3
        have hP : va_P G.1 vwCl (wX G ad ho rn ln dr ro lt rf th sb ++ wR G (ad 1) kd r ++ wR G (ad 2) u_3.1 u_3.2 ++ wR G (ad 3) k2 r2 ++ wK (ad 4)) H := hP
        have hD : va_D A (wX G ad ho rn ln dr ro lt rf th sb ++ wR G (ad 1) kd r ++ wR G (ad 2) u_3.1 u_3.2 ++ wR G (ad 3) k2 r2 ++ wK (ad 4)) := hD
        refine W.widen (k := 1) (n := 7) (Nat.le_of_ble_eq_true rfl) (Nat.le_of_ble_eq_true rfl) ?_
        refine lv_goto (tgt := 49) hx hb dX0_act_33 (by decide) ?_
        have hP : va_P G.1 vwCl (wX G ad ho rn ln dr ro lt (sel (eS (tB r t) (-1) 0) rf (rfU rf (eS (tB r t) (-1) 0))) th sb ++ wR G (ad 1) kd r ++ wR G (ad 2) u_3.1 u_3.2 ++ wR G (ad 3) k2 r2 ++ wK (ad 4)) H := by simp only [sel_0 hz_3]; exact hP
        have hD : va_D A (wX G ad ho rn ln dr ro lt (sel (eS (tB r t) (-1) 0) rf (rfU rf (eS (tB r t) (-1) 0))) th sb ++ wR G (ad 1) kd r ++ wR G (ad 2) u_3.1 u_3.2 ++ wR G (ad 3) k2 r2 ++ wK (ad 4)) := by simp only [sel_0 hz_3]; exact hD
        refine hret _ _ _ _ _ _ (pFls r (ix t)) u_3 dX0_act_49 ?_ hP hD hS (Nat.le_of_ble_eq_true rfl) (Nat.le_of_ble_eq_true rfl)
        exact (sel_0 hz_3).symm
  · skip
    exact absurd c_1 (by decide)
set_option maxHeartbeats 4000000 in
set_option maxRecDepth 100000 in
theorem m_act_11 (l : Launch) (hl0 : l.stackTraces = false) (G : xG) (ad : Nat → Nat → Nat) (kd k1 k2 : Nat → Option Nat) (r r1 r2 : Rw) (ho rn ln dr : Int32) (ro lt rf th sb : Nat → Int32) (hr : Ok r) (hp : r 5 3 = 0) (hk : kOk (ad 4) kd r) (t z10 z11 z12 z13 : Int32) : zCi l G yX0_act (wsW_ yX0_act cX0_act 8 (some .int) [(0, 49, 50, 239)]) ({ frames := 10, cells := 1, slots := 7, locals := 173 } : Room) [.ref (ad 0 0), .int 11, .int t, .int z10, .int z11, .int z12, .int z13] (wX G ad ho rn ln dr ro lt rf th sb ++ wR G (ad 1) kd r ++ wR G (ad 2) k1 r1 ++ wR G (ad 3) k2 r2 ++ wK (ad 4)) (S := ((Nat → Option Nat) × Rw)) (fun v _ => v = sel (eS (inR t 0 1) (-2) 0) (pFF r t) (eS (inR t 0 1) (-2) 0)) (fun u => (wX G ad ho rn ln dr ro lt (sel (eS (inR t 0 1) (-2) 0) rf (rfU rf (eS (inR t 0 1) (-2) 0))) th sb ++ wR G (ad 1) kd r ++ wR G (ad 2) u.1 u.2 ++ wR G (ad 3) k2 r2 ++ wK (ad 4))) := by
  refine z_openiW (hh := [(0, 49, 50, 239)]) (by decide) (Nat.le_of_ble_eq_true rfl) (fun _ _ _ => rfl) ?_
  intro p e s m args below meth c A Q ls C0 hK hZ hP hD hA hl htb hret
  obtain ⟨hx, hb, hml, hown, hts⟩ := id C0
  have hS : va_S A s.heap s.heap [] := va_S.rf
  have hP : va_P G.1 vwCl (wX G ad ho rn ln dr ro lt rf th sb ++ wR G (ad 1) kd r ++ wR G (ad 2) k1 r1 ++ wR G (ad 3) k2 r2 ++ wK (ad 4)) s.heap := hP
  have hD : va_D A (wX G ad ho rn ln dr ro lt rf th sb ++ wR G (ad 1) kd r ++ wR G (ad 2) k1 r1 ++ wR G (ad 3) k2 r2 ++ wK (ad 4)) := hD
  have hl : lv_has ls 8 [(0, .ref (ad 0 0)), (1, .int 11), (2, .int t), (3, .int z10), (4, .int z11), (5, .int z12), (6, .int z13)] := hl
  have hr0 := hr.n
  have hN := hr.le
  refine lv_iload_n hx hb dX0_act_0 rfl (lv_at hl 1 rfl) ?_
  refine lv_bipush (v := 9) hx hb dX0_act_1 (by decide) ?_
  refine lv_icmp_ge (tgt := 18) hx hb dX0_act_3 (by decide) (fun c_1 => ?_) (fun c_1 => ?_)
  · skip
    refine lv_iload_n hx hb dX0_act_18 rfl (lv_at hl 1 rfl) ?_
    refine lv_bipush (v := 18) hx hb dX0_act_19 (by decide) ?_
    refine lv_icmp_ge (tgt := 36) hx hb dX0_act_21 (by decide) (fun c_2 => ?_) (fun c_2 => ?_)
    · skip
      exact absurd c_2 (by decide)
    · skip
      refine lv_aload_n hx hb dX0_act_24 rfl (lv_at hl 0 rfl) ?_
      refine lv_iload_n hx hb dX0_act_25 rfl (lv_at hl 1 rfl) ?_
      refine lv_iload_n hx hb dX0_act_26 rfl (lv_at hl 2 rfl) ?_
      refine lv_iload_n hx hb dX0_act_27 rfl (lv_at hl 3 rfl) ?_
      refine lv_iload hx hb dX0_act_28 (lv_at hl 4 rfl) ?_
      refine y_Vi (wN := fun u_3 => (wX G ad ho rn ln dr ro lt rf th sb ++ wR G (ad 1) kd r ++ wR G (ad 2) u_3.1 u_3.2 ++ wR G (ad 3) k2 r2 ++ wK (ad 4))) (wNx := fun u9 => (wX G ad ho rn ln dr ro lt rf th sb ++ wR G (ad 1) kd r ++ wR G (ad 2) k1 r1 ++ wR G (ad 3) k2 r2 ++ wK (ad 4))) ⟨C0, hK, hP, hD, hS, hA⟩ hZ 0 rfl (ci := 0) rfl rfl ((m_of_11 l hl0 G ad kd k1 k2 r r1 r2 ho rn ln dr ro lt rf th sb hr hp hk t z10 z11)) (cwV 4 hts (lw_V q778 q780 qs22 q86 q781) rfl rfl rfl (by decide +kernel) ⟨Nat.le_of_ble_eq_true rfl, Nat.le_of_ble_eq_true rfl⟩) [0, 1, 2, 3, 4, 5, 6, 7, 8, 9, 10, 11, 12, 13, 14, 15, 16, 17, 18, 19, 20, 21, 22, 23, 24, 25, 26, 27, 28, 29, 30] [1, 3, 5, 7, 9, 11, 13, 15, 17, 19, 21, 23, 25, 27, 29, 31, 33, 35, 37, 39, 41, 43, 45, 47, 49, 51, 53, 55, 57, 59, 61] [1, 3, 5, 7, 9, 11, 13, 15, 17, 19, 21, 23, 25, 27, 29, 31, 33, 35, 37, 39, 41, 43, 45, 47, 49, 51, 53, 55, 57, 59, 61, 63] rfl (fun _ => rfl) (fun _ _ _ => rfl) rfl rfl rfl hl.1 rfl (Nat.le_of_ble_eq_true rfl) dX0_act_30 ⟨(Nat.le_of_ble_eq_true rfl), (Nat.le_of_ble_eq_true rfl)⟩ (fun q9 u9 ee H locs hw_3 hP hD hS => ?_) (fun r_3 u_3 H locs hw_3 hP hD hS => ?_)
      · skip
        refine z_catch ⟨0, 49, 50, 239⟩ hown hK htb rfl (by decide) (by decide) (hts _ q273) hP ?_
        have hthr9 : ee.2.1 = eS (inR t 0 1) (-2) 0 ∧ eS (inR t 0 1) (-2) 0 ≠ 0 := hw_3
        refine lv_astore (lv' := [(7, .ref q9), (0, .ref (ad 0 0)), (1, .int 11), (2, .int t), (3, .int z10), (4, .int z11), (5, .int z12), (6, .int z13)]) hx hb dX0_act_50 hl (by decide) rfl (fun ls hl => ?_)
        refine lv_aload_n hx hb dX0_act_52 rfl (lv_at hl 1 rfl) ?_
        refine lv_aload hx hb dX0_act_53 (lv_at hl 0 rfl) ?_
        obtain ⟨ek, en, e1, e2, e3⟩ := ee
        cases ek
        · skip
          have hP : va_P G.1 vwCl (wX G ad ho rn ln dr ro lt rf th sb ++ wR G (ad 1) kd r ++ wR G (ad 2) k1 r1 ++ wR G (ad 3) k2 r2 ++ wK (ad 4) ++ [(q9, .inr (9, [e1, e2, e3, .null, .null, .int 0, .int en]))]) H := hP
          have hD : va_D A (wX G ad ho rn ln dr ro lt rf th sb ++ wR G (ad 1) kd r ++ wR G (ad 2) k1 r1 ++ wR G (ad 3) k2 r2 ++ wK (ad 4) ++ [(q9, .inr (9, [e1, e2, e3, .null, .null, .int 0, .int en]))]) := hD
          obtain ⟨een, hne⟩ := hthr9
          have een : en = eS (inR t 0 1) (-2) 0 := een
          subst een
          have hP : va_P G.1 vwCl (wX G ad ho rn ln dr ro lt rf th sb ++ wR G (ad 1) kd r ++ wR G (ad 2) k1 r1 ++ wR G (ad 3) k2 r2 ++ wK (ad 4) ++ [(q9, .inr (9, [e1, e2, e3, .null, .null, .int 0, .int (eS (inR t 0 1) (-2) 0)]))]) H := hP
          have hD : va_D A (wX G ad ho rn ln dr ro lt rf th sb ++ wR G (ad 1) kd r ++ wR G (ad 2) k1 r1 ++ wR G (ad 3) k2 r2 ++ wK (ad 4) ++ [(q9, .inr (9, [e1, e2, e3, .null, .null, .int 0, .int (eS (inR t 0 1) (-2) 0)]))]) := hD
          refine x_Ui (wN := fun _ => (wX G ad ho rn ln dr ro lt rf th sb ++ wR G (ad 1) kd r ++ wR G (ad 2) k1 r1 ++ wR G (ad 3) k2 r2 ++ wK (ad 4) ++ [(q9, .inr (9, [e1, e2, e3, .null, .null, .int 0, .int (eS (inR t 0 1) (-2) 0)]))])) ⟨C0, hK, hP, hD, hS, hA⟩ 31 rfl (ci := 9) rfl rfl ((m_X11_number l G q9 e1 e2 e3 (eS (inR t 0 1) (-2) 0))) (va_cwA (owner := "PulledFromUnder$Refusal") 0 hts (lw_U q990 q992 q996 q997 q100 q998) rfl rfl rfl (hK.2.D 13 rfl) (by decide +kernel) ⟨Nat.le_of_ble_eq_true rfl, Nat.le_of_ble_eq_true rfl⟩) [31] [0, 2, 4, 6, 8, 10, 12, 14, 16, 18, 20, 22, 24, 26, 28, 30, 32, 34, 36, 38, 40, 42, 44, 46, 48, 50, 52, 54, 56, 58, 60, 1] rfl (fun _ => rfl) rfl rfl hl.1 rfl (Nat.le_of_ble_eq_true rfl) dX0_act_55 ⟨(Nat.le_of_ble_eq_true rfl), (Nat.le_of_ble_eq_true rfl)⟩ (fun r_4 u_4 H locs hw_4 hP hD hS => ?_)
          have hw_4 : (eS (inR t 0 1) (-2) 0 : Int32) = r_4 := hw_4.symm
          subst hw_4
          refine x_Vi (wN := fun _ => (wX G ad ho rn ln dr ro lt (rfU rf (eS (inR t 0 1) (-2) 0)) th sb ++ wR G (ad 1) kd r ++ wR G (ad 2) k1 r1 ++ wR G (ad 3) k2 r2 ++ wK (ad 4) ++ [(q9, .inr (9, [e1, e2, e3, .null, .null, .int 0, .int (eS (inR t 0 1) (-2) 0)]))])) ⟨C0, hK, hP, hD, hS, hA⟩ 0 rfl (ci := 0) rfl rfl ((m_refuse l G ad kd k1 k2 r r1 r2 ho rn ln dr ro lt rf th sb hr hp hk (eS (inR t 0 1) (-2) 0) (rfOk_S rfOk_k.2.1 rfOk_0))) (cwV 1 hts (lw_V q999 q1001 qs62 q86 q1002) rfl rfl rfl (by decide +kernel) ⟨Nat.le_of_ble_eq_true rfl, Nat.le_of_ble_eq_true rfl⟩) [0, 1, 2, 3, 4, 5, 6, 7, 8, 9, 10, 11, 12, 13, 14, 15, 16, 17, 18, 19, 20, 21, 22, 23, 24, 25, 26, 27, 28, 29, 30] [1, 3, 5, 7, 9, 11, 13, 15, 17, 19, 21, 23, 25, 27, 29, 31, 33, 35, 37, 39, 41, 43, 45, 47, 49, 51, 53, 55, 57, 59, 61, 62] rfl (fun _ => rfl) rfl rfl hl.1 rfl (Nat.le_of_ble_eq_true rfl) dX0_act_58 ⟨(Nat.le_of_ble_eq_true rfl), (Nat.le_of_ble_eq_true rfl)⟩ (fun r_5 u_5 H locs hw_5 hP hD hS => ?_)
          have hw_5 : (eS (inR t 0 1) (-2) 0 : Int32) = r_5 := hw_5.symm
          subst hw_5
          have hP : va_P G.1 vwCl (wX G ad ho rn ln dr ro lt (rfU rf (eS (inR t 0 1) (-2) 0)) th sb ++ wR G (ad 1) kd r ++ wR G (ad 2) k1 r1 ++ wR G (ad 3) k2 r2 ++ wK (ad 4) ++ [(q9, .inr (9, [e1, e2, e3, .null, .null, .int 0, .int (eS (inR t 0 1) (-2) 0)]))]) H := hP
          have hD : va_D A (wX G ad ho rn ln dr ro lt (rfU rf (eS (inR t 0 1) (-2) 0)) th sb ++ wR G (ad 1) kd r ++ wR G (ad 2) k1 r1 ++ wR G (ad 3) k2 r2 ++ wK (ad 4) ++ [(q9, .inr (9, [e1, e2, e3, .null, .null, .int 0, .int (eS (inR t 0 1) (-2) 0)]))]) := hD
          have hP := x_dropP hP
          have hD := x_dropD hD
          have hP : va_P G.1 vwCl (wX G ad ho rn ln dr ro lt (sel (eS (inR t 0 1) (-2) 0) rf (rfU rf (eS (inR t 0 1) (-2) 0))) th sb ++ wR G (ad 1) kd r ++ wR G (ad 2) ((k1, r1).1) ((k1, r1).2) ++ wR G (ad 3) k2 r2 ++ wK (ad 4)) H := by simp only [sel_n hne]; exact hP
          have hD : va_D A (wX G ad ho rn ln dr ro lt (sel (eS (inR t 0 1) (-2) 0) rf (rfU rf (eS (inR t 0 1) (-2) 0))) th sb ++ wR G (ad 1) kd r ++ wR G (ad 2) ((k1, r1).1) ((k1, r1).2) ++ wR G (ad 3) k2 r2 ++ wK (ad 4)) := by simp only [sel_n hne]; exact hD
          refine hret _ _ _ _ _ _ (eS (inR t 0 1) (-2) 0) (k1, r1) dX0_act_61 ?_ hP hD hS (Nat.le_of_ble_eq_true rfl) (Nat.le_of_ble_eq_true rfl)
          exact (sel_n hne).symm
        · skip
          have hP : va_P G.1 vwCl (wX G ad ho rn ln dr ro lt rf th sb ++ wR G (ad 1) kd r ++ wR G (ad 2) k1 r1 ++ wR G (ad 3) k2 r2 ++ wK (ad 4) ++ [(q9, .inr (11, [e1, e2, e3, .null, .null, .int 0, .int en]))]) H := hP
          have hD : va_D A (wX G ad ho rn ln dr ro lt rf th sb ++ wR G (ad 1) kd r ++ wR G (ad 2) k1 r1 ++ wR G (ad 3) k2 r2 ++ wK (ad 4) ++ [(q9, .inr (11, [e1, e2, e3, .null, .null, .int 0, .int en]))]) := hD
          obtain ⟨een, hne⟩ := hthr9
          have een : en = eS (inR t 0 1) (-2) 0 := een
          subst een
          have hP : va_P G.1 vwCl (wX G ad ho rn ln dr ro lt rf th sb ++ wR G (ad 1) kd r ++ wR G (ad 2) k1 r1 ++ wR G (ad 3) k2 r2 ++ wK (ad 4) ++ [(q9, .inr (11, [e1, e2, e3, .null, .null, .int 0, .int (eS (inR t 0 1) (-2) 0)]))]) H := hP
          have hD : va_D A (wX G ad ho rn ln dr ro lt rf th sb ++ wR G (ad 1) kd r ++ wR G (ad 2) k1 r1 ++ wR G (ad 3) k2 r2 ++ wK (ad 4) ++ [(q9, .inr (11, [e1, e2, e3, .null, .null, .int 0, .int (eS (inR t 0 1) (-2) 0)]))]) := hD
          refine x_Ui (wN := fun _ => (wX G ad ho rn ln dr ro lt rf th sb ++ wR G (ad 1) kd r ++ wR G (ad 2) k1 r1 ++ wR G (ad 3) k2 r2 ++ wK (ad 4) ++ [(q9, .inr (11, [e1, e2, e3, .null, .null, .int 0, .int (eS (inR t 0 1) (-2) 0)]))])) ⟨C0, hK, hP, hD, hS, hA⟩ 31 rfl (ci := 11) rfl rfl ((m_X13_number l G q9 e1 e2 e3 (eS (inR t 0 1) (-2) 0))) (va_cwA (owner := "PulledFromUnder$Refusal") 0 hts (lw_U q990 q992 q993 q994 q102 q995) rfl rfl rfl (hK.2.D 13 rfl) (by decide +kernel) ⟨Nat.le_of_ble_eq_true rfl, Nat.le_of_ble_eq_true rfl⟩) [31] [0, 2, 4, 6, 8, 10, 12, 14, 16, 18, 20, 22, 24, 26, 28, 30, 32, 34, 36, 38, 40, 42, 44, 46, 48, 50, 52, 54, 56, 58, 60, 1] rfl (fun _ => rfl) rfl rfl hl.1 rfl (Nat.le_of_ble_eq_true rfl) dX0_act_55 ⟨(Nat.le_of_ble_eq_true rfl), (Nat.le_of_ble_eq_true rfl)⟩ (fun r_6 u_6 H locs hw_6 hP hD hS => ?_)
          have hw_6 : (eS (inR t 0 1) (-2) 0 : Int32) = r_6 := hw_6.symm
          subst hw_6
          refine x_Vi (wN := fun _ => (wX G ad ho rn ln dr ro lt (rfU rf (eS (inR t 0 1) (-2) 0)) th sb ++ wR G (ad 1) kd r ++ wR G (ad 2) k1 r1 ++ wR G (ad 3) k2 r2 ++ wK (ad 4) ++ [(q9, .inr (11, [e1, e2, e3, .null, .null, .int 0, .int (eS (inR t 0 1) (-2) 0)]))])) ⟨C0, hK, hP, hD, hS, hA⟩ 0 rfl (ci := 0) rfl rfl ((m_refuse l G ad kd k1 k2 r r1 r2 ho rn ln dr ro lt rf th sb hr hp hk (eS (inR t 0 1) (-2) 0) (rfOk_S rfOk_k.2.1 rfOk_0))) (cwV 1 hts (lw_V q999 q1001 qs62 q86 q1002) rfl rfl rfl (by decide +kernel) ⟨Nat.le_of_ble_eq_true rfl, Nat.le_of_ble_eq_true rfl⟩) [0, 1, 2, 3, 4, 5, 6, 7, 8, 9, 10, 11, 12, 13, 14, 15, 16, 17, 18, 19, 20, 21, 22, 23, 24, 25, 26, 27, 28, 29, 30] [1, 3, 5, 7, 9, 11, 13, 15, 17, 19, 21, 23, 25, 27, 29, 31, 33, 35, 37, 39, 41, 43, 45, 47, 49, 51, 53, 55, 57, 59, 61, 62] rfl (fun _ => rfl) rfl rfl hl.1 rfl (Nat.le_of_ble_eq_true rfl) dX0_act_58 ⟨(Nat.le_of_ble_eq_true rfl), (Nat.le_of_ble_eq_true rfl)⟩ (fun r_7 u_7 H locs hw_7 hP hD hS => ?_)
          have hw_7 : (eS (inR t 0 1) (-2) 0 : Int32) = r_7 := hw_7.symm
          subst hw_7
          have hP : va_P G.1 vwCl (wX G ad ho rn ln dr ro lt (rfU rf (eS (inR t 0 1) (-2) 0)) th sb ++ wR G (ad 1) kd r ++ wR G (ad 2) k1 r1 ++ wR G (ad 3) k2 r2 ++ wK (ad 4) ++ [(q9, .inr (11, [e1, e2, e3, .null, .null, .int 0, .int (eS (inR t 0 1) (-2) 0)]))]) H := hP
          have hD : va_D A (wX G ad ho rn ln dr ro lt (rfU rf (eS (inR t 0 1) (-2) 0)) th sb ++ wR G (ad 1) kd r ++ wR G (ad 2) k1 r1 ++ wR G (ad 3) k2 r2 ++ wK (ad 4) ++ [(q9, .inr (11, [e1, e2, e3, .null, .null, .int 0, .int (eS (inR t 0 1) (-2) 0)]))]) := hD
          have hP := x_dropP hP
          have hD := x_dropD hD
          have hP : va_P G.1 vwCl (wX G ad ho rn ln dr ro lt (sel (eS (inR t 0 1) (-2) 0) rf (rfU rf (eS (inR t 0 1) (-2) 0))) th sb ++ wR G (ad 1) kd r ++ wR G (ad 2) ((k1, r1).1) ((k1, r1).2) ++ wR G (ad 3) k2 r2 ++ wK (ad 4)) H := by simp only [sel_n hne]; exact hP
          have hD : va_D A (wX G ad ho rn ln dr ro lt (sel (eS (inR t 0 1) (-2) 0) rf (rfU rf (eS (inR t 0 1) (-2) 0))) th sb ++ wR G (ad 1) kd r ++ wR G (ad 2) ((k1, r1).1) ((k1, r1).2) ++ wR G (ad 3) k2 r2 ++ wK (ad 4)) := by simp only [sel_n hne]; exact hD
          refine hret _ _ _ _ _ _ (eS (inR t 0 1) (-2) 0) (k1, r1) dX0_act_61 ?_ hP hD hS (Nat.le_of_ble_eq_true rfl) (Nat.le_of_ble_eq_true rfl)
          exact (sel_n hne).symm
      · skip
        obtain ⟨hz_3, hw_3⟩ := hw_3
        have hw_3 : (pFF r t : Int32) = r_3 := hw_3.symm
        subst hw_3
        have hP : va_P G.1 vwCl (wX G ad ho rn ln dr ro lt rf th sb ++ wR G (ad 1) kd r ++ wR G (ad 2) u_3.1 u_3.2 ++ wR G (ad 3) k2 r2 ++ wK (ad 4)) H := hP
        have hD : va_D A (wX G ad ho rn ln dr ro lt rf th sb ++ wR G (ad 1) kd r ++ wR G (ad 2) u_3.1 u_3.2 ++ wR G (ad 3) k2 r2 ++ wK (ad 4)) := hD
        refine W.widen (k := 1) (n := 7) (Nat.le_of_ble_eq_true rfl) (Nat.le_of_ble_eq_true rfl) ?_
        refine lv_goto (tgt := 49) hx hb dX0_act_33 (by decide) ?_
        have hP : va_P G.1 vwCl (wX G ad ho rn ln dr ro lt (sel (eS (inR t 0 1) (-2) 0) rf (rfU rf (eS (inR t 0 1) (-2) 0))) th sb ++ wR G (ad 1) kd r ++ wR G (ad 2) u_3.1 u_3.2 ++ wR G (ad 3) k2 r2 ++ wK (ad 4)) H := by simp only [sel_0 hz_3]; exact hP
        have hD : va_D A (wX G ad ho rn ln dr ro lt (sel (eS (inR t 0 1) (-2) 0) rf (rfU rf (eS (inR t 0 1) (-2) 0))) th sb ++ wR G (ad 1) kd r ++ wR G (ad 2) u_3.1 u_3.2 ++ wR G (ad 3) k2 r2 ++ wK (ad 4)) := by simp only [sel_0 hz_3]; exact hD
        refine hret _ _ _ _ _ _ (pFF r t) u_3 dX0_act_49 ?_ hP hD hS (Nat.le_of_ble_eq_true rfl) (Nat.le_of_ble_eq_true rfl)
        exact (sel_0 hz_3).symm
  · skip
    exact absurd c_1 (by decide)
set_option maxHeartbeats 4000000 in
set_option maxRecDepth 100000 in
theorem m_act_12 (l : Launch) (hl0 : l.stackTraces = false) (G : xG) (ad : Nat → Nat → Nat) (kd k1 k2 : Nat → Option Nat) (r r1 r2 : Rw) (ho rn ln dr : Int32) (ro lt rf th sb : Nat → Int32) (hr : Ok r) (hp : r 5 3 = 0) (hk : kOk (ad 4) kd r) (z10 z11 z12 z13 z14 : Int32) : zCi l G yX0_act (wsW_ yX0_act cX0_act 8 (some .int) [(0, 49, 50, 239)]) ({ frames := 8, cells := 0, slots := 0, locals := 192 } : Room) [.ref (ad 0 0), .int 12, .int z10, .int z11, .int z12, .int z13, .int z14] (wX G ad ho rn ln dr ro lt rf th sb ++ wR G (ad 1) kd r ++ wR G (ad 2) k1 r1 ++ wR G (ad 3) k2 r2 ++ wK (ad 4)) (S := ((Nat → Option Nat) × Rw)) (fun v _ => v = sel ((0 : Int32)) (pSF r) ((0 : Int32))) (fun u => (wX G ad ho rn ln dr ro lt (sel (0 : Int32) rf (rfU rf (0 : Int32))) th sb ++ wR G (ad 1) kd r ++ wR G (ad 2) u.1 u.2 ++ wR G (ad 3) k2 r2 ++ wK (ad 4))) := by
  refine z_openiW (hh := [(0, 49, 50, 239)]) (by decide) (Nat.le_of_ble_eq_true rfl) (fun _ _ _ => rfl) ?_
  intro p e s m args below meth c A Q ls C0 hK hZ hP hD hA hl htb hret
  obtain ⟨hx, hb, hml, hown, hts⟩ := id C0
  have hS : va_S A s.heap s.heap [] := va_S.rf
  have hP : va_P G.1 vwCl (wX G ad ho rn ln dr ro lt rf th sb ++ wR G (ad 1) kd r ++ wR G (ad 2) k1 r1 ++ wR G (ad 3) k2 r2 ++ wK (ad 4)) s.heap := hP
  have hD : va_D A (wX G ad ho rn ln dr ro lt rf th sb ++ wR G (ad 1) kd r ++ wR G (ad 2) k1 r1 ++ wR G (ad 3) k2 r2 ++ wK (ad 4)) := hD
  have hl : lv_has ls 8 [(0, .ref (ad 0 0)), (1, .int 12), (2, .int z10), (3, .int z11), (4, .int z12), (5, .int z13), (6, .int z14)] := hl
  have hr0 := hr.n
  have hN := hr.le
  refine lv_iload_n hx hb dX0_act_0 rfl (lv_at hl 1 rfl) ?_
  refine lv_bipush (v := 9) hx hb dX0_act_1 (by decide) ?_
  refine lv_icmp_ge (tgt := 18) hx hb dX0_act_3 (by decide) (fun c_1 => ?_) (fun c_1 => ?_)
  · skip
    refine lv_iload_n hx hb dX0_act_18 rfl (lv_at hl 1 rfl) ?_
    refine lv_bipush (v := 18) hx hb dX0_act_19 (by decide) ?_
    refine lv_icmp_ge (tgt := 36) hx hb dX0_act_21 (by decide) (fun c_2 => ?_) (fun c_2 => ?_)
    · skip
      exact absurd c_2 (by decide)
    · skip
      refine lv_aload_n hx hb dX0_act_24 rfl (lv_at hl 0 rfl) ?_
      refine lv_iload_n hx hb dX0_act_25 rfl (lv_at hl 1 rfl) ?_
      refine lv_iload_n hx hb dX0_act_26 rfl (lv_at hl 2 rfl) ?_
      refine lv_iload_n hx hb dX0_act_27 rfl (lv_at hl 3 rfl) ?_
      refine lv_iload hx hb dX0_act_28 (lv_at hl 4 rfl) ?_
      refine y_Vi (wN := fun u_3 => (wX G ad ho rn ln dr ro lt rf th sb ++ wR G (ad 1) kd r ++ wR G (ad 2) u_3.1 u_3.2 ++ wR G (ad 3) k2 r2 ++ wK (ad 4))) (wNx := fun u9 => (wX G ad ho rn ln dr ro lt rf th sb ++ wR G (ad 1) kd r ++ wR G (ad 2) k1 r1 ++ wR G (ad 3) k2 r2 ++ wK (ad 4))) ⟨C0, hK, hP, hD, hS, hA⟩ hZ 0 rfl (ci := 0) rfl rfl ((m_of_12 l hl0 G ad kd k1 k2 r r1 r2 ho rn ln dr ro lt rf th sb hr hp hk z10 z11 z12)) (cwV 4 hts (lw_V q778 q780 qs22 q86 q781) rfl rfl rfl (by decide +kernel) ⟨Nat.le_of_ble_eq_true rfl, Nat.le_of_ble_eq_true rfl⟩) [0, 1, 2, 3, 4, 5, 6, 7, 8, 9, 10, 11, 12, 13, 14, 15, 16, 17, 18, 19, 20, 21, 22, 23, 24, 25, 26, 27, 28, 29, 30] [1, 3, 5, 7, 9, 11, 13, 15, 17, 19, 21, 23, 25, 27, 29, 31, 33, 35, 37, 39, 41, 43, 45, 47, 49, 51, 53, 55, 57, 59, 61] [1, 3, 5, 7, 9, 11, 13, 15, 17, 19, 21, 23, 25, 27, 29, 31, 33, 35, 37, 39, 41, 43, 45, 47, 49, 51, 53, 55, 57, 59, 61, 63] rfl (fun _ => rfl) (fun _ _ _ => rfl) rfl rfl rfl hl.1 rfl (Nat.le_of_ble_eq_true rfl) dX0_act_30 ⟨(Nat.le_of_ble_eq_true rfl), (Nat.le_of_ble_eq_true rfl)⟩ (fun q9 u9 ee H locs hw_3 hP hD hS => ?_) (fun r_3 u_3 H locs hw_3 hP hD hS => ?_)
      · skip
        refine z_catch ⟨0, 49, 50, 239⟩ hown hK htb rfl (by decide) (by decide) (hts _ q273) hP ?_
        have hthr9 : ee.2.1 = (0 : Int32) ∧ (0 : Int32) ≠ 0 := hw_3
        refine lv_astore (lv' := [(7, .ref q9), (0, .ref (ad 0 0)), (1, .int 12), (2, .int z10), (3, .int z11), (4, .int z12), (5, .int z13), (6, .int z14)]) hx hb dX0_act_50 hl (by decide) rfl (fun ls hl => ?_)
        refine lv_aload_n hx hb dX0_act_52 rfl (lv_at hl 1 rfl) ?_
        refine lv_aload hx hb dX0_act_53 (lv_at hl 0 rfl) ?_
        obtain ⟨ek, en, e1, e2, e3⟩ := ee
        cases ek
        · skip
          have hP : va_P G.1 vwCl (wX G ad ho rn ln dr ro lt rf th sb ++ wR G (ad 1) kd r ++ wR G (ad 2) k1 r1 ++ wR G (ad 3) k2 r2 ++ wK (ad 4) ++ [(q9, .inr (9, [e1, e2, e3, .null, .null, .int 0, .int en]))]) H := hP
          have hD : va_D A (wX G ad ho rn ln dr ro lt rf th sb ++ wR G (ad 1) kd r ++ wR G (ad 2) k1 r1 ++ wR G (ad 3) k2 r2 ++ wK (ad 4) ++ [(q9, .inr (9, [e1, e2, e3, .null, .null, .int 0, .int en]))]) := hD
          obtain ⟨een, hne⟩ := hthr9
          have een : en = (0 : Int32) := een
          subst een
          have hP : va_P G.1 vwCl (wX G ad ho rn ln dr ro lt rf th sb ++ wR G (ad 1) kd r ++ wR G (ad 2) k1 r1 ++ wR G (ad 3) k2 r2 ++ wK (ad 4) ++ [(q9, .inr (9, [e1, e2, e3, .null, .null, .int 0, .int (0 : Int32)]))]) H := hP
          have hD : va_D A (wX G ad ho rn ln dr ro lt rf th sb ++ wR G (ad 1) kd r ++ wR G (ad 2) k1 r1 ++ wR G (ad 3) k2 r2 ++ wK (ad 4) ++ [(q9, .inr (9, [e1, e2, e3, .null, .null, .int 0, .int (0 : Int32)]))]) := hD
          refine x_Ui (wN := fun _ => (wX G ad ho rn ln dr ro lt rf th sb ++ wR G (ad 1) kd r ++ wR G (ad 2) k1 r1 ++ wR G (ad 3) k2 r2 ++ wK (ad 4) ++ [(q9, .inr (9, [e1, e2, e3, .null, .null, .int 0, .int (0 : Int32)]))])) ⟨C0, hK, hP, hD, hS, hA⟩ 31 rfl (ci := 9) rfl rfl ((m_X11_number l G q9 e1 e2 e3 (0 : Int32))) (va_cwA (owner := "PulledFromUnder$Refusal") 0 hts (lw_U q990 q992 q996 q997 q100 q998) rfl rfl rfl (hK.2.D 13 rfl) (by decide +kernel) ⟨Nat.le_of_ble_eq_true rfl, Nat.le_of_ble_eq_true rfl⟩) [31] [0, 2, 4, 6, 8, 10, 12, 14, 16, 18, 20, 22, 24, 26, 28, 30, 32, 34, 36, 38, 40, 42, 44, 46, 48, 50, 52, 54, 56, 58, 60, 1] rfl (fun _ => rfl) rfl rfl hl.1 rfl (Nat.le_of_ble_eq_true rfl) dX0_act_55 ⟨(Nat.le_of_ble_eq_true rfl), (Nat.le_of_ble_eq_true rfl)⟩ (fun r_4 u_4 H locs hw_4 hP hD hS => ?_)
          have hw_4 : ((0 : Int32) : Int32) = r_4 := hw_4.symm
          subst hw_4
          refine x_Vi (wN := fun _ => (wX G ad ho rn ln dr ro lt (rfU rf (0 : Int32)) th sb ++ wR G (ad 1) kd r ++ wR G (ad 2) k1 r1 ++ wR G (ad 3) k2 r2 ++ wK (ad 4) ++ [(q9, .inr (9, [e1, e2, e3, .null, .null, .int 0, .int (0 : Int32)]))])) ⟨C0, hK, hP, hD, hS, hA⟩ 0 rfl (ci := 0) rfl rfl ((m_refuse l G ad kd k1 k2 r r1 r2 ho rn ln dr ro lt rf th sb hr hp hk (0 : Int32) rfOk_0)) (cwV 1 hts (lw_V q999 q1001 qs62 q86 q1002) rfl rfl rfl (by decide +kernel) ⟨Nat.le_of_ble_eq_true rfl, Nat.le_of_ble_eq_true rfl⟩) [0, 1, 2, 3, 4, 5, 6, 7, 8, 9, 10, 11, 12, 13, 14, 15, 16, 17, 18, 19, 20, 21, 22, 23, 24, 25, 26, 27, 28, 29, 30] [1, 3, 5, 7, 9, 11, 13, 15, 17, 19, 21, 23, 25, 27, 29, 31, 33, 35, 37, 39, 41, 43, 45, 47, 49, 51, 53, 55, 57, 59, 61, 62] rfl (fun _ => rfl) rfl rfl hl.1 rfl (Nat.le_of_ble_eq_true rfl) dX0_act_58 ⟨(Nat.le_of_ble_eq_true rfl), (Nat.le_of_ble_eq_true rfl)⟩ (fun r_5 u_5 H locs hw_5 hP hD hS => ?_)
          have hw_5 : ((0 : Int32) : Int32) = r_5 := hw_5.symm
          subst hw_5
          have hP : va_P G.1 vwCl (wX G ad ho rn ln dr ro lt (rfU rf (0 : Int32)) th sb ++ wR G (ad 1) kd r ++ wR G (ad 2) k1 r1 ++ wR G (ad 3) k2 r2 ++ wK (ad 4) ++ [(q9, .inr (9, [e1, e2, e3, .null, .null, .int 0, .int (0 : Int32)]))]) H := hP
          have hD : va_D A (wX G ad ho rn ln dr ro lt (rfU rf (0 : Int32)) th sb ++ wR G (ad 1) kd r ++ wR G (ad 2) k1 r1 ++ wR G (ad 3) k2 r2 ++ wK (ad 4) ++ [(q9, .inr (9, [e1, e2, e3, .null, .null, .int 0, .int (0 : Int32)]))]) := hD
          have hP := x_dropP hP
          have hD := x_dropD hD
          have hP : va_P G.1 vwCl (wX G ad ho rn ln dr ro lt (sel (0 : Int32) rf (rfU rf (0 : Int32))) th sb ++ wR G (ad 1) kd r ++ wR G (ad 2) ((k1, r1).1) ((k1, r1).2) ++ wR G (ad 3) k2 r2 ++ wK (ad 4)) H := by simp only [sel_n hne]; exact hP
          have hD : va_D A (wX G ad ho rn ln dr ro lt (sel (0 : Int32) rf (rfU rf (0 : Int32))) th sb ++ wR G (ad 1) kd r ++ wR G (ad 2) ((k1, r1).1) ((k1, r1).2) ++ wR G (ad 3) k2 r2 ++ wK (ad 4)) := by simp only [sel_n hne]; exact hD
          refine hret _ _ _ _ _ _ (0 : Int32) (k1, r1) dX0_act_61 ?_ hP hD hS (Nat.le_of_ble_eq_true rfl) (Nat.le_of_ble_eq_true rfl)
          exact (sel_n hne).symm
        · skip
          have hP : va_P G.1 vwCl (wX G ad ho rn ln dr ro lt rf th sb ++ wR G (ad 1) kd r ++ wR G (ad 2) k1 r1 ++ wR G (ad 3) k2 r2 ++ wK (ad 4) ++ [(q9, .inr (11, [e1, e2, e3, .null, .null, .int 0, .int en]))]) H := hP
          have hD : va_D A (wX G ad ho rn ln dr ro lt rf th sb ++ wR G (ad 1) kd r ++ wR G (ad 2) k1 r1 ++ wR G (ad 3) k2 r2 ++ wK (ad 4) ++ [(q9, .inr (11, [e1, e2, e3, .null, .null, .int 0, .int en]))]) := hD
          obtain ⟨een, hne⟩ := hthr9
          have een : en = (0 : Int32) := een
          subst een
          have hP : va_P G.1 vwCl (wX G ad ho rn ln dr ro lt rf th sb ++ wR G (ad 1) kd r ++ wR G (ad 2) k1 r1 ++ wR G (ad 3) k2 r2 ++ wK (ad 4) ++ [(q9, .inr (11, [e1, e2, e3, .null, .null, .int 0, .int (0 : Int32)]))]) H := hP
          have hD : va_D A (wX G ad ho rn ln dr ro lt rf th sb ++ wR G (ad 1) kd r ++ wR G (ad 2) k1 r1 ++ wR G (ad 3) k2 r2 ++ wK (ad 4) ++ [(q9, .inr (11, [e1, e2, e3, .null, .null, .int 0, .int (0 : Int32)]))]) := hD
          refine x_Ui (wN := fun _ => (wX G ad ho rn ln dr ro lt rf th sb ++ wR G (ad 1) kd r ++ wR G (ad 2) k1 r1 ++ wR G (ad 3) k2 r2 ++ wK (ad 4) ++ [(q9, .inr (11, [e1, e2, e3, .null, .null, .int 0, .int (0 : Int32)]))])) ⟨C0, hK, hP, hD, hS, hA⟩ 31 rfl (ci := 11) rfl rfl ((m_X13_number l G q9 e1 e2 e3 (0 : Int32))) (va_cwA (owner := "PulledFromUnder$Refusal") 0 hts (lw_U q990 q992 q993 q994 q102 q995) rfl rfl rfl (hK.2.D 13 rfl) (by decide +kernel) ⟨Nat.le_of_ble_eq_true rfl, Nat.le_of_ble_eq_true rfl⟩) [31] [0, 2, 4, 6, 8, 10, 12, 14, 16, 18, 20, 22, 24, 26, 28, 30, 32, 34, 36, 38, 40, 42, 44, 46, 48, 50, 52, 54, 56, 58, 60, 1] rfl (fun _ => rfl) rfl rfl hl.1 rfl (Nat.le_of_ble_eq_true rfl) dX0_act_55 ⟨(Nat.le_of_ble_eq_true rfl), (Nat.le_of_ble_eq_true rfl)⟩ (fun r_6 u_6 H locs hw_6 hP hD hS => ?_)
          have hw_6 : ((0 : Int32) : Int32) = r_6 := hw_6.symm
          subst hw_6
          refine x_Vi (wN := fun _ => (wX G ad ho rn ln dr ro lt (rfU rf (0 : Int32)) th sb ++ wR G (ad 1) kd r ++ wR G (ad 2) k1 r1 ++ wR G (ad 3) k2 r2 ++ wK (ad 4) ++ [(q9, .inr (11, [e1, e2, e3, .null, .null, .int 0, .int (0 : Int32)]))])) ⟨C0, hK, hP, hD, hS, hA⟩ 0 rfl (ci := 0) rfl rfl ((m_refuse l G ad kd k1 k2 r r1 r2 ho rn ln dr ro lt rf th sb hr hp hk (0 : Int32) rfOk_0)) (cwV 1 hts (lw_V q999 q1001 qs62 q86 q1002) rfl rfl rfl (by decide +kernel) ⟨Nat.le_of_ble_eq_true rfl, Nat.le_of_ble_eq_true rfl⟩) [0, 1, 2, 3, 4, 5, 6, 7, 8, 9, 10, 11, 12, 13, 14, 15, 16, 17, 18, 19, 20, 21, 22, 23, 24, 25, 26, 27, 28, 29, 30] [1, 3, 5, 7, 9, 11, 13, 15, 17, 19, 21, 23, 25, 27, 29, 31, 33, 35, 37, 39, 41, 43, 45, 47, 49, 51, 53, 55, 57, 59, 61, 62] rfl (fun _ => rfl) rfl rfl hl.1 rfl (Nat.le_of_ble_eq_true rfl) dX0_act_58 ⟨(Nat.le_of_ble_eq_true rfl), (Nat.le_of_ble_eq_true rfl)⟩ (fun r_7 u_7 H locs hw_7 hP hD hS => ?_)
          have hw_7 : ((0 : Int32) : Int32) = r_7 := hw_7.symm
          subst hw_7
          have hP : va_P G.1 vwCl (wX G ad ho rn ln dr ro lt (rfU rf (0 : Int32)) th sb ++ wR G (ad 1) kd r ++ wR G (ad 2) k1 r1 ++ wR G (ad 3) k2 r2 ++ wK (ad 4) ++ [(q9, .inr (11, [e1, e2, e3, .null, .null, .int 0, .int (0 : Int32)]))]) H := hP
          have hD : va_D A (wX G ad ho rn ln dr ro lt (rfU rf (0 : Int32)) th sb ++ wR G (ad 1) kd r ++ wR G (ad 2) k1 r1 ++ wR G (ad 3) k2 r2 ++ wK (ad 4) ++ [(q9, .inr (11, [e1, e2, e3, .null, .null, .int 0, .int (0 : Int32)]))]) := hD
          have hP := x_dropP hP
          have hD := x_dropD hD
          have hP : va_P G.1 vwCl (wX G ad ho rn ln dr ro lt (sel (0 : Int32) rf (rfU rf (0 : Int32))) th sb ++ wR G (ad 1) kd r ++ wR G (ad 2) ((k1, r1).1) ((k1, r1).2) ++ wR G (ad 3) k2 r2 ++ wK (ad 4)) H := by simp only [sel_n hne]; exact hP
          have hD : va_D A (wX G ad ho rn ln dr ro lt (sel (0 : Int32) rf (rfU rf (0 : Int32))) th sb ++ wR G (ad 1) kd r ++ wR G (ad 2) ((k1, r1).1) ((k1, r1).2) ++ wR G (ad 3) k2 r2 ++ wK (ad 4)) := by simp only [sel_n hne]; exact hD
          refine hret _ _ _ _ _ _ (0 : Int32) (k1, r1) dX0_act_61 ?_ hP hD hS (Nat.le_of_ble_eq_true rfl) (Nat.le_of_ble_eq_true rfl)
          exact (sel_n hne).symm
      · skip
        obtain ⟨hz_3, hw_3⟩ := hw_3
        have hw_3 : (pSF r : Int32) = r_3 := hw_3.symm
        subst hw_3
        have hP : va_P G.1 vwCl (wX G ad ho rn ln dr ro lt rf th sb ++ wR G (ad 1) kd r ++ wR G (ad 2) u_3.1 u_3.2 ++ wR G (ad 3) k2 r2 ++ wK (ad 4)) H := hP
        have hD : va_D A (wX G ad ho rn ln dr ro lt rf th sb ++ wR G (ad 1) kd r ++ wR G (ad 2) u_3.1 u_3.2 ++ wR G (ad 3) k2 r2 ++ wK (ad 4)) := hD
        refine lv_goto (tgt := 49) hx hb dX0_act_33 (by decide) ?_
        have hP : va_P G.1 vwCl (wX G ad ho rn ln dr ro lt (sel (0 : Int32) rf (rfU rf (0 : Int32))) th sb ++ wR G (ad 1) kd r ++ wR G (ad 2) u_3.1 u_3.2 ++ wR G (ad 3) k2 r2 ++ wK (ad 4)) H := by simp only [sel_0 hz_3]; exact hP
        have hD : va_D A (wX G ad ho rn ln dr ro lt (sel (0 : Int32) rf (rfU rf (0 : Int32))) th sb ++ wR G (ad 1) kd r ++ wR G (ad 2) u_3.1 u_3.2 ++ wR G (ad 3) k2 r2 ++ wK (ad 4)) := by simp only [sel_0 hz_3]; exact hD
        refine hret _ _ _ _ _ _ (pSF r) u_3 dX0_act_49 ?_ hP hD hS (Nat.le_of_ble_eq_true rfl) (Nat.le_of_ble_eq_true rfl)
        exact (sel_0 hz_3).symm
  · skip
    exact absurd c_1 (by decide)
set_option maxHeartbeats 4000000 in
set_option maxRecDepth 100000 in
theorem m_act_13 (l : Launch) (hl0 : l.stackTraces = false) (G : xG) (ad : Nat → Nat → Nat) (kd k1 k2 : Nat → Option Nat) (r r1 r2 : Rw) (ho rn ln dr : Int32) (ro lt rf th sb : Nat → Int32) (hr : Ok r) (hp : r 5 3 = 0) (hk : kOk (ad 4) kd r) (t w z10 z11 z12 : Int32) : zCi l G yX0_act (wsW_ yX0_act cX0_act 8 (some .int) [(0, 49, 50, 239)]) ({ frames := 12, cells := 2, slots := 14, locals := 217 } : Room) [.ref (ad 0 0), .int 13, .int t, .int w, .int z10, .int z11, .int z12] (wX G ad ho rn ln dr ro lt rf th sb ++ wR G (ad 1) kd r ++ wR G (ad 2) k1 r1 ++ wR G (ad 3) k2 r2 ++ wK (ad 4)) (S := Unit) (fun v _ => v = sel (eS (tB r t) (-1) (eS (inR w 0 2) (-2) 0)) (pTow r (ix t) w) (eS (tB r t) (-1) (eS (inR w 0 2) (-2) 0))) (fun _ => (wX G ad ho rn ln dr ro lt (sel (eS (tB r t) (-1) (eS (inR w 0 2) (-2) 0)) rf (rfU rf (eS (tB r t) (-1) (eS (inR w 0 2) (-2) 0)))) th sb ++ wR G (ad 1) kd r ++ wR G (ad 2) k1 r1 ++ wR G (ad 3) k2 r2 ++ wK (ad 4))) := by
  refine z_openiW (hh := [(0, 49, 50, 239)]) (by decide) (Nat.le_of_ble_eq_true rfl) (fun _ _ _ => rfl) ?_
  intro p e s m args below meth c A Q ls C0 hK hZ hP hD hA hl htb hret
  obtain ⟨hx, hb, hml, hown, hts⟩ := id C0
  have hS : va_S A s.heap s.heap [] := va_S.rf
  have hP : va_P G.1 vwCl (wX G ad ho rn ln dr ro lt rf th sb ++ wR G (ad 1) kd r ++ wR G (ad 2) k1 r1 ++ wR G (ad 3) k2 r2 ++ wK (ad 4)) s.heap := hP
  have hD : va_D A (wX G ad ho rn ln dr ro lt rf th sb ++ wR G (ad 1) kd r ++ wR G (ad 2) k1 r1 ++ wR G (ad 3) k2 r2 ++ wK (ad 4)) := hD
  have hl : lv_has ls 8 [(0, .ref (ad 0 0)), (1, .int 13), (2, .int t), (3, .int w), (4, .int z10), (5, .int z11), (6, .int z12)] := hl
  have hr0 := hr.n
  have hN := hr.le
  refine lv_iload_n hx hb dX0_act_0 rfl (lv_at hl 1 rfl) ?_
  refine lv_bipush (v := 9) hx hb dX0_act_1 (by decide) ?_
  refine lv_icmp_ge (tgt := 18) hx hb dX0_act_3 (by decide) (fun c_1 => ?_) (fun c_1 => ?_)
  · skip
    refine lv_iload_n hx hb dX0_act_18 rfl (lv_at hl 1 rfl) ?_
    refine lv_bipush (v := 18) hx hb dX0_act_19 (by decide) ?_
    refine lv_icmp_ge (tgt := 36) hx hb dX0_act_21 (by decide) (fun c_2 => ?_) (fun c_2 => ?_)
    · skip
      exact absurd c_2 (by decide)
    · skip
      refine lv_aload_n hx hb dX0_act_24 rfl (lv_at hl 0 rfl) ?_
      refine lv_iload_n hx hb dX0_act_25 rfl (lv_at hl 1 rfl) ?_
      refine lv_iload_n hx hb dX0_act_26 rfl (lv_at hl 2 rfl) ?_
      refine lv_iload_n hx hb dX0_act_27 rfl (lv_at hl 3 rfl) ?_
      refine lv_iload hx hb dX0_act_28 (lv_at hl 4 rfl) ?_
      refine y_Vi (wN := fun u_3 => (wX G ad ho rn ln dr ro lt rf th sb ++ wR G (ad 1) kd r ++ wR G (ad 2) k1 r1 ++ wR G (ad 3) k2 r2 ++ wK (ad 4))) (wNx := fun u9 => (wX G ad ho rn ln dr ro lt rf th sb ++ wR G (ad 1) kd r ++ wR G (ad 2) k1 r1 ++ wR G (ad 3) k2 r2 ++ wK (ad 4))) ⟨C0, hK, hP, hD, hS, hA⟩ hZ 0 rfl (ci := 0) rfl rfl ((m_of_13 l hl0 G ad kd k1 k2 r r1 r2 ho rn ln dr ro lt rf th sb hr hp hk t w z10)) (cwV 4 hts (lw_V q778 q780 qs22 q86 q781) rfl rfl rfl (by decide +kernel) ⟨Nat.le_of_ble_eq_true rfl, Nat.le_of_ble_eq_true rfl⟩) [0, 1, 2, 3, 4, 5, 6, 7, 8, 9, 10, 11, 12, 13, 14, 15, 16, 17, 18, 19, 20, 21, 22, 23, 24, 25, 26, 27, 28, 29, 30] [1, 3, 5, 7, 9, 11, 13, 15, 17, 19, 21, 23, 25, 27, 29, 31, 33, 35, 37, 39, 41, 43, 45, 47, 49, 51, 53, 55, 57, 59, 61] [1, 3, 5, 7, 9, 11, 13, 15, 17, 19, 21, 23, 25, 27, 29, 31, 33, 35, 37, 39, 41, 43, 45, 47, 49, 51, 53, 55, 57, 59, 61, 63] rfl (fun _ => rfl) (fun _ _ _ => rfl) rfl rfl rfl hl.1 rfl (Nat.le_of_ble_eq_true rfl) dX0_act_30 ⟨(Nat.le_of_ble_eq_true rfl), (Nat.le_of_ble_eq_true rfl)⟩ (fun q9 u9 ee H locs hw_3 hP hD hS => ?_) (fun r_3 u_3 H locs hw_3 hP hD hS => ?_)
      · skip
        refine z_catch ⟨0, 49, 50, 239⟩ hown hK htb rfl (by decide) (by decide) (hts _ q273) hP ?_
        have hthr9 : ee.2.1 = eS (tB r t) (-1) (eS (inR w 0 2) (-2) 0) ∧ eS (tB r t) (-1) (eS (inR w 0 2) (-2) 0) ≠ 0 := hw_3
        refine lv_astore (lv' := [(7, .ref q9), (0, .ref (ad 0 0)), (1, .int 13), (2, .int t), (3, .int w), (4, .int z10), (5, .int z11), (6, .int z12)]) hx hb dX0_act_50 hl (by decide) rfl (fun ls hl => ?_)
        refine lv_aload_n hx hb dX0_act_52 rfl (lv_at hl 1 rfl) ?_
        refine lv_aload hx hb dX0_act_53 (lv_at hl 0 rfl) ?_
        obtain ⟨ek, en, e1, e2, e3⟩ := ee
        cases ek
        · skip
          have hP : va_P G.1 vwCl (wX G ad ho rn ln dr ro lt rf th sb ++ wR G (ad 1) kd r ++ wR G (ad 2) k1 r1 ++ wR G (ad 3) k2 r2 ++ wK (ad 4) ++ [(q9, .inr (9, [e1, e2, e3, .null, .null, .int 0, .int en]))]) H := hP
          have hD : va_D A (wX G ad ho rn ln dr ro lt rf th sb ++ wR G (ad 1) kd r ++ wR G (ad 2) k1 r1 ++ wR G (ad 3) k2 r2 ++ wK (ad 4) ++ [(q9, .inr (9, [e1, e2, e3, .null, .null, .int 0, .int en]))]) := hD
          obtain ⟨een, hne⟩ := hthr9
          have een : en = eS (tB r t) (-1) (eS (inR w 0 2) (-2) 0) := een
          subst een
          have hP : va_P G.1 vwCl (wX G ad ho rn ln dr ro lt rf th sb ++ wR G (ad 1) kd r ++ wR G (ad 2) k1 r1 ++ wR G (ad 3) k2 r2 ++ wK (ad 4) ++ [(q9, .inr (9, [e1, e2, e3, .null, .null, .int 0, .int (eS (tB r t) (-1) (eS (inR w 0 2) (-2) 0))]))]) H := hP
          have hD : va_D A (wX G ad ho rn ln dr ro lt rf th sb ++ wR G (ad 1) kd r ++ wR G (ad 2) k1 r1 ++ wR G (ad 3) k2 r2 ++ wK (ad 4) ++ [(q9, .inr (9, [e1, e2, e3, .null, .null, .int 0, .int (eS (tB r t) (-1) (eS (inR w 0 2) (-2) 0))]))]) := hD
          refine x_Ui (wN := fun _ => (wX G ad ho rn ln dr ro lt rf th sb ++ wR G (ad 1) kd r ++ wR G (ad 2) k1 r1 ++ wR G (ad 3) k2 r2 ++ wK (ad 4) ++ [(q9, .inr (9, [e1, e2, e3, .null, .null, .int 0, .int (eS (tB r t) (-1) (eS (inR w 0 2) (-2) 0))]))])) ⟨C0, hK, hP, hD, hS, hA⟩ 31 rfl (ci := 9) rfl rfl ((m_X11_number l G q9 e1 e2 e3 (eS (tB r t) (-1) (eS (inR w 0 2) (-2) 0)))) (va_cwA (owner := "PulledFromUnder$Refusal") 0 hts (lw_U q990 q992 q996 q997 q100 q998) rfl rfl rfl (hK.2.D 13 rfl) (by decide +kernel) ⟨Nat.le_of_ble_eq_true rfl, Nat.le_of_ble_eq_true rfl⟩) [31] [0, 2, 4, 6, 8, 10, 12, 14, 16, 18, 20, 22, 24, 26, 28, 30, 32, 34, 36, 38, 40, 42, 44, 46, 48, 50, 52, 54, 56, 58, 60, 1] rfl (fun _ => rfl) rfl rfl hl.1 rfl (Nat.le_of_ble_eq_true rfl) dX0_act_55 ⟨(Nat.le_of_ble_eq_true rfl), (Nat.le_of_ble_eq_true rfl)⟩ (fun r_4 u_4 H locs hw_4 hP hD hS => ?_)
          have hw_4 : (eS (tB r t) (-1) (eS (inR w 0 2) (-2) 0) : Int32) = r_4 := hw_4.symm
          subst hw_4
          refine x_Vi (wN := fun _ => (wX G ad ho rn ln dr ro lt (rfU rf (eS (tB r t) (-1) (eS (inR w 0 2) (-2) 0))) th sb ++ wR G (ad 1) kd r ++ wR G (ad 2) k1 r1 ++ wR G (ad 3) k2 r2 ++ wK (ad 4) ++ [(q9, .inr (9, [e1, e2, e3, .null, .null, .int 0, .int (eS (tB r t) (-1) (eS (inR w 0 2) (-2) 0))]))])) ⟨C0, hK, hP, hD, hS, hA⟩ 0 rfl (ci := 0) rfl rfl ((m_refuse l G ad kd k1 k2 r r1 r2 ho rn ln dr ro lt rf th sb hr hp hk (eS (tB r t) (-1) (eS (inR w 0 2) (-2) 0)) (rfOk_S rfOk_k.1 (rfOk_S rfOk_k.2.1 rfOk_0)))) (cwV 1 hts (lw_V q999 q1001 qs62 q86 q1002) rfl rfl rfl (by decide +kernel) ⟨Nat.le_of_ble_eq_true rfl, Nat.le_of_ble_eq_true rfl⟩) [0, 1, 2, 3, 4, 5, 6, 7, 8, 9, 10, 11, 12, 13, 14, 15, 16, 17, 18, 19, 20, 21, 22, 23, 24, 25, 26, 27, 28, 29, 30] [1, 3, 5, 7, 9, 11, 13, 15, 17, 19, 21, 23, 25, 27, 29, 31, 33, 35, 37, 39, 41, 43, 45, 47, 49, 51, 53, 55, 57, 59, 61, 62] rfl (fun _ => rfl) rfl rfl hl.1 rfl (Nat.le_of_ble_eq_true rfl) dX0_act_58 ⟨(Nat.le_of_ble_eq_true rfl), (Nat.le_of_ble_eq_true rfl)⟩ (fun r_5 u_5 H locs hw_5 hP hD hS => ?_)
          have hw_5 : (eS (tB r t) (-1) (eS (inR w 0 2) (-2) 0) : Int32) = r_5 := hw_5.symm
          subst hw_5
          have hP : va_P G.1 vwCl (wX G ad ho rn ln dr ro lt (rfU rf (eS (tB r t) (-1) (eS (inR w 0 2) (-2) 0))) th sb ++ wR G (ad 1) kd r ++ wR G (ad 2) k1 r1 ++ wR G (ad 3) k2 r2 ++ wK (ad 4) ++ [(q9, .inr (9, [e1, e2, e3, .null, .null, .int 0, .int (eS (tB r t) (-1) (eS (inR w 0 2) (-2) 0))]))]) H := hP
          have hD : va_D A (wX G ad ho rn ln dr ro lt (rfU rf (eS (tB r t) (-1) (eS (inR w 0 2) (-2) 0))) th sb ++ wR G (ad 1) kd r ++ wR G (ad 2) k1 r1 ++ wR G (ad 3) k2 r2 ++ wK (ad 4) ++ [(q9, .inr (9, [e1, e2, e3, .null, .null, .int 0, .int (eS (tB r t) (-1) (eS (inR w 0 2) (-2) 0))]))]) := hD
          have hP := x_dropP hP
          have hD := x_dropD hD
          have hP : va_P G.1 vwCl (wX G ad ho rn ln dr ro lt (sel (eS (tB r t) (-1) (eS (inR w 0 2) (-2) 0)) rf (rfU rf (eS (tB r t) (-1) (eS (inR w 0 2) (-2) 0)))) th sb ++ wR G (ad 1) kd r ++ wR G (ad 2) k1 r1 ++ wR G (ad 3) k2 r2 ++ wK (ad 4)) H := by simp only [sel_n hne]; exact hP
          have hD : va_D A (wX G ad ho rn ln dr ro lt (sel (eS (tB r t) (-1) (eS (inR w 0 2) (-2) 0)) rf (rfU rf (eS (tB r t) (-1) (eS (inR w 0 2) (-2) 0)))) th sb ++ wR G (ad 1) kd r ++ wR G (ad 2) k1 r1 ++ wR G (ad 3) k2 r2 ++ wK (ad 4)) := by simp only [sel_n hne]; exact hD
          refine hret _ _ _ _ _ _ (eS (tB r t) (-1) (eS (inR w 0 2) (-2) 0)) () dX0_act_61 ?_ hP hD hS (Nat.le_of_ble_eq_true rfl) (Nat.le_of_ble_eq_true rfl)
          exact (sel_n hne).symm
        · skip
          have hP : va_P G.1 vwCl (wX G ad ho rn ln dr ro lt rf th sb ++ wR G (ad 1) kd r ++ wR G (ad 2) k1 r1 ++ wR G (ad 3) k2 r2 ++ wK (ad 4) ++ [(q9, .inr (11, [e1, e2, e3, .null, .null, .int 0, .int en]))]) H := hP
          have hD : va_D A (wX G ad ho rn ln dr ro lt rf th sb ++ wR G (ad 1) kd r ++ wR G (ad 2) k1 r1 ++ wR G (ad 3) k2 r2 ++ wK (ad 4) ++ [(q9, .inr (11, [e1, e2, e3, .null, .null, .int 0, .int en]))]) := hD
          obtain ⟨een, hne⟩ := hthr9
          have een : en = eS (tB r t) (-1) (eS (inR w 0 2) (-2) 0) := een
          subst een
          have hP : va_P G.1 vwCl (wX G ad ho rn ln dr ro lt rf th sb ++ wR G (ad 1) kd r ++ wR G (ad 2) k1 r1 ++ wR G (ad 3) k2 r2 ++ wK (ad 4) ++ [(q9, .inr (11, [e1, e2, e3, .null, .null, .int 0, .int (eS (tB r t) (-1) (eS (inR w 0 2) (-2) 0))]))]) H := hP
          have hD : va_D A (wX G ad ho rn ln dr ro lt rf th sb ++ wR G (ad 1) kd r ++ wR G (ad 2) k1 r1 ++ wR G (ad 3) k2 r2 ++ wK (ad 4) ++ [(q9, .inr (11, [e1, e2, e3, .null, .null, .int 0, .int (eS (tB r t) (-1) (eS (inR w 0 2) (-2) 0))]))]) := hD
          refine x_Ui (wN := fun _ => (wX G ad ho rn ln dr ro lt rf th sb ++ wR G (ad 1) kd r ++ wR G (ad 2) k1 r1 ++ wR G (ad 3) k2 r2 ++ wK (ad 4) ++ [(q9, .inr (11, [e1, e2, e3, .null, .null, .int 0, .int (eS (tB r t) (-1) (eS (inR w 0 2) (-2) 0))]))])) ⟨C0, hK, hP, hD, hS, hA⟩ 31 rfl (ci := 11) rfl rfl ((m_X13_number l G q9 e1 e2 e3 (eS (tB r t) (-1) (eS (inR w 0 2) (-2) 0)))) (va_cwA (owner := "PulledFromUnder$Refusal") 0 hts (lw_U q990 q992 q993 q994 q102 q995) rfl rfl rfl (hK.2.D 13 rfl) (by decide +kernel) ⟨Nat.le_of_ble_eq_true rfl, Nat.le_of_ble_eq_true rfl⟩) [31] [0, 2, 4, 6, 8, 10, 12, 14, 16, 18, 20, 22, 24, 26, 28, 30, 32, 34, 36, 38, 40, 42, 44, 46, 48, 50, 52, 54, 56, 58, 60, 1] rfl (fun _ => rfl) rfl rfl hl.1 rfl (Nat.le_of_ble_eq_true rfl) dX0_act_55 ⟨(Nat.le_of_ble_eq_true rfl), (Nat.le_of_ble_eq_true rfl)⟩ (fun r_6 u_6 H locs hw_6 hP hD hS => ?_)
          have hw_6 : (eS (tB r t) (-1) (eS (inR w 0 2) (-2) 0) : Int32) = r_6 := hw_6.symm
          subst hw_6
          refine x_Vi (wN := fun _ => (wX G ad ho rn ln dr ro lt (rfU rf (eS (tB r t) (-1) (eS (inR w 0 2) (-2) 0))) th sb ++ wR G (ad 1) kd r ++ wR G (ad 2) k1 r1 ++ wR G (ad 3) k2 r2 ++ wK (ad 4) ++ [(q9, .inr (11, [e1, e2, e3, .null, .null, .int 0, .int (eS (tB r t) (-1) (eS (inR w 0 2) (-2) 0))]))])) ⟨C0, hK, hP, hD, hS, hA⟩ 0 rfl (ci := 0) rfl rfl ((m_refuse l G ad kd k1 k2 r r1 r2 ho rn ln dr ro lt rf th sb hr hp hk (eS (tB r t) (-1) (eS (inR w 0 2) (-2) 0)) (rfOk_S rfOk_k.1 (rfOk_S rfOk_k.2.1 rfOk_0)))) (cwV 1 hts (lw_V q999 q1001 qs62 q86 q1002) rfl rfl rfl (by decide +kernel) ⟨Nat.le_of_ble_eq_true rfl, Nat.le_of_ble_eq_true rfl⟩) [0, 1, 2, 3, 4, 5, 6, 7, 8, 9, 10, 11, 12, 13, 14, 15, 16, 17, 18, 19, 20, 21, 22, 23, 24, 25, 26, 27, 28, 29, 30] [1, 3, 5, 7, 9, 11, 13, 15, 17, 19, 21, 23, 25, 27, 29, 31, 33, 35, 37, 39, 41, 43, 45, 47, 49, 51, 53, 55, 57, 59, 61, 62] rfl (fun _ => rfl) rfl rfl hl.1 rfl (Nat.le_of_ble_eq_true rfl) dX0_act_58 ⟨(Nat.le_of_ble_eq_true rfl), (Nat.le_of_ble_eq_true rfl)⟩ (fun r_7 u_7 H locs hw_7 hP hD hS => ?_)
          have hw_7 : (eS (tB r t) (-1) (eS (inR w 0 2) (-2) 0) : Int32) = r_7 := hw_7.symm
          subst hw_7
          have hP : va_P G.1 vwCl (wX G ad ho rn ln dr ro lt (rfU rf (eS (tB r t) (-1) (eS (inR w 0 2) (-2) 0))) th sb ++ wR G (ad 1) kd r ++ wR G (ad 2) k1 r1 ++ wR G (ad 3) k2 r2 ++ wK (ad 4) ++ [(q9, .inr (11, [e1, e2, e3, .null, .null, .int 0, .int (eS (tB r t) (-1) (eS (inR w 0 2) (-2) 0))]))]) H := hP
          have hD : va_D A (wX G ad ho rn ln dr ro lt (rfU rf (eS (tB r t) (-1) (eS (inR w 0 2) (-2) 0))) th sb ++ wR G (ad 1) kd r ++ wR G (ad 2) k1 r1 ++ wR G (ad 3) k2 r2 ++ wK (ad 4) ++ [(q9, .inr (11, [e1, e2, e3, .null, .null, .int 0, .int (eS (tB r t) (-1) (eS (inR w 0 2) (-2) 0))]))]) := hD
          have hP := x_dropP hP
          have hD := x_dropD hD
          have hP : va_P G.1 vwCl (wX G ad ho rn ln dr ro lt (sel (eS (tB r t) (-1) (eS (inR w 0 2) (-2) 0)) rf (rfU rf (eS (tB r t) (-1) (eS (inR w 0 2) (-2) 0)))) th sb ++ wR G (ad 1) kd r ++ wR G (ad 2) k1 r1 ++ wR G (ad 3) k2 r2 ++ wK (ad 4)) H := by simp only [sel_n hne]; exact hP
          have hD : va_D A (wX G ad ho rn ln dr ro lt (sel (eS (tB r t) (-1) (eS (inR w 0 2) (-2) 0)) rf (rfU rf (eS (tB r t) (-1) (eS (inR w 0 2) (-2) 0)))) th sb ++ wR G (ad 1) kd r ++ wR G (ad 2) k1 r1 ++ wR G (ad 3) k2 r2 ++ wK (ad 4)) := by simp only [sel_n hne]; exact hD
          refine hret _ _ _ _ _ _ (eS (tB r t) (-1) (eS (inR w 0 2) (-2) 0)) () dX0_act_61 ?_ hP hD hS (Nat.le_of_ble_eq_true rfl) (Nat.le_of_ble_eq_true rfl)
          exact (sel_n hne).symm
      · skip
        obtain ⟨hz_3, hw_3⟩ := hw_3
        have hw_3 : (pTow r (ix t) w : Int32) = r_3 := hw_3.symm
        subst hw_3
        have hP : va_P G.1 vwCl (wX G ad ho rn ln dr ro lt rf th sb ++ wR G (ad 1) kd r ++ wR G (ad 2) k1 r1 ++ wR G (ad 3) k2 r2 ++ wK (ad 4)) H := hP
        have hD : va_D A (wX G ad ho rn ln dr ro lt rf th sb ++ wR G (ad 1) kd r ++ wR G (ad 2) k1 r1 ++ wR G (ad 3) k2 r2 ++ wK (ad 4)) := hD
        refine W.widen (k := 2) (n := 14) (Nat.le_of_ble_eq_true rfl) (Nat.le_of_ble_eq_true rfl) ?_
        refine lv_goto (tgt := 49) hx hb dX0_act_33 (by decide) ?_
        have hP : va_P G.1 vwCl (wX G ad ho rn ln dr ro lt (sel (eS (tB r t) (-1) (eS (inR w 0 2) (-2) 0)) rf (rfU rf (eS (tB r t) (-1) (eS (inR w 0 2) (-2) 0)))) th sb ++ wR G (ad 1) kd r ++ wR G (ad 2) k1 r1 ++ wR G (ad 3) k2 r2 ++ wK (ad 4)) H := by simp only [sel_0 hz_3]; exact hP
        have hD : va_D A (wX G ad ho rn ln dr ro lt (sel (eS (tB r t) (-1) (eS (inR w 0 2) (-2) 0)) rf (rfU rf (eS (tB r t) (-1) (eS (inR w 0 2) (-2) 0)))) th sb ++ wR G (ad 1) kd r ++ wR G (ad 2) k1 r1 ++ wR G (ad 3) k2 r2 ++ wK (ad 4)) := by simp only [sel_0 hz_3]; exact hD
        refine hret _ _ _ _ _ _ (pTow r (ix t) w) () dX0_act_49 ?_ hP hD hS (Nat.le_of_ble_eq_true rfl) (Nat.le_of_ble_eq_true rfl)
        exact (sel_0 hz_3).symm
  · skip
    exact absurd c_1 (by decide)
set_option maxHeartbeats 4000000 in
set_option maxRecDepth 100000 in
theorem m_act_14 (l : Launch) (hl0 : l.stackTraces = false) (G : xG) (ad : Nat → Nat → Nat) (kd k1 k2 : Nat → Option Nat) (r r1 r2 : Rw) (ho rn ln dr : Int32) (ro lt rf th sb : Nat → Int32) (hr : Ok r) (hp : r 5 3 = 0) (hk : kOk (ad 4) kd r) (t z10 z11 z12 z13 : Int32) : zCi l G yX0_act (wsW_ yX0_act cX0_act 8 (some .int) [(0, 49, 50, 239)]) ({ frames := 12, cells := 2, slots := 14, locals := 216 } : Room) [.ref (ad 0 0), .int 14, .int t, .int z10, .int z11, .int z12, .int z13] (wX G ad ho rn ln dr ro lt rf th sb ++ wR G (ad 1) kd r ++ wR G (ad 2) k1 r1 ++ wR G (ad 3) k2 r2 ++ wK (ad 4)) (S := ((Nat → Option Nat) × Rw)) (fun v _ => v = sel (eS (tB r t) (-1) (eS (pSt r (ix t)) (-3) 0)) (pSlow r (ix t)) (eS (tB r t) (-1) (eS (pSt r (ix t)) (-3) 0))) (fun u => (wX G ad ho rn ln dr ro lt (sel (eS (tB r t) (-1) (eS (pSt r (ix t)) (-3) 0)) rf (rfU rf (eS (tB r t) (-1) (eS (pSt r (ix t)) (-3) 0)))) th sb ++ wR G (ad 1) kd r ++ wR G (ad 2) u.1 u.2 ++ wR G (ad 3) k2 r2 ++ wK (ad 4))) := by
  refine z_openiW (hh := [(0, 49, 50, 239)]) (by decide) (Nat.le_of_ble_eq_true rfl) (fun _ _ _ => rfl) ?_
  intro p e s m args below meth c A Q ls C0 hK hZ hP hD hA hl htb hret
  obtain ⟨hx, hb, hml, hown, hts⟩ := id C0
  have hS : va_S A s.heap s.heap [] := va_S.rf
  have hP : va_P G.1 vwCl (wX G ad ho rn ln dr ro lt rf th sb ++ wR G (ad 1) kd r ++ wR G (ad 2) k1 r1 ++ wR G (ad 3) k2 r2 ++ wK (ad 4)) s.heap := hP
  have hD : va_D A (wX G ad ho rn ln dr ro lt rf th sb ++ wR G (ad 1) kd r ++ wR G (ad 2) k1 r1 ++ wR G (ad 3) k2 r2 ++ wK (ad 4)) := hD
  have hl : lv_has ls 8 [(0, .ref (ad 0 0)), (1, .int 14), (2, .int t), (3, .int z10), (4, .int z11), (5, .int z12), (6, .int z13)] := hl
  have hr0 := hr.n
  have hN := hr.le
  refine lv_iload_n hx hb dX0_act_0 rfl (lv_at hl 1 rfl) ?_
  refine lv_bipush (v := 9) hx hb dX0_act_1 (by decide) ?_
  refine lv_icmp_ge (tgt := 18) hx hb dX0_act_3 (by decide) (fun c_1 => ?_) (fun c_1 => ?_)
  · skip
    refine lv_iload_n hx hb dX0_act_18 rfl (lv_at hl 1 rfl) ?_
    refine lv_bipush (v := 18) hx hb dX0_act_19 (by decide) ?_
    refine lv_icmp_ge (tgt := 36) hx hb dX0_act_21 (by decide) (fun c_2 => ?_) (fun c_2 => ?_)
    · skip
      exact absurd c_2 (by decide)
    · skip
      refine lv_aload_n hx hb dX0_act_24 rfl (lv_at hl 0 rfl) ?_
      refine lv_iload_n hx hb dX0_act_25 rfl (lv_at hl 1 rfl) ?_
      refine lv_iload_n hx hb dX0_act_26 rfl (lv_at hl 2 rfl) ?_
      refine lv_iload_n hx hb dX0_act_27 rfl (lv_at hl 3 rfl) ?_
      refine lv_iload hx hb dX0_act_28 (lv_at hl 4 rfl) ?_
      refine y_Vi (wN := fun u_3 => (wX G ad ho rn ln dr ro lt rf th sb ++ wR G (ad 1) kd r ++ wR G (ad 2) u_3.1 u_3.2 ++ wR G (ad 3) k2 r2 ++ wK (ad 4))) (wNx := fun u9 => (wX G ad ho rn ln dr ro lt rf th sb ++ wR G (ad 1) kd r ++ wR G (ad 2) k1 r1 ++ wR G (ad 3) k2 r2 ++ wK (ad 4))) ⟨C0, hK, hP, hD, hS, hA⟩ hZ 0 rfl (ci := 0) rfl rfl ((m_of_14 l hl0 G ad kd k1 k2 r r1 r2 ho rn ln dr ro lt rf th sb hr hp hk t z10 z11)) (cwV 4 hts (lw_V q778 q780 qs22 q86 q781) rfl rfl rfl (by decide +kernel) ⟨Nat.le_of_ble_eq_true rfl, Nat.le_of_ble_eq_true rfl⟩) [0, 1, 2, 3, 4, 5, 6, 7, 8, 9, 10, 11, 12, 13, 14, 15, 16, 17, 18, 19, 20, 21, 22, 23, 24, 25, 26, 27, 28, 29, 30] [1, 3, 5, 7, 9, 11, 13, 15, 17, 19, 21, 23, 25, 27, 29, 31, 33, 35, 37, 39, 41, 43, 45, 47, 49, 51, 53, 55, 57, 59, 61] [1, 3, 5, 7, 9, 11, 13, 15, 17, 19, 21, 23, 25, 27, 29, 31, 33, 35, 37, 39, 41, 43, 45, 47, 49, 51, 53, 55, 57, 59, 61, 63] rfl (fun _ => rfl) (fun _ _ _ => rfl) rfl rfl rfl hl.1 rfl (Nat.le_of_ble_eq_true rfl) dX0_act_30 ⟨(Nat.le_of_ble_eq_true rfl), (Nat.le_of_ble_eq_true rfl)⟩ (fun q9 u9 ee H locs hw_3 hP hD hS => ?_) (fun r_3 u_3 H locs hw_3 hP hD hS => ?_)
      · skip
        refine z_catch ⟨0, 49, 50, 239⟩ hown hK htb rfl (by decide) (by decide) (hts _ q273) hP ?_
        have hthr9 : ee.2.1 = eS (tB r t) (-1) (eS (pSt r (ix t)) (-3) 0) ∧ eS (tB r t) (-1) (eS (pSt r (ix t)) (-3) 0) ≠ 0 := hw_3
        refine lv_astore (lv' := [(7, .ref q9), (0, .ref (ad 0 0)), (1, .int 14), (2, .int t), (3, .int z10), (4, .int z11), (5, .int z12), (6, .int z13)]) hx hb dX0_act_50 hl (by decide) rfl (fun ls hl => ?_)
        refine lv_aload_n hx hb dX0_act_52 rfl (lv_at hl 1 rfl) ?_
        refine lv_aload hx hb dX0_act_53 (lv_at hl 0 rfl) ?_
        obtain ⟨ek, en, e1, e2, e3⟩ := ee
        cases ek
        · skip
          have hP : va_P G.1 vwCl (wX G ad ho rn ln dr ro lt rf th sb ++ wR G (ad 1) kd r ++ wR G (ad 2) k1 r1 ++ wR G (ad 3) k2 r2 ++ wK (ad 4) ++ [(q9, .inr (9, [e1, e2, e3, .null, .null, .int 0, .int en]))]) H := hP
          have hD : va_D A (wX G ad ho rn ln dr ro lt rf th sb ++ wR G (ad 1) kd r ++ wR G (ad 2) k1 r1 ++ wR G (ad 3) k2 r2 ++ wK (ad 4) ++ [(q9, .inr (9, [e1, e2, e3, .null, .null, .int 0, .int en]))]) := hD
          obtain ⟨een, hne⟩ := hthr9
          have een : en = eS (tB r t) (-1) (eS (pSt r (ix t)) (-3) 0) := een
          subst een
          have hP : va_P G.1 vwCl (wX G ad ho rn ln dr ro lt rf th sb ++ wR G (ad 1) kd r ++ wR G (ad 2) k1 r1 ++ wR G (ad 3) k2 r2 ++ wK (ad 4) ++ [(q9, .inr (9, [e1, e2, e3, .null, .null, .int 0, .int (eS (tB r t) (-1) (eS (pSt r (ix t)) (-3) 0))]))]) H := hP
          have hD : va_D A (wX G ad ho rn ln dr ro lt rf th sb ++ wR G (ad 1) kd r ++ wR G (ad 2) k1 r1 ++ wR G (ad 3) k2 r2 ++ wK (ad 4) ++ [(q9, .inr (9, [e1, e2, e3, .null, .null, .int 0, .int (eS (tB r t) (-1) (eS (pSt r (ix t)) (-3) 0))]))]) := hD
          refine x_Ui (wN := fun _ => (wX G ad ho rn ln dr ro lt rf th sb ++ wR G (ad 1) kd r ++ wR G (ad 2) k1 r1 ++ wR G (ad 3) k2 r2 ++ wK (ad 4) ++ [(q9, .inr (9, [e1, e2, e3, .null, .null, .int 0, .int (eS (tB r t) (-1) (eS (pSt r (ix t)) (-3) 0))]))])) ⟨C0, hK, hP, hD, hS, hA⟩ 31 rfl (ci := 9) rfl rfl ((m_X11_number l G q9 e1 e2 e3 (eS (tB r t) (-1) (eS (pSt r (ix t)) (-3) 0)))) (va_cwA (owner := "PulledFromUnder$Refusal") 0 hts (lw_U q990 q992 q996 q997 q100 q998) rfl rfl rfl (hK.2.D 13 rfl) (by decide +kernel) ⟨Nat.le_of_ble_eq_true rfl, Nat.le_of_ble_eq_true rfl⟩) [31] [0, 2, 4, 6, 8, 10, 12, 14, 16, 18, 20, 22, 24, 26, 28, 30, 32, 34, 36, 38, 40, 42, 44, 46, 48, 50, 52, 54, 56, 58, 60, 1] rfl (fun _ => rfl) rfl rfl hl.1 rfl (Nat.le_of_ble_eq_true rfl) dX0_act_55 ⟨(Nat.le_of_ble_eq_true rfl), (Nat.le_of_ble_eq_true rfl)⟩ (fun r_4 u_4 H locs hw_4 hP hD hS => ?_)
          have hw_4 : (eS (tB r t) (-1) (eS (pSt r (ix t)) (-3) 0) : Int32) = r_4 := hw_4.symm
          subst hw_4
          refine x_Vi (wN := fun _ => (wX G ad ho rn ln dr ro lt (rfU rf (eS (tB r t) (-1) (eS (pSt r (ix t)) (-3) 0))) th sb ++ wR G (ad 1) kd r ++ wR G (ad 2) k1 r1 ++ wR G (ad 3) k2 r2 ++ wK (ad 4) ++ [(q9, .inr (9, [e1, e2, e3, .null, .null, .int 0, .int (eS (tB r t) (-1) (eS (pSt r (ix t)) (-3) 0))]))])) ⟨C0, hK, hP, hD, hS, hA⟩ 0 rfl (ci := 0) rfl rfl ((m_refuse l G ad kd k1 k2 r r1 r2 ho rn ln dr ro lt rf th sb hr hp hk (eS (tB r t) (-1) (eS (pSt r (ix t)) (-3) 0)) (rfOk_S rfOk_k.1 (rfOk_S rfOk_k.2.2.1 rfOk_0)))) (cwV 1 hts (lw_V q999 q1001 qs62 q86 q1002) rfl rfl rfl (by decide +kernel) ⟨Nat.le_of_ble_eq_true rfl, Nat.le_of_ble_eq_true rfl⟩) [0, 1, 2, 3, 4, 5, 6, 7, 8, 9, 10, 11, 12, 13, 14, 15, 16, 17, 18, 19, 20, 21, 22, 23, 24, 25, 26, 27, 28, 29, 30] [1, 3, 5, 7, 9, 11, 13, 15, 17, 19, 21, 23, 25, 27, 29, 31, 33, 35, 37, 39, 41, 43, 45, 47, 49, 51, 53, 55, 57, 59, 61, 62] rfl (fun _ => rfl) rfl rfl hl.1 rfl (Nat.le_of_ble_eq_true rfl) dX0_act_58 ⟨(Nat.le_of_ble_eq_true rfl), (Nat.le_of_ble_eq_true rfl)⟩ (fun r_5 u_5 H locs hw_5 hP hD hS => ?_)
          have hw_5 : (eS (tB r t) (-1) (eS (pSt r (ix t)) (-3) 0) : Int32) = r_5 := hw_5.symm
          subst hw_5
          have hP : va_P G.1 vwCl (wX G ad ho rn ln dr ro lt (rfU rf (eS (tB r t) (-1) (eS (pSt r (ix t)) (-3) 0))) th sb ++ wR G (ad 1) kd r ++ wR G (ad 2) k1 r1 ++ wR G (ad 3) k2 r2 ++ wK (ad 4) ++ [(q9, .inr (9, [e1, e2, e3, .null, .null, .int 0, .int (eS (tB r t) (-1) (eS (pSt r (ix t)) (-3) 0))]))]) H := hP
          have hD : va_D A (wX G ad ho rn ln dr ro lt (rfU rf (eS (tB r t) (-1) (eS (pSt r (ix t)) (-3) 0))) th sb ++ wR G (ad 1) kd r ++ wR G (ad 2) k1 r1 ++ wR G (ad 3) k2 r2 ++ wK (ad 4) ++ [(q9, .inr (9, [e1, e2, e3, .null, .null, .int 0, .int (eS (tB r t) (-1) (eS (pSt r (ix t)) (-3) 0))]))]) := hD
          have hP := x_dropP hP
          have hD := x_dropD hD
          have hP : va_P G.1 vwCl (wX G ad ho rn ln dr ro lt (sel (eS (tB r t) (-1) (eS (pSt r (ix t)) (-3) 0)) rf (rfU rf (eS (tB r t) (-1) (eS (pSt r (ix t)) (-3) 0)))) th sb ++ wR G (ad 1) kd r ++ wR G (ad 2) ((k1, r1).1) ((k1, r1).2) ++ wR G (ad 3) k2 r2 ++ wK (ad 4)) H := by simp only [sel_n hne]; exact hP
          have hD : va_D A (wX G ad ho rn ln dr ro lt (sel (eS (tB r t) (-1) (eS (pSt r (ix t)) (-3) 0)) rf (rfU rf (eS (tB r t) (-1) (eS (pSt r (ix t)) (-3) 0)))) th sb ++ wR G (ad 1) kd r ++ wR G (ad 2) ((k1, r1).1) ((k1, r1).2) ++ wR G (ad 3) k2 r2 ++ wK (ad 4)) := by simp only [sel_n hne]; exact hD
          refine hret _ _ _ _ _ _ (eS (tB r t) (-1) (eS (pSt r (ix t)) (-3) 0)) (k1, r1) dX0_act_61 ?_ hP hD hS (Nat.le_of_ble_eq_true rfl) (Nat.le_of_ble_eq_true rfl)
          exact (sel_n hne).symm
        · skip
          have hP : va_P G.1 vwCl (wX G ad ho rn ln dr ro lt rf th sb ++ wR G (ad 1) kd r ++ wR G (ad 2) k1 r1 ++ wR G (ad 3) k2 r2 ++ wK (ad 4) ++ [(q9, .inr (11, [e1, e2, e3, .null, .null, .int 0, .int en]))]) H := hP
          have hD : va_D A (wX G ad ho rn ln dr ro lt rf th sb ++ wR G (ad 1) kd r ++ wR G (ad 2) k1 r1 ++ wR G (ad 3) k2 r2 ++ wK (ad 4) ++ [(q9, .inr (11, [e1, e2, e3, .null, .null, .int 0, .int en]))]) := hD
          obtain ⟨een, hne⟩ := hthr9
          have een : en = eS (tB r t) (-1) (eS (pSt r (ix t)) (-3) 0) := een
          subst een
          have hP : va_P G.1 vwCl (wX G ad ho rn ln dr ro lt rf th sb ++ wR G (ad 1) kd r ++ wR G (ad 2) k1 r1 ++ wR G (ad 3) k2 r2 ++ wK (ad 4) ++ [(q9, .inr (11, [e1, e2, e3, .null, .null, .int 0, .int (eS (tB r t) (-1) (eS (pSt r (ix t)) (-3) 0))]))]) H := hP
          have hD : va_D A (wX G ad ho rn ln dr ro lt rf th sb ++ wR G (ad 1) kd r ++ wR G (ad 2) k1 r1 ++ wR G (ad 3) k2 r2 ++ wK (ad 4) ++ [(q9, .inr (11, [e1, e2, e3, .null, .null, .int 0, .int (eS (tB r t) (-1) (eS (pSt r (ix t)) (-3) 0))]))]) := hD
          refine x_Ui (wN := fun _ => (wX G ad ho rn ln dr ro lt rf th sb ++ wR G (ad 1) kd r ++ wR G (ad 2) k1 r1 ++ wR G (ad 3) k2 r2 ++ wK (ad 4) ++ [(q9, .inr (11, [e1, e2, e3, .null, .null, .int 0, .int (eS (tB r t) (-1) (eS (pSt r (ix t)) (-3) 0))]))])) ⟨C0, hK, hP, hD, hS, hA⟩ 31 rfl (ci := 11) rfl rfl ((m_X13_number l G q9 e1 e2 e3 (eS (tB r t) (-1) (eS (pSt r (ix t)) (-3) 0)))) (va_cwA (owner := "PulledFromUnder$Refusal") 0 hts (lw_U q990 q992 q993 q994 q102 q995) rfl rfl rfl (hK.2.D 13 rfl) (by decide +kernel) ⟨Nat.le_of_ble_eq_true rfl, Nat.le_of_ble_eq_true rfl⟩) [31] [0, 2, 4, 6, 8, 10, 12, 14, 16, 18, 20, 22, 24, 26, 28, 30, 32, 34, 36, 38, 40, 42, 44, 46, 48, 50, 52, 54, 56, 58, 60, 1] rfl (fun _ => rfl) rfl rfl hl.1 rfl (Nat.le_of_ble_eq_true rfl) dX0_act_55 ⟨(Nat.le_of_ble_eq_true rfl), (Nat.le_of_ble_eq_true rfl)⟩ (fun r_6 u_6 H locs hw_6 hP hD hS => ?_)
          have hw_6 : (eS (tB r t) (-1) (eS (pSt r (ix t)) (-3) 0) : Int32) = r_6 := hw_6.symm
          subst hw_6
          refine x_Vi (wN := fun _ => (wX G ad ho rn ln dr ro lt (rfU rf (eS (tB r t) (-1) (eS (pSt r (ix t)) (-3) 0))) th sb ++ wR G (ad 1) kd r ++ wR G (ad 2) k1 r1 ++ wR G (ad 3) k2 r2 ++ wK (ad 4) ++ [(q9, .inr (11, [e1, e2, e3, .null, .null, .int 0, .int (eS (tB r t) (-1) (eS (pSt r (ix t)) (-3) 0))]))])) ⟨C0, hK, hP, hD, hS, hA⟩ 0 rfl (ci := 0) rfl rfl ((m_refuse l G ad kd k1 k2 r r1 r2 ho rn ln dr ro lt rf th sb hr hp hk (eS (tB r t) (-1) (eS (pSt r (ix t)) (-3) 0)) (rfOk_S rfOk_k.1 (rfOk_S rfOk_k.2.2.1 rfOk_0)))) (cwV 1 hts (lw_V q999 q1001 qs62 q86 q1002) rfl rfl rfl (by decide +kernel) ⟨Nat.le_of_ble_eq_true rfl, Nat.le_of_ble_eq_true rfl⟩) [0, 1, 2, 3, 4, 5, 6, 7, 8, 9, 10, 11, 12, 13, 14, 15, 16, 17, 18, 19, 20, 21, 22, 23, 24, 25, 26, 27, 28, 29, 30] [1, 3, 5, 7, 9, 11, 13, 15, 17, 19, 21, 23, 25, 27, 29, 31, 33, 35, 37, 39, 41, 43, 45, 47, 49, 51, 53, 55, 57, 59, 61, 62] rfl (fun _ => rfl) rfl rfl hl.1 rfl (Nat.le_of_ble_eq_true rfl) dX0_act_58 ⟨(Nat.le_of_ble_eq_true rfl), (Nat.le_of_ble_eq_true rfl)⟩ (fun r_7 u_7 H locs hw_7 hP hD hS => ?_)
          have hw_7 : (eS (tB r t) (-1) (eS (pSt r (ix t)) (-3) 0) : Int32) = r_7 := hw_7.symm
          subst hw_7
          have hP : va_P G.1 vwCl (wX G ad ho rn ln dr ro lt (rfU rf (eS (tB r t) (-1) (eS (pSt r (ix t)) (-3) 0))) th sb ++ wR G (ad 1) kd r ++ wR G (ad 2) k1 r1 ++ wR G (ad 3) k2 r2 ++ wK (ad 4) ++ [(q9, .inr (11, [e1, e2, e3, .null, .null, .int 0, .int (eS (tB r t) (-1) (eS (pSt r (ix t)) (-3) 0))]))]) H := hP
          have hD : va_D A (wX G ad ho rn ln dr ro lt (rfU rf (eS (tB r t) (-1) (eS (pSt r (ix t)) (-3) 0))) th sb ++ wR G (ad 1) kd r ++ wR G (ad 2) k1 r1 ++ wR G (ad 3) k2 r2 ++ wK (ad 4) ++ [(q9, .inr (11, [e1, e2, e3, .null, .null, .int 0, .int (eS (tB r t) (-1) (eS (pSt r (ix t)) (-3) 0))]))]) := hD
          have hP := x_dropP hP
          have hD := x_dropD hD
          have hP : va_P G.1 vwCl (wX G ad ho rn ln dr ro lt (sel (eS (tB r t) (-1) (eS (pSt r (ix t)) (-3) 0)) rf (rfU rf (eS (tB r t) (-1) (eS (pSt r (ix t)) (-3) 0)))) th sb ++ wR G (ad 1) kd r ++ wR G (ad 2) ((k1, r1).1) ((k1, r1).2) ++ wR G (ad 3) k2 r2 ++ wK (ad 4)) H := by simp only [sel_n hne]; exact hP
          have hD : va_D A (wX G ad ho rn ln dr ro lt (sel (eS (tB r t) (-1) (eS (pSt r (ix t)) (-3) 0)) rf (rfU rf (eS (tB r t) (-1) (eS (pSt r (ix t)) (-3) 0)))) th sb ++ wR G (ad 1) kd r ++ wR G (ad 2) ((k1, r1).1) ((k1, r1).2) ++ wR G (ad 3) k2 r2 ++ wK (ad 4)) := by simp only [sel_n hne]; exact hD
          refine hret _ _ _ _ _ _ (eS (tB r t) (-1) (eS (pSt r (ix t)) (-3) 0)) (k1, r1) dX0_act_61 ?_ hP hD hS (Nat.le_of_ble_eq_true rfl) (Nat.le_of_ble_eq_true rfl)
          exact (sel_n hne).symm
      · skip
        obtain ⟨hz_3, hw_3⟩ := hw_3
        have hw_3 : (pSlow r (ix t) : Int32) = r_3 := hw_3.symm
        subst hw_3
        have hP : va_P G.1 vwCl (wX G ad ho rn ln dr ro lt rf th sb ++ wR G (ad 1) kd r ++ wR G (ad 2) u_3.1 u_3.2 ++ wR G (ad 3) k2 r2 ++ wK (ad 4)) H := hP
        have hD : va_D A (wX G ad ho rn ln dr ro lt rf th sb ++ wR G (ad 1) kd r ++ wR G (ad 2) u_3.1 u_3.2 ++ wR G (ad 3) k2 r2 ++ wK (ad 4)) := hD
        refine W.widen (k := 2) (n := 14) (Nat.le_of_ble_eq_true rfl) (Nat.le_of_ble_eq_true rfl) ?_
        refine lv_goto (tgt := 49) hx hb dX0_act_33 (by decide) ?_
        have hP : va_P G.1 vwCl (wX G ad ho rn ln dr ro lt (sel (eS (tB r t) (-1) (eS (pSt r (ix t)) (-3) 0)) rf (rfU rf (eS (tB r t) (-1) (eS (pSt r (ix t)) (-3) 0)))) th sb ++ wR G (ad 1) kd r ++ wR G (ad 2) u_3.1 u_3.2 ++ wR G (ad 3) k2 r2 ++ wK (ad 4)) H := by simp only [sel_0 hz_3]; exact hP
        have hD : va_D A (wX G ad ho rn ln dr ro lt (sel (eS (tB r t) (-1) (eS (pSt r (ix t)) (-3) 0)) rf (rfU rf (eS (tB r t) (-1) (eS (pSt r (ix t)) (-3) 0)))) th sb ++ wR G (ad 1) kd r ++ wR G (ad 2) u_3.1 u_3.2 ++ wR G (ad 3) k2 r2 ++ wK (ad 4)) := by simp only [sel_0 hz_3]; exact hD
        refine hret _ _ _ _ _ _ (pSlow r (ix t)) u_3 dX0_act_49 ?_ hP hD hS (Nat.le_of_ble_eq_true rfl) (Nat.le_of_ble_eq_true rfl)
        exact (sel_0 hz_3).symm
  · skip
    exact absurd c_1 (by decide)
set_option maxHeartbeats 4000000 in
set_option maxRecDepth 100000 in
theorem m_act_15 (l : Launch) (hl0 : l.stackTraces = false) (G : xG) (ad : Nat → Nat → Nat) (kd k1 k2 : Nat → Option Nat) (r r1 r2 : Rw) (ho rn ln dr : Int32) (ro lt rf th sb : Nat → Int32) (hr : Ok r) (hp : r 5 3 = 0) (hk : kOk (ad 4) kd r) (t sp z10 z11 z12 : Int32) : zCi l G yX0_act (wsW_ yX0_act cX0_act 8 (some .int) [(0, 49, 50, 239)]) ({ frames := 12, cells := 4, slots := 28, locals := 220 } : Room) [.ref (ad 0 0), .int 15, .int t, .int sp, .int z10, .int z11, .int z12] (wX G ad ho rn ln dr ro lt rf th sb ++ wR G (ad 1) kd r ++ wR G (ad 2) k1 r1 ++ wR G (ad 3) k2 r2 ++ wK (ad 4)) (S := ((Nat → Option Nat) × Rw)) (fun v _ => v = sel (eS (tB r t) (-1) (eW (wBy sp.toInt 0 9) (eS (pSt r (ix t)) (-3) 0))) (pFB r (ix t) sp) (eS (tB r t) (-1) (eW (wBy sp.toInt 0 9) (eS (pSt r (ix t)) (-3) 0)))) (fun u => (wX G ad ho rn ln dr ro lt (sel (eS (tB r t) (-1) (eW (wBy sp.toInt 0 9) (eS (pSt r (ix t)) (-3) 0))) rf (rfU rf (eS (tB r t) (-1) (eW (wBy sp.toInt 0 9) (eS (pSt r (ix t)) (-3) 0))))) th sb ++ wR G (ad 1) kd r ++ wR G (ad 2) u.1 u.2 ++ wR G (ad 3) k2 r2 ++ wK (ad 4))) := by
  refine z_openiW (hh := [(0, 49, 50, 239)]) (by decide) (Nat.le_of_ble_eq_true rfl) (fun _ _ _ => rfl) ?_
  intro p e s m args below meth c A Q ls C0 hK hZ hP hD hA hl htb hret
  obtain ⟨hx, hb, hml, hown, hts⟩ := id C0
  have hS : va_S A s.heap s.heap [] := va_S.rf
  have hP : va_P G.1 vwCl (wX G ad ho rn ln dr ro lt rf th sb ++ wR G (ad 1) kd r ++ wR G (ad 2) k1 r1 ++ wR G (ad 3) k2 r2 ++ wK (ad 4)) s.heap := hP
  have hD : va_D A (wX G ad ho rn ln dr ro lt rf th sb ++ wR G (ad 1) kd r ++ wR G (ad 2) k1 r1 ++ wR G (ad 3) k2 r2 ++ wK (ad 4)) := hD
  have hl : lv_has ls 8 [(0, .ref (ad 0 0)), (1, .int 15), (2, .int t), (3, .int sp), (4, .int z10), (5, .int z11), (6, .int z12)] := hl
  have hr0 := hr.n
  have hN := hr.le
  refine lv_iload_n hx hb dX0_act_0 rfl (lv_at hl 1 rfl) ?_
  refine lv_bipush (v := 9) hx hb dX0_act_1 (by decide) ?_
  refine lv_icmp_ge (tgt := 18) hx hb dX0_act_3 (by decide) (fun c_1 => ?_) (fun c_1 => ?_)
  · skip
    refine lv_iload_n hx hb dX0_act_18 rfl (lv_at hl 1 rfl) ?_
    refine lv_bipush (v := 18) hx hb dX0_act_19 (by decide) ?_
    refine lv_icmp_ge (tgt := 36) hx hb dX0_act_21 (by decide) (fun c_2 => ?_) (fun c_2 => ?_)
    · skip
      exact absurd c_2 (by decide)
    · skip
      refine lv_aload_n hx hb dX0_act_24 rfl (lv_at hl 0 rfl) ?_
      refine lv_iload_n hx hb dX0_act_25 rfl (lv_at hl 1 rfl) ?_
      refine lv_iload_n hx hb dX0_act_26 rfl (lv_at hl 2 rfl) ?_
      refine lv_iload_n hx hb dX0_act_27 rfl (lv_at hl 3 rfl) ?_
      refine lv_iload hx hb dX0_act_28 (lv_at hl 4 rfl) ?_
      refine y_Vi (wN := fun u_3 => (wX G ad ho rn ln dr ro lt rf th sb ++ wR G (ad 1) kd r ++ wR G (ad 2) u_3.1 u_3.2 ++ wR G (ad 3) k2 r2 ++ wK (ad 4))) (wNx := fun u9 => (wX G ad ho rn ln dr ro lt rf th sb ++ wR G (ad 1) kd r ++ wR G (ad 2) k1 r1 ++ wR G (ad 3) k2 r2 ++ wK (ad 4))) ⟨C0, hK, hP, hD, hS, hA⟩ hZ 0 rfl (ci := 0) rfl rfl ((m_of_15 l hl0 G ad kd k1 k2 r r1 r2 ho rn ln dr ro lt rf th sb hr hp hk t sp z10)) (cwV 4 hts (lw_V q778 q780 qs22 q86 q781) rfl rfl rfl (by decide +kernel) ⟨Nat.le_of_ble_eq_true rfl, Nat.le_of_ble_eq_true rfl⟩) [0, 1, 2, 3, 4, 5, 6, 7, 8, 9, 10, 11, 12, 13, 14, 15, 16, 17, 18, 19, 20, 21, 22, 23, 24, 25, 26, 27, 28, 29, 30] [1, 3, 5, 7, 9, 11, 13, 15, 17, 19, 21, 23, 25, 27, 29, 31, 33, 35, 37, 39, 41, 43, 45, 47, 49, 51, 53, 55, 57, 59, 61] [1, 3, 5, 7, 9, 11, 13, 15, 17, 19, 21, 23, 25, 27, 29, 31, 33, 35, 37, 39, 41, 43, 45, 47, 49, 51, 53, 55, 57, 59, 61, 63] rfl (fun _ => rfl) (fun _ _ _ => rfl) rfl rfl rfl hl.1 rfl (Nat.le_of_ble_eq_true rfl) dX0_act_30 ⟨(Nat.le_of_ble_eq_true rfl), (Nat.le_of_ble_eq_true rfl)⟩ (fun q9 u9 ee H locs hw_3 hP hD hS => ?_) (fun r_3 u_3 H locs hw_3 hP hD hS => ?_)
      · skip
        refine z_catch ⟨0, 49, 50, 239⟩ hown hK htb rfl (by decide) (by decide) (hts _ q273) hP ?_
        have hthr9 : ee.2.1 = eS (tB r t) (-1) (eW (wBy sp.toInt 0 9) (eS (pSt r (ix t)) (-3) 0)) ∧ eS (tB r t) (-1) (eW (wBy sp.toInt 0 9) (eS (pSt r (ix t)) (-3) 0)) ≠ 0 := hw_3
        refine lv_astore (lv' := [(7, .ref q9), (0, .ref (ad 0 0)), (1, .int 15), (2, .int t), (3, .int sp), (4, .int z10), (5, .int z11), (6, .int z12)]) hx hb dX0_act_50 hl (by decide) rfl (fun ls hl => ?_)
        refine lv_aload_n hx hb dX0_act_52 rfl (lv_at hl 1 rfl) ?_
        refine lv_aload hx hb dX0_act_53 (lv_at hl 0 rfl) ?_
        obtain ⟨ek, en, e1, e2, e3⟩ := ee
        cases ek
        · skip
          have hP : va_P G.1 vwCl (wX G ad ho rn ln dr ro lt rf th sb ++ wR G (ad 1) kd r ++ wR G (ad 2) k1 r1 ++ wR G (ad 3) k2 r2 ++ wK (ad 4) ++ [(q9, .inr (9, [e1, e2, e3, .null, .null, .int 0, .int en]))]) H := hP
          have hD : va_D A (wX G ad ho rn ln dr ro lt rf th sb ++ wR G (ad 1) kd r ++ wR G (ad 2) k1 r1 ++ wR G (ad 3) k2 r2 ++ wK (ad 4) ++ [(q9, .inr (9, [e1, e2, e3, .null, .null, .int 0, .int en]))]) := hD
          obtain ⟨een, hne⟩ := hthr9
          have een : en = eS (tB r t) (-1) (eW (wBy sp.toInt 0 9) (eS (pSt r (ix t)) (-3) 0)) := een
          subst een
          have hP : va_P G.1 vwCl (wX G ad ho rn ln dr ro lt rf th sb ++ wR G (ad 1) kd r ++ wR G (ad 2) k1 r1 ++ wR G (ad 3) k2 r2 ++ wK (ad 4) ++ [(q9, .inr (9, [e1, e2, e3, .null, .null, .int 0, .int (eS (tB r t) (-1) (eW (wBy sp.toInt 0 9) (eS (pSt r (ix t)) (-3) 0)))]))]) H := hP
          have hD : va_D A (wX G ad ho rn ln dr ro lt rf th sb ++ wR G (ad 1) kd r ++ wR G (ad 2) k1 r1 ++ wR G (ad 3) k2 r2 ++ wK (ad 4) ++ [(q9, .inr (9, [e1, e2, e3, .null, .null, .int 0, .int (eS (tB r t) (-1) (eW (wBy sp.toInt 0 9) (eS (pSt r (ix t)) (-3) 0)))]))]) := hD
          refine x_Ui (wN := fun _ => (wX G ad ho rn ln dr ro lt rf th sb ++ wR G (ad 1) kd r ++ wR G (ad 2) k1 r1 ++ wR G (ad 3) k2 r2 ++ wK (ad 4) ++ [(q9, .inr (9, [e1, e2, e3, .null, .null, .int 0, .int (eS (tB r t) (-1) (eW (wBy sp.toInt 0 9) (eS (pSt r (ix t)) (-3) 0)))]))])) ⟨C0, hK, hP, hD, hS, hA⟩ 31 rfl (ci := 9) rfl rfl ((m_X11_number l G q9 e1 e2 e3 (eS (tB r t) (-1) (eW (wBy sp.toInt 0 9) (eS (pSt r (ix t)) (-3) 0))))) (va_cwA (owner := "PulledFromUnder$Refusal") 0 hts (lw_U q990 q992 q996 q997 q100 q998) rfl rfl rfl (hK.2.D 13 rfl) (by decide +kernel) ⟨Nat.le_of_ble_eq_true rfl, Nat.le_of_ble_eq_true rfl⟩) [31] [0, 2, 4, 6, 8, 10, 12, 14, 16, 18, 20, 22, 24, 26, 28, 30, 32, 34, 36, 38, 40, 42, 44, 46, 48, 50, 52, 54, 56, 58, 60, 1] rfl (fun _ => rfl) rfl rfl hl.1 rfl (Nat.le_of_ble_eq_true rfl) dX0_act_55 ⟨(Nat.le_of_ble_eq_true rfl), (Nat.le_of_ble_eq_true rfl)⟩ (fun r_4 u_4 H locs hw_4 hP hD hS => ?_)
          have hw_4 : (eS (tB r t) (-1) (eW (wBy sp.toInt 0 9) (eS (pSt r (ix t)) (-3) 0)) : Int32) = r_4 := hw_4.symm
          subst hw_4
          refine x_Vi (wN := fun _ => (wX G ad ho rn ln dr ro lt (rfU rf (eS (tB r t) (-1) (eW (wBy sp.toInt 0 9) (eS (pSt r (ix t)) (-3) 0)))) th sb ++ wR G (ad 1) kd r ++ wR G (ad 2) k1 r1 ++ wR G (ad 3) k2 r2 ++ wK (ad 4) ++ [(q9, .inr (9, [e1, e2, e3, .null, .null, .int 0, .int (eS (tB r t) (-1) (eW (wBy sp.toInt 0 9) (eS (pSt r (ix t)) (-3) 0)))]))])) ⟨C0, hK, hP, hD, hS, hA⟩ 0 rfl (ci := 0) rfl rfl ((m_refuse l G ad kd k1 k2 r r1 r2 ho rn ln dr ro lt rf th sb hr hp hk (eS (tB r t) (-1) (eW (wBy sp.toInt 0 9) (eS (pSt r (ix t)) (-3) 0))) (rfOk_S rfOk_k.1 (rfOk_W (rfOk_S rfOk_k.2.2.1 rfOk_0))))) (cwV 1 hts (lw_V q999 q1001 qs62 q86 q1002) rfl rfl rfl (by decide +kernel) ⟨Nat.le_of_ble_eq_true rfl, Nat.le_of_ble_eq_true rfl⟩) [0, 1, 2, 3, 4, 5, 6, 7, 8, 9, 10, 11, 12, 13, 14, 15, 16, 17, 18, 19, 20, 21, 22, 23, 24, 25, 26, 27, 28, 29, 30] [1, 3, 5, 7, 9, 11, 13, 15, 17, 19, 21, 23, 25, 27, 29, 31, 33, 35, 37, 39, 41, 43, 45, 47, 49, 51, 53, 55, 57, 59, 61, 62] rfl (fun _ => rfl) rfl rfl hl.1 rfl (Nat.le_of_ble_eq_true rfl) dX0_act_58 ⟨(Nat.le_of_ble_eq_true rfl), (Nat.le_of_ble_eq_true rfl)⟩ (fun r_5 u_5 H locs hw_5 hP hD hS => ?_)
          have hw_5 : (eS (tB r t) (-1) (eW (wBy sp.toInt 0 9) (eS (pSt r (ix t)) (-3) 0)) : Int32) = r_5 := hw_5.symm
          subst hw_5
          have hP : va_P G.1 vwCl (wX G ad ho rn ln dr ro lt (rfU rf (eS (tB r t) (-1) (eW (wBy sp.toInt 0 9) (eS (pSt r (ix t)) (-3) 0)))) th sb ++ wR G (ad 1) kd r ++ wR G (ad 2) k1 r1 ++ wR G (ad 3) k2 r2 ++ wK (ad 4) ++ [(q9, .inr (9, [e1, e2, e3, .null, .null, .int 0, .int (eS (tB r t) (-1) (eW (wBy sp.toInt 0 9) (eS (pSt r (ix t)) (-3) 0)))]))]) H := hP
          have hD : va_D A (wX G ad ho rn ln dr ro lt (rfU rf (eS (tB r t) (-1) (eW (wBy sp.toInt 0 9) (eS (pSt r (ix t)) (-3) 0)))) th sb ++ wR G (ad 1) kd r ++ wR G (ad 2) k1 r1 ++ wR G (ad 3) k2 r2 ++ wK (ad 4) ++ [(q9, .inr (9, [e1, e2, e3, .null, .null, .int 0, .int (eS (tB r t) (-1) (eW (wBy sp.toInt 0 9) (eS (pSt r (ix t)) (-3) 0)))]))]) := hD
          have hP := x_dropP hP
          have hD := x_dropD hD
          have hP : va_P G.1 vwCl (wX G ad ho rn ln dr ro lt (sel (eS (tB r t) (-1) (eW (wBy sp.toInt 0 9) (eS (pSt r (ix t)) (-3) 0))) rf (rfU rf (eS (tB r t) (-1) (eW (wBy sp.toInt 0 9) (eS (pSt r (ix t)) (-3) 0))))) th sb ++ wR G (ad 1) kd r ++ wR G (ad 2) ((k1, r1).1) ((k1, r1).2) ++ wR G (ad 3) k2 r2 ++ wK (ad 4)) H := by simp only [sel_n hne]; exact hP
          have hD : va_D A (wX G ad ho rn ln dr ro lt (sel (eS (tB r t) (-1) (eW (wBy sp.toInt 0 9) (eS (pSt r (ix t)) (-3) 0))) rf (rfU rf (eS (tB r t) (-1) (eW (wBy sp.toInt 0 9) (eS (pSt r (ix t)) (-3) 0))))) th sb ++ wR G (ad 1) kd r ++ wR G (ad 2) ((k1, r1).1) ((k1, r1).2) ++ wR G (ad 3) k2 r2 ++ wK (ad 4)) := by simp only [sel_n hne]; exact hD
          refine hret _ _ _ _ _ _ (eS (tB r t) (-1) (eW (wBy sp.toInt 0 9) (eS (pSt r (ix t)) (-3) 0))) (k1, r1) dX0_act_61 ?_ hP hD hS (Nat.le_of_ble_eq_true rfl) (Nat.le_of_ble_eq_true rfl)
          exact (sel_n hne).symm
        · skip
          have hP : va_P G.1 vwCl (wX G ad ho rn ln dr ro lt rf th sb ++ wR G (ad 1) kd r ++ wR G (ad 2) k1 r1 ++ wR G (ad 3) k2 r2 ++ wK (ad 4) ++ [(q9, .inr (11, [e1, e2, e3, .null, .null, .int 0, .int en]))]) H := hP
          have hD : va_D A (wX G ad ho rn ln dr ro lt rf th sb ++ wR G (ad 1) kd r ++ wR G (ad 2) k1 r1 ++ wR G (ad 3) k2 r2 ++ wK (ad 4) ++ [(q9, .inr (11, [e1, e2, e3, .null, .null, .int 0, .int en]))]) := hD
          obtain ⟨een, hne⟩ := hthr9
          have een : en = eS (tB r t) (-1) (eW (wBy sp.toInt 0 9) (eS (pSt r (ix t)) (-3) 0)) := een
          subst een
          have hP : va_P G.1 vwCl (wX G ad ho rn ln dr ro lt rf th sb ++ wR G (ad 1) kd r ++ wR G (ad 2) k1 r1 ++ wR G (ad 3) k2 r2 ++ wK (ad 4) ++ [(q9, .inr (11, [e1, e2, e3, .null, .null, .int 0, .int (eS (tB r t) (-1) (eW (wBy sp.toInt 0 9) (eS (pSt r (ix t)) (-3) 0)))]))]) H := hP
          have hD : va_D A (wX G ad ho rn ln dr ro lt rf th sb ++ wR G (ad 1) kd r ++ wR G (ad 2) k1 r1 ++ wR G (ad 3) k2 r2 ++ wK (ad 4) ++ [(q9, .inr (11, [e1, e2, e3, .null, .null, .int 0, .int (eS (tB r t) (-1) (eW (wBy sp.toInt 0 9) (eS (pSt r (ix t)) (-3) 0)))]))]) := hD
          refine x_Ui (wN := fun _ => (wX G ad ho rn ln dr ro lt rf th sb ++ wR G (ad 1) kd r ++ wR G (ad 2) k1 r1 ++ wR G (ad 3) k2 r2 ++ wK (ad 4) ++ [(q9, .inr (11, [e1, e2, e3, .null, .null, .int 0, .int (eS (tB r t) (-1) (eW (wBy sp.toInt 0 9) (eS (pSt r (ix t)) (-3) 0)))]))])) ⟨C0, hK, hP, hD, hS, hA⟩ 31 rfl (ci := 11) rfl rfl ((m_X13_number l G q9 e1 e2 e3 (eS (tB r t) (-1) (eW (wBy sp.toInt 0 9) (eS (pSt r (ix t)) (-3) 0))))) (va_cwA (owner := "PulledFromUnder$Refusal") 0 hts (lw_U q990 q992 q993 q994 q102 q995) rfl rfl rfl (hK.2.D 13 rfl) (by decide +kernel) ⟨Nat.le_of_ble_eq_true rfl, Nat.le_of_ble_eq_true rfl⟩) [31] [0, 2, 4, 6, 8, 10, 12, 14, 16, 18, 20, 22, 24, 26, 28, 30, 32, 34, 36, 38, 40, 42, 44, 46, 48, 50, 52, 54, 56, 58, 60, 1] rfl (fun _ => rfl) rfl rfl hl.1 rfl (Nat.le_of_ble_eq_true rfl) dX0_act_55 ⟨(Nat.le_of_ble_eq_true rfl), (Nat.le_of_ble_eq_true rfl)⟩ (fun r_6 u_6 H locs hw_6 hP hD hS => ?_)
          have hw_6 : (eS (tB r t) (-1) (eW (wBy sp.toInt 0 9) (eS (pSt r (ix t)) (-3) 0)) : Int32) = r_6 := hw_6.symm
          subst hw_6
          refine x_Vi (wN := fun _ => (wX G ad ho rn ln dr ro lt (rfU rf (eS (tB r t) (-1) (eW (wBy sp.toInt 0 9) (eS (pSt r (ix t)) (-3) 0)))) th sb ++ wR G (ad 1) kd r ++ wR G (ad 2) k1 r1 ++ wR G (ad 3) k2 r2 ++ wK (ad 4) ++ [(q9, .inr (11, [e1, e2, e3, .null, .null, .int 0, .int (eS (tB r t) (-1) (eW (wBy sp.toInt 0 9) (eS (pSt r (ix t)) (-3) 0)))]))])) ⟨C0, hK, hP, hD, hS, hA⟩ 0 rfl (ci := 0) rfl rfl ((m_refuse l G ad kd k1 k2 r r1 r2 ho rn ln dr ro lt rf th sb hr hp hk (eS (tB r t) (-1) (eW (wBy sp.toInt 0 9) (eS (pSt r (ix t)) (-3) 0))) (rfOk_S rfOk_k.1 (rfOk_W (rfOk_S rfOk_k.2.2.1 rfOk_0))))) (cwV 1 hts (lw_V q999 q1001 qs62 q86 q1002) rfl rfl rfl (by decide +kernel) ⟨Nat.le_of_ble_eq_true rfl, Nat.le_of_ble_eq_true rfl⟩) [0, 1, 2, 3, 4, 5, 6, 7, 8, 9, 10, 11, 12, 13, 14, 15, 16, 17, 18, 19, 20, 21, 22, 23, 24, 25, 26, 27, 28, 29, 30] [1, 3, 5, 7, 9, 11, 13, 15, 17, 19, 21, 23, 25, 27, 29, 31, 33, 35, 37, 39, 41, 43, 45, 47, 49, 51, 53, 55, 57, 59, 61, 62] rfl (fun _ => rfl) rfl rfl hl.1 rfl (Nat.le_of_ble_eq_true rfl) dX0_act_58 ⟨(Nat.le_of_ble_eq_true rfl), (Nat.le_of_ble_eq_true rfl)⟩ (fun r_7 u_7 H locs hw_7 hP hD hS => ?_)
          have hw_7 : (eS (tB r t) (-1) (eW (wBy sp.toInt 0 9) (eS (pSt r (ix t)) (-3) 0)) : Int32) = r_7 := hw_7.symm
          subst hw_7
          have hP : va_P G.1 vwCl (wX G ad ho rn ln dr ro lt (rfU rf (eS (tB r t) (-1) (eW (wBy sp.toInt 0 9) (eS (pSt r (ix t)) (-3) 0)))) th sb ++ wR G (ad 1) kd r ++ wR G (ad 2) k1 r1 ++ wR G (ad 3) k2 r2 ++ wK (ad 4) ++ [(q9, .inr (11, [e1, e2, e3, .null, .null, .int 0, .int (eS (tB r t) (-1) (eW (wBy sp.toInt 0 9) (eS (pSt r (ix t)) (-3) 0)))]))]) H := hP
          have hD : va_D A (wX G ad ho rn ln dr ro lt (rfU rf (eS (tB r t) (-1) (eW (wBy sp.toInt 0 9) (eS (pSt r (ix t)) (-3) 0)))) th sb ++ wR G (ad 1) kd r ++ wR G (ad 2) k1 r1 ++ wR G (ad 3) k2 r2 ++ wK (ad 4) ++ [(q9, .inr (11, [e1, e2, e3, .null, .null, .int 0, .int (eS (tB r t) (-1) (eW (wBy sp.toInt 0 9) (eS (pSt r (ix t)) (-3) 0)))]))]) := hD
          have hP := x_dropP hP
          have hD := x_dropD hD
          have hP : va_P G.1 vwCl (wX G ad ho rn ln dr ro lt (sel (eS (tB r t) (-1) (eW (wBy sp.toInt 0 9) (eS (pSt r (ix t)) (-3) 0))) rf (rfU rf (eS (tB r t) (-1) (eW (wBy sp.toInt 0 9) (eS (pSt r (ix t)) (-3) 0))))) th sb ++ wR G (ad 1) kd r ++ wR G (ad 2) ((k1, r1).1) ((k1, r1).2) ++ wR G (ad 3) k2 r2 ++ wK (ad 4)) H := by simp only [sel_n hne]; exact hP
          have hD : va_D A (wX G ad ho rn ln dr ro lt (sel (eS (tB r t) (-1) (eW (wBy sp.toInt 0 9) (eS (pSt r (ix t)) (-3) 0))) rf (rfU rf (eS (tB r t) (-1) (eW (wBy sp.toInt 0 9) (eS (pSt r (ix t)) (-3) 0))))) th sb ++ wR G (ad 1) kd r ++ wR G (ad 2) ((k1, r1).1) ((k1, r1).2) ++ wR G (ad 3) k2 r2 ++ wK (ad 4)) := by simp only [sel_n hne]; exact hD
          refine hret _ _ _ _ _ _ (eS (tB r t) (-1) (eW (wBy sp.toInt 0 9) (eS (pSt r (ix t)) (-3) 0))) (k1, r1) dX0_act_61 ?_ hP hD hS (Nat.le_of_ble_eq_true rfl) (Nat.le_of_ble_eq_true rfl)
          exact (sel_n hne).symm
      · skip
        obtain ⟨hz_3, hw_3⟩ := hw_3
        have hw_3 : (pFB r (ix t) sp : Int32) = r_3 := hw_3.symm
        subst hw_3
        have hP : va_P G.1 vwCl (wX G ad ho rn ln dr ro lt rf th sb ++ wR G (ad 1) kd r ++ wR G (ad 2) u_3.1 u_3.2 ++ wR G (ad 3) k2 r2 ++ wK (ad 4)) H := hP
        have hD : va_D A (wX G ad ho rn ln dr ro lt rf th sb ++ wR G (ad 1) kd r ++ wR G (ad 2) u_3.1 u_3.2 ++ wR G (ad 3) k2 r2 ++ wK (ad 4)) := hD
        refine W.widen (k := 4) (n := 28) (Nat.le_of_ble_eq_true rfl) (Nat.le_of_ble_eq_true rfl) ?_
        refine lv_goto (tgt := 49) hx hb dX0_act_33 (by decide) ?_
        have hP : va_P G.1 vwCl (wX G ad ho rn ln dr ro lt (sel (eS (tB r t) (-1) (eW (wBy sp.toInt 0 9) (eS (pSt r (ix t)) (-3) 0))) rf (rfU rf (eS (tB r t) (-1) (eW (wBy sp.toInt 0 9) (eS (pSt r (ix t)) (-3) 0))))) th sb ++ wR G (ad 1) kd r ++ wR G (ad 2) u_3.1 u_3.2 ++ wR G (ad 3) k2 r2 ++ wK (ad 4)) H := by simp only [sel_0 hz_3]; exact hP
        have hD : va_D A (wX G ad ho rn ln dr ro lt (sel (eS (tB r t) (-1) (eW (wBy sp.toInt 0 9) (eS (pSt r (ix t)) (-3) 0))) rf (rfU rf (eS (tB r t) (-1) (eW (wBy sp.toInt 0 9) (eS (pSt r (ix t)) (-3) 0))))) th sb ++ wR G (ad 1) kd r ++ wR G (ad 2) u_3.1 u_3.2 ++ wR G (ad 3) k2 r2 ++ wK (ad 4)) := by simp only [sel_0 hz_3]; exact hD
        refine hret _ _ _ _ _ _ (pFB r (ix t) sp) u_3 dX0_act_49 ?_ hP hD hS (Nat.le_of_ble_eq_true rfl) (Nat.le_of_ble_eq_true rfl)
        exact (sel_0 hz_3).symm
  · skip
    exact absurd c_1 (by decide)
set_option maxHeartbeats 4000000 in
set_option maxRecDepth 100000 in
theorem m_act_16 (l : Launch) (hl0 : l.stackTraces = false) (G : xG) (ad : Nat → Nat → Nat) (kd k1 k2 : Nat → Option Nat) (r r1 r2 : Rw) (ho rn ln dr : Int32) (ro lt rf th sb : Nat → Int32) (hr : Ok r) (hp : r 5 3 = 0) (hk : kOk (ad 4) kd r) (t sp mi z10 z11 : Int32) : zCi l G yX0_act (wsW_ yX0_act cX0_act 8 (some .int) [(0, 49, 50, 239)]) ({ frames := 12, cells := 4, slots := 28, locals := 227 } : Room) [.ref (ad 0 0), .int 16, .int t, .int sp, .int mi, .int z10, .int z11] (wX G ad ho rn ln dr ro lt rf th sb ++ wR G (ad 1) kd r ++ wR G (ad 2) k1 r1 ++ wR G (ad 3) k2 r2 ++ wK (ad 4)) (S := ((Nat → Option Nat) × Rw)) (fun v _ => v = sel (eS (tB r t) (-1) (eS (decide (¬ sp < 0 ∧ ¬ mi < 0)) (-4) (eS (decide (sp ≤ 9 ∧ mi ≤ 99)) (-6) (eS (pSt r (ix t)) (-3) 0)))) (pFL r (ix t) sp (ix mi)) (eS (tB r t) (-1) (eS (decide (¬ sp < 0 ∧ ¬ mi < 0)) (-4) (eS (decide (sp ≤ 9 ∧ mi ≤ 99)) (-6) (eS (pSt r (ix t)) (-3) 0))))) (fun u => (wX G ad ho rn ln dr ro lt (sel (eS (tB r t) (-1) (eS (decide (¬ sp < 0 ∧ ¬ mi < 0)) (-4) (eS (decide (sp ≤ 9 ∧ mi ≤ 99)) (-6) (eS (pSt r (ix t)) (-3) 0)))) rf (rfU rf (eS (tB r t) (-1) (eS (decide (¬ sp < 0 ∧ ¬ mi < 0)) (-4) (eS (decide (sp ≤ 9 ∧ mi ≤ 99)) (-6) (eS (pSt r (ix t)) (-3) 0)))))) th sb ++ wR G (ad 1) kd r ++ wR G (ad 2) u.1 u.2 ++ wR G (ad 3) k2 r2 ++ wK (ad 4))) := by
  refine z_openiW (hh := [(0, 49, 50, 239)]) (by decide) (Nat.le_of_ble_eq_true rfl) (fun _ _ _ => rfl) ?_
  intro p e s m args below meth c A Q ls C0 hK hZ hP hD hA hl htb hret
  obtain ⟨hx, hb, hml, hown, hts⟩ := id C0
  have hS : va_S A s.heap s.heap [] := va_S.rf
  have hP : va_P G.1 vwCl (wX G ad ho rn ln dr ro lt rf th sb ++ wR G (ad 1) kd r ++ wR G (ad 2) k1 r1 ++ wR G (ad 3) k2 r2 ++ wK (ad 4)) s.heap := hP
  have hD : va_D A (wX G ad ho rn ln dr ro lt rf th sb ++ wR G (ad 1) kd r ++ wR G (ad 2) k1 r1 ++ wR G (ad 3) k2 r2 ++ wK (ad 4)) := hD
  have hl : lv_has ls 8 [(0, .ref (ad 0 0)), (1, .int 16), (2, .int t), (3, .int sp), (4, .int mi), (5, .int z10), (6, .int z11)] := hl
  have hr0 := hr.n
  have hN := hr.le
  refine lv_iload_n hx hb dX0_act_0 rfl (lv_at hl 1 rfl) ?_
  refine lv_bipush (v := 9) hx hb dX0_act_1 (by decide) ?_
  refine lv_icmp_ge (tgt := 18) hx hb dX0_act_3 (by decide) (fun c_1 => ?_) (fun c_1 => ?_)
  · skip
    refine lv_iload_n hx hb dX0_act_18 rfl (lv_at hl 1 rfl) ?_
    refine lv_bipush (v := 18) hx hb dX0_act_19 (by decide) ?_
    refine lv_icmp_ge (tgt := 36) hx hb dX0_act_21 (by decide) (fun c_2 => ?_) (fun c_2 => ?_)
    · skip
      exact absurd c_2 (by decide)
    · skip
      refine lv_aload_n hx hb dX0_act_24 rfl (lv_at hl 0 rfl) ?_
      refine lv_iload_n hx hb dX0_act_25 rfl (lv_at hl 1 rfl) ?_
      refine lv_iload_n hx hb dX0_act_26 rfl (lv_at hl 2 rfl) ?_
      refine lv_iload_n hx hb dX0_act_27 rfl (lv_at hl 3 rfl) ?_
      refine lv_iload hx hb dX0_act_28 (lv_at hl 4 rfl) ?_
      refine y_Vi (wN := fun u_3 => (wX G ad ho rn ln dr ro lt rf th sb ++ wR G (ad 1) kd r ++ wR G (ad 2) u_3.1 u_3.2 ++ wR G (ad 3) k2 r2 ++ wK (ad 4))) (wNx := fun u9 => (wX G ad ho rn ln dr ro lt rf th sb ++ wR G (ad 1) kd r ++ wR G (ad 2) k1 r1 ++ wR G (ad 3) k2 r2 ++ wK (ad 4))) ⟨C0, hK, hP, hD, hS, hA⟩ hZ 0 rfl (ci := 0) rfl rfl ((m_of_16 l hl0 G ad kd k1 k2 r r1 r2 ho rn ln dr ro lt rf th sb hr hp hk t sp mi)) (cwV 4 hts (lw_V q778 q780 qs22 q86 q781) rfl rfl rfl (by decide +kernel) ⟨Nat.le_of_ble_eq_true rfl, Nat.le_of_ble_eq_true rfl⟩) [0, 1, 2, 3, 4, 5, 6, 7, 8, 9, 10, 11, 12, 13, 14, 15, 16, 17, 18, 19, 20, 21, 22, 23, 24, 25, 26, 27, 28, 29, 30] [1, 3, 5, 7, 9, 11, 13, 15, 17, 19, 21, 23, 25, 27, 29, 31, 33, 35, 37, 39, 41, 43, 45, 47, 49, 51, 53, 55, 57, 59, 61] [1, 3, 5, 7, 9, 11, 13, 15, 17, 19, 21, 23, 25, 27, 29, 31, 33, 35, 37, 39, 41, 43, 45, 47, 49, 51, 53, 55, 57, 59, 61, 63] rfl (fun _ => rfl) (fun _ _ _ => rfl) rfl rfl rfl hl.1 rfl (Nat.le_of_ble_eq_true rfl) dX0_act_30 ⟨(Nat.le_of_ble_eq_true rfl), (Nat.le_of_ble_eq_true rfl)⟩ (fun q9 u9 ee H locs hw_3 hP hD hS => ?_) (fun r_3 u_3 H locs hw_3 hP hD hS => ?_)
      · skip
        refine z_catch ⟨0, 49, 50, 239⟩ hown hK htb rfl (by decide) (by decide) (hts _ q273) hP ?_
        have hthr9 : ee.2.1 = eS (tB r t) (-1) (eS (decide (¬ sp < 0 ∧ ¬ mi < 0)) (-4) (eS (decide (sp ≤ 9 ∧ mi ≤ 99)) (-6) (eS (pSt r (ix t)) (-3) 0))) ∧ eS (tB r t) (-1) (eS (decide (¬ sp < 0 ∧ ¬ mi < 0)) (-4) (eS (decide (sp ≤ 9 ∧ mi ≤ 99)) (-6) (eS (pSt r (ix t)) (-3) 0))) ≠ 0 := hw_3
        refine lv_astore (lv' := [(7, .ref q9), (0, .ref (ad 0 0)), (1, .int 16), (2, .int t), (3, .int sp), (4, .int mi), (5, .int z10), (6, .int z11)]) hx hb dX0_act_50 hl (by decide) rfl (fun ls hl => ?_)
        refine lv_aload_n hx hb dX0_act_52 rfl (lv_at hl 1 rfl) ?_
        refine lv_aload hx hb dX0_act_53 (lv_at hl 0 rfl) ?_
        obtain ⟨ek, en, e1, e2, e3⟩ := ee
        cases ek
        · skip
          have hP : va_P G.1 vwCl (wX G ad ho rn ln dr ro lt rf th sb ++ wR G (ad 1) kd r ++ wR G (ad 2) k1 r1 ++ wR G (ad 3) k2 r2 ++ wK (ad 4) ++ [(q9, .inr (9, [e1, e2, e3, .null, .null, .int 0, .int en]))]) H := hP
          have hD : va_D A (wX G ad ho rn ln dr ro lt rf th sb ++ wR G (ad 1) kd r ++ wR G (ad 2) k1 r1 ++ wR G (ad 3) k2 r2 ++ wK (ad 4) ++ [(q9, .inr (9, [e1, e2, e3, .null, .null, .int 0, .int en]))]) := hD
          obtain ⟨een, hne⟩ := hthr9
          have een : en = eS (tB r t) (-1) (eS (decide (¬ sp < 0 ∧ ¬ mi < 0)) (-4) (eS (decide (sp ≤ 9 ∧ mi ≤ 99)) (-6) (eS (pSt r (ix t)) (-3) 0))) := een
          subst een
          have hP : va_P G.1 vwCl (wX G ad ho rn ln dr ro lt rf th sb ++ wR G (ad 1) kd r ++ wR G (ad 2) k1 r1 ++ wR G (ad 3) k2 r2 ++ wK (ad 4) ++ [(q9, .inr (9, [e1, e2, e3, .null, .null, .int 0, .int (eS (tB r t) (-1) (eS (decide (¬ sp < 0 ∧ ¬ mi < 0)) (-4) (eS (decide (sp ≤ 9 ∧ mi ≤ 99)) (-6) (eS (pSt r (ix t)) (-3) 0))))]))]) H := hP
          have hD : va_D A (wX G ad ho rn ln dr ro lt rf th sb ++ wR G (ad 1) kd r ++ wR G (ad 2) k1 r1 ++ wR G (ad 3) k2 r2 ++ wK (ad 4) ++ [(q9, .inr (9, [e1, e2, e3, .null, .null, .int 0, .int (eS (tB r t) (-1) (eS (decide (¬ sp < 0 ∧ ¬ mi < 0)) (-4) (eS (decide (sp ≤ 9 ∧ mi ≤ 99)) (-6) (eS (pSt r (ix t)) (-3) 0))))]))]) := hD
          refine x_Ui (wN := fun _ => (wX G ad ho rn ln dr ro lt rf th sb ++ wR G (ad 1) kd r ++ wR G (ad 2) k1 r1 ++ wR G (ad 3) k2 r2 ++ wK (ad 4) ++ [(q9, .inr (9, [e1, e2, e3, .null, .null, .int 0, .int (eS (tB r t) (-1) (eS (decide (¬ sp < 0 ∧ ¬ mi < 0)) (-4) (eS (decide (sp ≤ 9 ∧ mi ≤ 99)) (-6) (eS (pSt r (ix t)) (-3) 0))))]))])) ⟨C0, hK, hP, hD, hS, hA⟩ 31 rfl (ci := 9) rfl rfl ((m_X11_number l G q9 e1 e2 e3 (eS (tB r t) (-1) (eS (decide (¬ sp < 0 ∧ ¬ mi < 0)) (-4) (eS (decide (sp ≤ 9 ∧ mi ≤ 99)) (-6) (eS (pSt r (ix t)) (-3) 0)))))) (va_cwA (owner := "PulledFromUnder$Refusal") 0 hts (lw_U q990 q992 q996 q997 q100 q998) rfl rfl rfl (hK.2.D 13 rfl) (by decide +kernel) ⟨Nat.le_of_ble_eq_true rfl, Nat.le_of_ble_eq_true rfl⟩) [31] [0, 2, 4, 6, 8, 10, 12, 14, 16, 18, 20, 22, 24, 26, 28, 30, 32, 34, 36, 38, 40, 42, 44, 46, 48, 50, 52, 54, 56, 58, 60, 1] rfl (fun _ => rfl) rfl rfl hl.1 rfl (Nat.le_of_ble_eq_true rfl) dX0_act_55 ⟨(Nat.le_of_ble_eq_true rfl), (Nat.le_of_ble_eq_true rfl)⟩ (fun r_4 u_4 H locs hw_4 hP hD hS => ?_)
          have hw_4 : (eS (tB r t) (-1) (eS (decide (¬ sp < 0 ∧ ¬ mi < 0)) (-4) (eS (decide (sp ≤ 9 ∧ mi ≤ 99)) (-6) (eS (pSt r (ix t)) (-3) 0))) : Int32) = r_4 := hw_4.symm
          subst hw_4
          refine x_Vi (wN := fun _ => (wX G ad ho rn ln dr ro lt (rfU rf (eS (tB r t) (-1) (eS (decide (¬ sp < 0 ∧ ¬ mi < 0)) (-4) (eS (decide (sp ≤ 9 ∧ mi ≤ 99)) (-6) (eS (pSt r (ix t)) (-3) 0))))) th sb ++ wR G (ad 1) kd r ++ wR G (ad 2) k1 r1 ++ wR G (ad 3) k2 r2 ++ wK (ad 4) ++ [(q9, .inr (9, [e1, e2, e3, .null, .null, .int 0, .int (eS (tB r t) (-1) (eS (decide (¬ sp < 0 ∧ ¬ mi < 0)) (-4) (eS (decide (sp ≤ 9 ∧ mi ≤ 99)) (-6) (eS (pSt r (ix t)) (-3) 0))))]))])) ⟨C0, hK, hP, hD, hS, hA⟩ 0 rfl (ci := 0) rfl rfl ((m_refuse l G ad kd k1 k2 r r1 r2 ho rn ln dr ro lt rf th sb hr hp hk (eS (tB r t) (-1) (eS (decide (¬ sp < 0 ∧ ¬ mi < 0)) (-4) (eS (decide (sp ≤ 9 ∧ mi ≤ 99)) (-6) (eS (pSt r (ix t)) (-3) 0)))) (rfOk_S rfOk_k.1 (rfOk_S rfOk_k.2.2.2.1 (rfOk_S rfOk_k.2.2.2.2 (rfOk_S rfOk_k.2.2.1 rfOk_0)))))) (cwV 1 hts (lw_V q999 q1001 qs62 q86 q1002) rfl rfl rfl (by decide +kernel) ⟨Nat.le_of_ble_eq_true rfl, Nat.le_of_ble_eq_true rfl⟩) [0, 1, 2, 3, 4, 5, 6, 7, 8, 9, 10, 11, 12, 13, 14, 15, 16, 17, 18, 19, 20, 21, 22, 23, 24, 25, 26, 27, 28, 29, 30] [1, 3, 5, 7, 9, 11, 13, 15, 17, 19, 21, 23, 25, 27, 29, 31, 33, 35, 37, 39, 41, 43, 45, 47, 49, 51, 53, 55, 57, 59, 61, 62] rfl (fun _ => rfl) rfl rfl hl.1 rfl (Nat.le_of_ble_eq_true rfl) dX0_act_58 ⟨(Nat.le_of_ble_eq_true rfl), (Nat.le_of_ble_eq_true rfl)⟩ (fun r_5 u_5 H locs hw_5 hP hD hS => ?_)
          have hw_5 : (eS (tB r t) (-1) (eS (decide (¬ sp < 0 ∧ ¬ mi < 0)) (-4) (eS (decide (sp ≤ 9 ∧ mi ≤ 99)) (-6) (eS (pSt r (ix t)) (-3) 0))) : Int32) = r_5 := hw_5.symm
          subst hw_5
          have hP : va_P G.1 vwCl (wX G ad ho rn ln dr ro lt (rfU rf (eS (tB r t) (-1) (eS (decide (¬ sp < 0 ∧ ¬ mi < 0)) (-4) (eS (decide (sp ≤ 9 ∧ mi ≤ 99)) (-6) (eS (pSt r (ix t)) (-3) 0))))) th sb ++ wR G (ad 1) kd r ++ wR G (ad 2) k1 r1 ++ wR G (ad 3) k2 r2 ++ wK (ad 4) ++ [(q9, .inr (9, [e1, e2, e3, .null, .null, .int 0, .int (eS (tB r t) (-1) (eS (decide (¬ sp < 0 ∧ ¬ mi < 0)) (-4) (eS (decide (sp ≤ 9 ∧ mi ≤ 99)) (-6) (eS (pSt r (ix t)) (-3) 0))))]))]) H := hP
          have hD : va_D A (wX G ad ho rn ln dr ro lt (rfU rf (eS (tB r t) (-1) (eS (decide (¬ sp < 0 ∧ ¬ mi < 0)) (-4) (eS (decide (sp ≤ 9 ∧ mi ≤ 99)) (-6) (eS (pSt r (ix t)) (-3) 0))))) th sb ++ wR G (ad 1) kd r ++ wR G (ad 2) k1 r1 ++ wR G (ad 3) k2 r2 ++ wK (ad 4) ++ [(q9, .inr (9, [e1, e2, e3, .null, .null, .int 0, .int (eS (tB r t) (-1) (eS (decide (¬ sp < 0 ∧ ¬ mi < 0)) (-4) (eS (decide (sp ≤ 9 ∧ mi ≤ 99)) (-6) (eS (pSt r (ix t)) (-3) 0))))]))]) := hD
          have hP := x_dropP hP
          have hD := x_dropD hD
          have hP : va_P G.1 vwCl (wX G ad ho rn ln dr ro lt (sel (eS (tB r t) (-1) (eS (decide (¬ sp < 0 ∧ ¬ mi < 0)) (-4) (eS (decide (sp ≤ 9 ∧ mi ≤ 99)) (-6) (eS (pSt r (ix t)) (-3) 0)))) rf (rfU rf (eS (tB r t) (-1) (eS (decide (¬ sp < 0 ∧ ¬ mi < 0)) (-4) (eS (decide (sp ≤ 9 ∧ mi ≤ 99)) (-6) (eS (pSt r (ix t)) (-3) 0)))))) th sb ++ wR G (ad 1) kd r ++ wR G (ad 2) ((k1, r1).1) ((k1, r1).2) ++ wR G (ad 3) k2 r2 ++ wK (ad 4)) H := by simp only [sel_n hne]; exact hP
          have hD : va_D A (wX G ad ho rn ln dr ro lt (sel (eS (tB r t) (-1) (eS (decide (¬ sp < 0 ∧ ¬ mi < 0)) (-4) (eS (decide (sp ≤ 9 ∧ mi ≤ 99)) (-6) (eS (pSt r (ix t)) (-3) 0)))) rf (rfU rf (eS (tB r t) (-1) (eS (decide (¬ sp < 0 ∧ ¬ mi < 0)) (-4) (eS (decide (sp ≤ 9 ∧ mi ≤ 99)) (-6) (eS (pSt r (ix t)) (-3) 0)))))) th sb ++ wR G (ad 1) kd r ++ wR G (ad 2) ((k1, r1).1) ((k1, r1).2) ++ wR G (ad 3) k2 r2 ++ wK (ad 4)) := by simp only [sel_n hne]; exact hD
          refine hret _ _ _ _ _ _ (eS (tB r t) (-1) (eS (decide (¬ sp < 0 ∧ ¬ mi < 0)) (-4) (eS (decide (sp ≤ 9 ∧ mi ≤ 99)) (-6) (eS (pSt r (ix t)) (-3) 0)))) (k1, r1) dX0_act_61 ?_ hP hD hS (Nat.le_of_ble_eq_true rfl) (Nat.le_of_ble_eq_true rfl)
          exact (sel_n hne).symm
        · skip
          have hP : va_P G.1 vwCl (wX G ad ho rn ln dr ro lt rf th sb ++ wR G (ad 1) kd r ++ wR G (ad 2) k1 r1 ++ wR G (ad 3) k2 r2 ++ wK (ad 4) ++ [(q9, .inr (11, [e1, e2, e3, .null, .null, .int 0, .int en]))]) H := hP
          have hD : va_D A (wX G ad ho rn ln dr ro lt rf th sb ++ wR G (ad 1) kd r ++ wR G (ad 2) k1 r1 ++ wR G (ad 3) k2 r2 ++ wK (ad 4) ++ [(q9, .inr (11, [e1, e2, e3, .null, .null, .int 0, .int en]))]) := hD
          obtain ⟨een, hne⟩ := hthr9
          have een : en = eS (tB r t) (-1) (eS (decide (¬ sp < 0 ∧ ¬ mi < 0)) (-4) (eS (decide (sp ≤ 9 ∧ mi ≤ 99)) (-6) (eS (pSt r (ix t)) (-3) 0))) := een
          subst een
          have hP : va_P G.1 vwCl (wX G ad ho rn ln dr ro lt rf th sb ++ wR G (ad 1) kd r ++ wR G (ad 2) k1 r1 ++ wR G (ad 3) k2 r2 ++ wK (ad 4) ++ [(q9, .inr (11, [e1, e2, e3, .null, .null, .int 0, .int (eS (tB r t) (-1) (eS (decide (¬ sp < 0 ∧ ¬ mi < 0)) (-4) (eS (decide (sp ≤ 9 ∧ mi ≤ 99)) (-6) (eS (pSt r (ix t)) (-3) 0))))]))]) H := hP
          have hD : va_D A (wX G ad ho rn ln dr ro lt rf th sb ++ wR G (ad 1) kd r ++ wR G (ad 2) k1 r1 ++ wR G (ad 3) k2 r2 ++ wK (ad 4) ++ [(q9, .inr (11, [e1, e2, e3, .null, .null, .int 0, .int (eS (tB r t) (-1) (eS (decide (¬ sp < 0 ∧ ¬ mi < 0)) (-4) (eS (decide (sp ≤ 9 ∧ mi ≤ 99)) (-6) (eS (pSt r (ix t)) (-3) 0))))]))]) := hD
          refine x_Ui (wN := fun _ => (wX G ad ho rn ln dr ro lt rf th sb ++ wR G (ad 1) kd r ++ wR G (ad 2) k1 r1 ++ wR G (ad 3) k2 r2 ++ wK (ad 4) ++ [(q9, .inr (11, [e1, e2, e3, .null, .null, .int 0, .int (eS (tB r t) (-1) (eS (decide (¬ sp < 0 ∧ ¬ mi < 0)) (-4) (eS (decide (sp ≤ 9 ∧ mi ≤ 99)) (-6) (eS (pSt r (ix t)) (-3) 0))))]))])) ⟨C0, hK, hP, hD, hS, hA⟩ 31 rfl (ci := 11) rfl rfl ((m_X13_number l G q9 e1 e2 e3 (eS (tB r t) (-1) (eS (decide (¬ sp < 0 ∧ ¬ mi < 0)) (-4) (eS (decide (sp ≤ 9 ∧ mi ≤ 99)) (-6) (eS (pSt r (ix t)) (-3) 0)))))) (va_cwA (owner := "PulledFromUnder$Refusal") 0 hts (lw_U q990 q992 q993 q994 q102 q995) rfl rfl rfl (hK.2.D 13 rfl) (by decide +kernel) ⟨Nat.le_of_ble_eq_true rfl, Nat.le_of_ble_eq_true rfl⟩) [31] [0, 2, 4, 6, 8, 10, 12, 14, 16, 18, 20, 22, 24, 26, 28, 30, 32, 34, 36, 38, 40, 42, 44, 46, 48, 50, 52, 54, 56, 58, 60, 1] rfl (fun _ => rfl) rfl rfl hl.1 rfl (Nat.le_of_ble_eq_true rfl) dX0_act_55 ⟨(Nat.le_of_ble_eq_true rfl), (Nat.le_of_ble_eq_true rfl)⟩ (fun r_6 u_6 H locs hw_6 hP hD hS => ?_)
          have hw_6 : (eS (tB r t) (-1) (eS (decide (¬ sp < 0 ∧ ¬ mi < 0)) (-4) (eS (decide (sp ≤ 9 ∧ mi ≤ 99)) (-6) (eS (pSt r (ix t)) (-3) 0))) : Int32) = r_6 := hw_6.symm
          subst hw_6
          refine x_Vi (wN := fun _ => (wX G ad ho rn ln dr ro lt (rfU rf (eS (tB r t) (-1) (eS (decide (¬ sp < 0 ∧ ¬ mi < 0)) (-4) (eS (decide (sp ≤ 9 ∧ mi ≤ 99)) (-6) (eS (pSt r (ix t)) (-3) 0))))) th sb ++ wR G (ad 1) kd r ++ wR G (ad 2) k1 r1 ++ wR G (ad 3) k2 r2 ++ wK (ad 4) ++ [(q9, .inr (11, [e1, e2, e3, .null, .null, .int 0, .int (eS (tB r t) (-1) (eS (decide (¬ sp < 0 ∧ ¬ mi < 0)) (-4) (eS (decide (sp ≤ 9 ∧ mi ≤ 99)) (-6) (eS (pSt r (ix t)) (-3) 0))))]))])) ⟨C0, hK, hP, hD, hS, hA⟩ 0 rfl (ci := 0) rfl rfl ((m_refuse l G ad kd k1 k2 r r1 r2 ho rn ln dr ro lt rf th sb hr hp hk (eS (tB r t) (-1) (eS (decide (¬ sp < 0 ∧ ¬ mi < 0)) (-4) (eS (decide (sp ≤ 9 ∧ mi ≤ 99)) (-6) (eS (pSt r (ix t)) (-3) 0)))) (rfOk_S rfOk_k.1 (rfOk_S rfOk_k.2.2.2.1 (rfOk_S rfOk_k.2.2.2.2 (rfOk_S rfOk_k.2.2.1 rfOk_0)))))) (cwV 1 hts (lw_V q999 q1001 qs62 q86 q1002) rfl rfl rfl (by decide +kernel) ⟨Nat.le_of_ble_eq_true rfl, Nat.le_of_ble_eq_true rfl⟩) [0, 1, 2, 3, 4, 5, 6, 7, 8, 9, 10, 11, 12, 13, 14, 15, 16, 17, 18, 19, 20, 21, 22, 23, 24, 25, 26, 27, 28, 29, 30] [1, 3, 5, 7, 9, 11, 13, 15, 17, 19, 21, 23, 25, 27, 29, 31, 33, 35, 37, 39, 41, 43, 45, 47, 49, 51, 53, 55, 57, 59, 61, 62] rfl (fun _ => rfl) rfl rfl hl.1 rfl (Nat.le_of_ble_eq_true rfl) dX0_act_58 ⟨(Nat.le_of_ble_eq_true rfl), (Nat.le_of_ble_eq_true rfl)⟩ (fun r_7 u_7 H locs hw_7 hP hD hS => ?_)
          have hw_7 : (eS (tB r t) (-1) (eS (decide (¬ sp < 0 ∧ ¬ mi < 0)) (-4) (eS (decide (sp ≤ 9 ∧ mi ≤ 99)) (-6) (eS (pSt r (ix t)) (-3) 0))) : Int32) = r_7 := hw_7.symm
          subst hw_7
          have hP : va_P G.1 vwCl (wX G ad ho rn ln dr ro lt (rfU rf (eS (tB r t) (-1) (eS (decide (¬ sp < 0 ∧ ¬ mi < 0)) (-4) (eS (decide (sp ≤ 9 ∧ mi ≤ 99)) (-6) (eS (pSt r (ix t)) (-3) 0))))) th sb ++ wR G (ad 1) kd r ++ wR G (ad 2) k1 r1 ++ wR G (ad 3) k2 r2 ++ wK (ad 4) ++ [(q9, .inr (11, [e1, e2, e3, .null, .null, .int 0, .int (eS (tB r t) (-1) (eS (decide (¬ sp < 0 ∧ ¬ mi < 0)) (-4) (eS (decide (sp ≤ 9 ∧ mi ≤ 99)) (-6) (eS (pSt r (ix t)) (-3) 0))))]))]) H := hP
          have hD : va_D A (wX G ad ho rn ln dr ro lt (rfU rf (eS (tB r t) (-1) (eS (decide (¬ sp < 0 ∧ ¬ mi < 0)) (-4) (eS (decide (sp ≤ 9 ∧ mi ≤ 99)) (-6) (eS (pSt r (ix t)) (-3) 0))))) th sb ++ wR G (ad 1) kd r ++ wR G (ad 2) k1 r1 ++ wR G (ad 3) k2 r2 ++ wK (ad 4) ++ [(q9, .inr (11, [e1, e2, e3, .null, .null, .int 0, .int (eS (tB r t) (-1) (eS (decide (¬ sp < 0 ∧ ¬ mi < 0)) (-4) (eS (decide (sp ≤ 9 ∧ mi ≤ 99)) (-6) (eS (pSt r (ix t)) (-3) 0))))]))]) := hD
          have hP := x_dropP hP
          have hD := x_dropD hD
          have hP : va_P G.1 vwCl (wX G ad ho rn ln dr ro lt (sel (eS (tB r t) (-1) (eS (decide (¬ sp < 0 ∧ ¬ mi < 0)) (-4) (eS (decide (sp ≤ 9 ∧ mi ≤ 99)) (-6) (eS (pSt r (ix t)) (-3) 0)))) rf (rfU rf (eS (tB r t) (-1) (eS (decide (¬ sp < 0 ∧ ¬ mi < 0)) (-4) (eS (decide (sp ≤ 9 ∧ mi ≤ 99)) (-6) (eS (pSt r (ix t)) (-3) 0)))))) th sb ++ wR G (ad 1) kd r ++ wR G (ad 2) ((k1, r1).1) ((k1, r1).2) ++ wR G (ad 3) k2 r2 ++ wK (ad 4)) H := by simp only [sel_n hne]; exact hP
          have hD : va_D A (wX G ad ho rn ln dr ro lt (sel (eS (tB r t) (-1) (eS (decide (¬ sp < 0 ∧ ¬ mi < 0)) (-4) (eS (decide (sp ≤ 9 ∧ mi ≤ 99)) (-6) (eS (pSt r (ix t)) (-3) 0)))) rf (rfU rf (eS (tB r t) (-1) (eS (decide (¬ sp < 0 ∧ ¬ mi < 0)) (-4) (eS (decide (sp ≤ 9 ∧ mi ≤ 99)) (-6) (eS (pSt r (ix t)) (-3) 0)))))) th sb ++ wR G (ad 1) kd r ++ wR G (ad 2) ((k1, r1).1) ((k1, r1).2) ++ wR G (ad 3) k2 r2 ++ wK (ad 4)) := by simp only [sel_n hne]; exact hD
          refine hret _ _ _ _ _ _ (eS (tB r t) (-1) (eS (decide (¬ sp < 0 ∧ ¬ mi < 0)) (-4) (eS (decide (sp ≤ 9 ∧ mi ≤ 99)) (-6) (eS (pSt r (ix t)) (-3) 0)))) (k1, r1) dX0_act_61 ?_ hP hD hS (Nat.le_of_ble_eq_true rfl) (Nat.le_of_ble_eq_true rfl)
          exact (sel_n hne).symm
      · skip
        obtain ⟨hz_3, hw_3⟩ := hw_3
        have hw_3 : (pFL r (ix t) sp (ix mi) : Int32) = r_3 := hw_3.symm
        subst hw_3
        have hP : va_P G.1 vwCl (wX G ad ho rn ln dr ro lt rf th sb ++ wR G (ad 1) kd r ++ wR G (ad 2) u_3.1 u_3.2 ++ wR G (ad 3) k2 r2 ++ wK (ad 4)) H := hP
        have hD : va_D A (wX G ad ho rn ln dr ro lt rf th sb ++ wR G (ad 1) kd r ++ wR G (ad 2) u_3.1 u_3.2 ++ wR G (ad 3) k2 r2 ++ wK (ad 4)) := hD
        refine W.widen (k := 4) (n := 28) (Nat.le_of_ble_eq_true rfl) (Nat.le_of_ble_eq_true rfl) ?_
        refine lv_goto (tgt := 49) hx hb dX0_act_33 (by decide) ?_
        have hP : va_P G.1 vwCl (wX G ad ho rn ln dr ro lt (sel (eS (tB r t) (-1) (eS (decide (¬ sp < 0 ∧ ¬ mi < 0)) (-4) (eS (decide (sp ≤ 9 ∧ mi ≤ 99)) (-6) (eS (pSt r (ix t)) (-3) 0)))) rf (rfU rf (eS (tB r t) (-1) (eS (decide (¬ sp < 0 ∧ ¬ mi < 0)) (-4) (eS (decide (sp ≤ 9 ∧ mi ≤ 99)) (-6) (eS (pSt r (ix t)) (-3) 0)))))) th sb ++ wR G (ad 1) kd r ++ wR G (ad 2) u_3.1 u_3.2 ++ wR G (ad 3) k2 r2 ++ wK (ad 4)) H := by simp only [sel_0 hz_3]; exact hP
        have hD : va_D A (wX G ad ho rn ln dr ro lt (sel (eS (tB r t) (-1) (eS (decide (¬ sp < 0 ∧ ¬ mi < 0)) (-4) (eS (decide (sp ≤ 9 ∧ mi ≤ 99)) (-6) (eS (pSt r (ix t)) (-3) 0)))) rf (rfU rf (eS (tB r t) (-1) (eS (decide (¬ sp < 0 ∧ ¬ mi < 0)) (-4) (eS (decide (sp ≤ 9 ∧ mi ≤ 99)) (-6) (eS (pSt r (ix t)) (-3) 0)))))) th sb ++ wR G (ad 1) kd r ++ wR G (ad 2) u_3.1 u_3.2 ++ wR G (ad 3) k2 r2 ++ wK (ad 4)) := by simp only [sel_0 hz_3]; exact hD
        refine hret _ _ _ _ _ _ (pFL r (ix t) sp (ix mi)) u_3 dX0_act_49 ?_ hP hD hS (Nat.le_of_ble_eq_true rfl) (Nat.le_of_ble_eq_true rfl)
        exact (sel_0 hz_3).symm
  · skip
    exact absurd c_1 (by decide)
set_option maxHeartbeats 4000000 in
set_option maxRecDepth 100000 in
theorem m_act_17 (l : Launch) (hl0 : l.stackTraces = false) (G : xG) (ad : Nat → Nat → Nat) (kd k1 k2 : Nat → Option Nat) (r r1 r2 : Rw) (ho rn ln dr : Int32) (ro lt rf th sb : Nat → Int32) (hr : Ok r) (hp : r 5 3 = 0) (hk : kOk (ad 4) kd r) (t mi w z10 z11 : Int32) : zCi l G yX0_act (wsW_ yX0_act cX0_act 8 (some .int) [(0, 49, 50, 239)]) ({ frames := 12, cells := 4, slots := 28, locals := 232 } : Room) [.ref (ad 0 0), .int 17, .int t, .int mi, .int w, .int z10, .int z11] (wX G ad ho rn ln dr ro lt rf th sb ++ wR G (ad 1) kd r ++ wR G (ad 2) k1 r1 ++ wR G (ad 3) k2 r2 ++ wK (ad 4)) (S := ((Nat → Option Nat) × Rw)) (fun v _ => v = sel (eS (tB r t) (-1) (eW (wBy mi.toInt 0 30) (eS (inR w 0 1) (-2) 0))) (pMost r (ix t) (ix mi) w) (eS (tB r t) (-1) (eW (wBy mi.toInt 0 30) (eS (inR w 0 1) (-2) 0)))) (fun u => (wX G ad ho rn ln dr ro lt (sel (eS (tB r t) (-1) (eW (wBy mi.toInt 0 30) (eS (inR w 0 1) (-2) 0))) rf (rfU rf (eS (tB r t) (-1) (eW (wBy mi.toInt 0 30) (eS (inR w 0 1) (-2) 0))))) th sb ++ wR G (ad 1) kd r ++ wR G (ad 2) u.1 u.2 ++ wR G (ad 3) k2 r2 ++ wK (ad 4))) := by
  refine z_openiW (hh := [(0, 49, 50, 239)]) (by decide) (Nat.le_of_ble_eq_true rfl) (fun _ _ _ => rfl) ?_
  intro p e s m args below meth c A Q ls C0 hK hZ hP hD hA hl htb hret
  obtain ⟨hx, hb, hml, hown, hts⟩ := id C0
  have hS : va_S A s.heap s.heap [] := va_S.rf
  have hP : va_P G.1 vwCl (wX G ad ho rn ln dr ro lt rf th sb ++ wR G (ad 1) kd r ++ wR G (ad 2) k1 r1 ++ wR G (ad 3) k2 r2 ++ wK (ad 4)) s.heap := hP
  have hD : va_D A (wX G ad ho rn ln dr ro lt rf th sb ++ wR G (ad 1) kd r ++ wR G (ad 2) k1 r1 ++ wR G (ad 3) k2 r2 ++ wK (ad 4)) := hD
  have hl : lv_has ls 8 [(0, .ref (ad 0 0)), (1, .int 17), (2, .int t), (3, .int mi), (4, .int w), (5, .int z10), (6, .int z11)] := hl
  have hr0 := hr.n
  have hN := hr.le
  refine lv_iload_n hx hb dX0_act_0 rfl (lv_at hl 1 rfl) ?_
  refine lv_bipush (v := 9) hx hb dX0_act_1 (by decide) ?_
  refine lv_icmp_ge (tgt := 18) hx hb dX0_act_3 (by decide) (fun c_1 => ?_) (fun c_1 => ?_)
  · skip
    refine lv_iload_n hx hb dX0_act_18 rfl (lv_at hl 1 rfl) ?_
    refine lv_bipush (v := 18) hx hb dX0_act_19 (by decide) ?_
    refine lv_icmp_ge (tgt := 36) hx hb dX0_act_21 (by decide) (fun c_2 => ?_) (fun c_2 => ?_)
    · skip
      exact absurd c_2 (by decide)
    · skip
      refine lv_aload_n hx hb dX0_act_24 rfl (lv_at hl 0 rfl) ?_
      refine lv_iload_n hx hb dX0_act_25 rfl (lv_at hl 1 rfl) ?_
      refine lv_iload_n hx hb dX0_act_26 rfl (lv_at hl 2 rfl) ?_
      refine lv_iload_n hx hb dX0_act_27 rfl (lv_at hl 3 rfl) ?_
      refine lv_iload hx hb dX0_act_28 (lv_at hl 4 rfl) ?_
      refine y_Vi (wN := fun u_3 => (wX G ad ho rn ln dr ro lt rf th sb ++ wR G (ad 1) kd r ++ wR G (ad 2) u_3.1 u_3.2 ++ wR G (ad 3) k2 r2 ++ wK (ad 4))) (wNx := fun u9 => (wX G ad ho rn ln dr ro lt rf th sb ++ wR G (ad 1) kd r ++ wR G (ad 2) k1 r1 ++ wR G (ad 3) k2 r2 ++ wK (ad 4))) ⟨C0, hK, hP, hD, hS, hA⟩ hZ 0 rfl (ci := 0) rfl rfl ((m_of_17 l hl0 G ad kd k1 k2 r r1 r2 ho rn ln dr ro lt rf th sb hr hp hk t mi w)) (cwV 4 hts (lw_V q778 q780 qs22 q86 q781) rfl rfl rfl (by decide +kernel) ⟨Nat.le_of_ble_eq_true rfl, Nat.le_of_ble_eq_true rfl⟩) [0, 1, 2, 3, 4, 5, 6, 7, 8, 9, 10, 11, 12, 13, 14, 15, 16, 17, 18, 19, 20, 21, 22, 23, 24, 25, 26, 27, 28, 29, 30] [1, 3, 5, 7, 9, 11, 13, 15, 17, 19, 21, 23, 25, 27, 29, 31, 33, 35, 37, 39, 41, 43, 45, 47, 49, 51, 53, 55, 57, 59, 61] [1, 3, 5, 7, 9, 11, 13, 15, 17, 19, 21, 23, 25, 27, 29, 31, 33, 35, 37, 39, 41, 43, 45, 47, 49, 51, 53, 55, 57, 59, 61, 63] rfl (fun _ => rfl) (fun _ _ _ => rfl) rfl rfl rfl hl.1 rfl (Nat.le_of_ble_eq_true rfl) dX0_act_30 ⟨(Nat.le_of_ble_eq_true rfl), (Nat.le_of_ble_eq_true rfl)⟩ (fun q9 u9 ee H locs hw_3 hP hD hS => ?_) (fun r_3 u_3 H locs hw_3 hP hD hS => ?_)
      · skip
        refine z_catch ⟨0, 49, 50, 239⟩ hown hK htb rfl (by decide) (by decide) (hts _ q273) hP ?_
        have hthr9 : ee.2.1 = eS (tB r t) (-1) (eW (wBy mi.toInt 0 30) (eS (inR w 0 1) (-2) 0)) ∧ eS (tB r t) (-1) (eW (wBy mi.toInt 0 30) (eS (inR w 0 1) (-2) 0)) ≠ 0 := hw_3
        refine lv_astore (lv' := [(7, .ref q9), (0, .ref (ad 0 0)), (1, .int 17), (2, .int t), (3, .int mi), (4, .int w), (5, .int z10), (6, .int z11)]) hx hb dX0_act_50 hl (by decide) rfl (fun ls hl => ?_)
        refine lv_aload_n hx hb dX0_act_52 rfl (lv_at hl 1 rfl) ?_
        refine lv_aload hx hb dX0_act_53 (lv_at hl 0 rfl) ?_
        obtain ⟨ek, en, e1, e2, e3⟩ := ee
        cases ek
        · skip
          have hP : va_P G.1 vwCl (wX G ad ho rn ln dr ro lt rf th sb ++ wR G (ad 1) kd r ++ wR G (ad 2) k1 r1 ++ wR G (ad 3) k2 r2 ++ wK (ad 4) ++ [(q9, .inr (9, [e1, e2, e3, .null, .null, .int 0, .int en]))]) H := hP
          have hD : va_D A (wX G ad ho rn ln dr ro lt rf th sb ++ wR G (ad 1) kd r ++ wR G (ad 2) k1 r1 ++ wR G (ad 3) k2 r2 ++ wK (ad 4) ++ [(q9, .inr (9, [e1, e2, e3, .null, .null, .int 0, .int en]))]) := hD
          obtain ⟨een, hne⟩ := hthr9
          have een : en = eS (tB r t) (-1) (eW (wBy mi.toInt 0 30) (eS (inR w 0 1) (-2) 0)) := een
          subst een
          have hP : va_P G.1 vwCl (wX G ad ho rn ln dr ro lt rf th sb ++ wR G (ad 1) kd r ++ wR G (ad 2) k1 r1 ++ wR G (ad 3) k2 r2 ++ wK (ad 4) ++ [(q9, .inr (9, [e1, e2, e3, .null, .null, .int 0, .int (eS (tB r t) (-1) (eW (wBy mi.toInt 0 30) (eS (inR w 0 1) (-2) 0)))]))]) H := hP
          have hD : va_D A (wX G ad ho rn ln dr ro lt rf th sb ++ wR G (ad 1) kd r ++ wR G (ad 2) k1 r1 ++ wR G (ad 3) k2 r2 ++ wK (ad 4) ++ [(q9, .inr (9, [e1, e2, e3, .null, .null, .int 0, .int (eS (tB r t) (-1) (eW (wBy mi.toInt 0 30) (eS (inR w 0 1) (-2) 0)))]))]) := hD
          refine x_Ui (wN := fun _ => (wX G ad ho rn ln dr ro lt rf th sb ++ wR G (ad 1) kd r ++ wR G (ad 2) k1 r1 ++ wR G (ad 3) k2 r2 ++ wK (ad 4) ++ [(q9, .inr (9, [e1, e2, e3, .null, .null, .int 0, .int (eS (tB r t) (-1) (eW (wBy mi.toInt 0 30) (eS (inR w 0 1) (-2) 0)))]))])) ⟨C0, hK, hP, hD, hS, hA⟩ 31 rfl (ci := 9) rfl rfl ((m_X11_number l G q9 e1 e2 e3 (eS (tB r t) (-1) (eW (wBy mi.toInt 0 30) (eS (inR w 0 1) (-2) 0))))) (va_cwA (owner := "PulledFromUnder$Refusal") 0 hts (lw_U q990 q992 q996 q997 q100 q998) rfl rfl rfl (hK.2.D 13 rfl) (by decide +kernel) ⟨Nat.le_of_ble_eq_true rfl, Nat.le_of_ble_eq_true rfl⟩) [31] [0, 2, 4, 6, 8, 10, 12, 14, 16, 18, 20, 22, 24, 26, 28, 30, 32, 34, 36, 38, 40, 42, 44, 46, 48, 50, 52, 54, 56, 58, 60, 1] rfl (fun _ => rfl) rfl rfl hl.1 rfl (Nat.le_of_ble_eq_true rfl) dX0_act_55 ⟨(Nat.le_of_ble_eq_true rfl), (Nat.le_of_ble_eq_true rfl)⟩ (fun r_4 u_4 H locs hw_4 hP hD hS => ?_)
          have hw_4 : (eS (tB r t) (-1) (eW (wBy mi.toInt 0 30) (eS (inR w 0 1) (-2) 0)) : Int32) = r_4 := hw_4.symm
          subst hw_4
          refine x_Vi (wN := fun _ => (wX G ad ho rn ln dr ro lt (rfU rf (eS (tB r t) (-1) (eW (wBy mi.toInt 0 30) (eS (inR w 0 1) (-2) 0)))) th sb ++ wR G (ad 1) kd r ++ wR G (ad 2) k1 r1 ++ wR G (ad 3) k2 r2 ++ wK (ad 4) ++ [(q9, .inr (9, [e1, e2, e3, .null, .null, .int 0, .int (eS (tB r t) (-1) (eW (wBy mi.toInt 0 30) (eS (inR w 0 1) (-2) 0)))]))])) ⟨C0, hK, hP, hD, hS, hA⟩ 0 rfl (ci := 0) rfl rfl ((m_refuse l G ad kd k1 k2 r r1 r2 ho rn ln dr ro lt rf th sb hr hp hk (eS (tB r t) (-1) (eW (wBy mi.toInt 0 30) (eS (inR w 0 1) (-2) 0))) (rfOk_S rfOk_k.1 (rfOk_W (rfOk_S rfOk_k.2.1 rfOk_0))))) (cwV 1 hts (lw_V q999 q1001 qs62 q86 q1002) rfl rfl rfl (by decide +kernel) ⟨Nat.le_of_ble_eq_true rfl, Nat.le_of_ble_eq_true rfl⟩) [0, 1, 2, 3, 4, 5, 6, 7, 8, 9, 10, 11, 12, 13, 14, 15, 16, 17, 18, 19, 20, 21, 22, 23, 24, 25, 26, 27, 28, 29, 30] [1, 3, 5, 7, 9, 11, 13, 15, 17, 19, 21, 23, 25, 27, 29, 31, 33, 35, 37, 39, 41, 43, 45, 47, 49, 51, 53, 55, 57, 59, 61, 62] rfl (fun _ => rfl) rfl rfl hl.1 rfl (Nat.le_of_ble_eq_true rfl) dX0_act_58 ⟨(Nat.le_of_ble_eq_true rfl), (Nat.le_of_ble_eq_true rfl)⟩ (fun r_5 u_5 H locs hw_5 hP hD hS => ?_)
          have hw_5 : (eS (tB r t) (-1) (eW (wBy mi.toInt 0 30) (eS (inR w 0 1) (-2) 0)) : Int32) = r_5 := hw_5.symm
          subst hw_5
          have hP : va_P G.1 vwCl (wX G ad ho rn ln dr ro lt (rfU rf (eS (tB r t) (-1) (eW (wBy mi.toInt 0 30) (eS (inR w 0 1) (-2) 0)))) th sb ++ wR G (ad 1) kd r ++ wR G (ad 2) k1 r1 ++ wR G (ad 3) k2 r2 ++ wK (ad 4) ++ [(q9, .inr (9, [e1, e2, e3, .null, .null, .int 0, .int (eS (tB r t) (-1) (eW (wBy mi.toInt 0 30) (eS (inR w 0 1) (-2) 0)))]))]) H := hP
          have hD : va_D A (wX G ad ho rn ln dr ro lt (rfU rf (eS (tB r t) (-1) (eW (wBy mi.toInt 0 30) (eS (inR w 0 1) (-2) 0)))) th sb ++ wR G (ad 1) kd r ++ wR G (ad 2) k1 r1 ++ wR G (ad 3) k2 r2 ++ wK (ad 4) ++ [(q9, .inr (9, [e1, e2, e3, .null, .null, .int 0, .int (eS (tB r t) (-1) (eW (wBy mi.toInt 0 30) (eS (inR w 0 1) (-2) 0)))]))]) := hD
          have hP := x_dropP hP
          have hD := x_dropD hD
          have hP : va_P G.1 vwCl (wX G ad ho rn ln dr ro lt (sel (eS (tB r t) (-1) (eW (wBy mi.toInt 0 30) (eS (inR w 0 1) (-2) 0))) rf (rfU rf (eS (tB r t) (-1) (eW (wBy mi.toInt 0 30) (eS (inR w 0 1) (-2) 0))))) th sb ++ wR G (ad 1) kd r ++ wR G (ad 2) ((k1, r1).1) ((k1, r1).2) ++ wR G (ad 3) k2 r2 ++ wK (ad 4)) H := by simp only [sel_n hne]; exact hP
          have hD : va_D A (wX G ad ho rn ln dr ro lt (sel (eS (tB r t) (-1) (eW (wBy mi.toInt 0 30) (eS (inR w 0 1) (-2) 0))) rf (rfU rf (eS (tB r t) (-1) (eW (wBy mi.toInt 0 30) (eS (inR w 0 1) (-2) 0))))) th sb ++ wR G (ad 1) kd r ++ wR G (ad 2) ((k1, r1).1) ((k1, r1).2) ++ wR G (ad 3) k2 r2 ++ wK (ad 4)) := by simp only [sel_n hne]; exact hD
          refine hret _ _ _ _ _ _ (eS (tB r t) (-1) (eW (wBy mi.toInt 0 30) (eS (inR w 0 1) (-2) 0))) (k1, r1) dX0_act_61 ?_ hP hD hS (Nat.le_of_ble_eq_true rfl) (Nat.le_of_ble_eq_true rfl)
          exact (sel_n hne).symm
        · skip
          have hP : va_P G.1 vwCl (wX G ad ho rn ln dr ro lt rf th sb ++ wR G (ad 1) kd r ++ wR G (ad 2) k1 r1 ++ wR G (ad 3) k2 r2 ++ wK (ad 4) ++ [(q9, .inr (11, [e1, e2, e3, .null, .null, .int 0, .int en]))]) H := hP
          have hD : va_D A (wX G ad ho rn ln dr ro lt rf th sb ++ wR G (ad 1) kd r ++ wR G (ad 2) k1 r1 ++ wR G (ad 3) k2 r2 ++ wK (ad 4) ++ [(q9, .inr (11, [e1, e2, e3, .null, .null, .int 0, .int en]))]) := hD
          obtain ⟨een, hne⟩ := hthr9
          have een : en = eS (tB r t) (-1) (eW (wBy mi.toInt 0 30) (eS (inR w 0 1) (-2) 0)) := een
          subst een
          have hP : va_P G.1 vwCl (wX G ad ho rn ln dr ro lt rf th sb ++ wR G (ad 1) kd r ++ wR G (ad 2) k1 r1 ++ wR G (ad 3) k2 r2 ++ wK (ad 4) ++ [(q9, .inr (11, [e1, e2, e3, .null, .null, .int 0, .int (eS (tB r t) (-1) (eW (wBy mi.toInt 0 30) (eS (inR w 0 1) (-2) 0)))]))]) H := hP
          have hD : va_D A (wX G ad ho rn ln dr ro lt rf th sb ++ wR G (ad 1) kd r ++ wR G (ad 2) k1 r1 ++ wR G (ad 3) k2 r2 ++ wK (ad 4) ++ [(q9, .inr (11, [e1, e2, e3, .null, .null, .int 0, .int (eS (tB r t) (-1) (eW (wBy mi.toInt 0 30) (eS (inR w 0 1) (-2) 0)))]))]) := hD
          refine x_Ui (wN := fun _ => (wX G ad ho rn ln dr ro lt rf th sb ++ wR G (ad 1) kd r ++ wR G (ad 2) k1 r1 ++ wR G (ad 3) k2 r2 ++ wK (ad 4) ++ [(q9, .inr (11, [e1, e2, e3, .null, .null, .int 0, .int (eS (tB r t) (-1) (eW (wBy mi.toInt 0 30) (eS (inR w 0 1) (-2) 0)))]))])) ⟨C0, hK, hP, hD, hS, hA⟩ 31 rfl (ci := 11) rfl rfl ((m_X13_number l G q9 e1 e2 e3 (eS (tB r t) (-1) (eW (wBy mi.toInt 0 30) (eS (inR w 0 1) (-2) 0))))) (va_cwA (owner := "PulledFromUnder$Refusal") 0 hts (lw_U q990 q992 q993 q994 q102 q995) rfl rfl rfl (hK.2.D 13 rfl) (by decide +kernel) ⟨Nat.le_of_ble_eq_true rfl, Nat.le_of_ble_eq_true rfl⟩) [31] [0, 2, 4, 6, 8, 10, 12, 14, 16, 18, 20, 22, 24, 26, 28, 30, 32, 34, 36, 38, 40, 42, 44, 46, 48, 50, 52, 54, 56, 58, 60, 1] rfl (fun _ => rfl) rfl rfl hl.1 rfl (Nat.le_of_ble_eq_true rfl) dX0_act_55 ⟨(Nat.le_of_ble_eq_true rfl), (Nat.le_of_ble_eq_true rfl)⟩ (fun r_6 u_6 H locs hw_6 hP hD hS => ?_)
          have hw_6 : (eS (tB r t) (-1) (eW (wBy mi.toInt 0 30) (eS (inR w 0 1) (-2) 0)) : Int32) = r_6 := hw_6.symm
          subst hw_6
          refine x_Vi (wN := fun _ => (wX G ad ho rn ln dr ro lt (rfU rf (eS (tB r t) (-1) (eW (wBy mi.toInt 0 30) (eS (inR w 0 1) (-2) 0)))) th sb ++ wR G (ad 1) kd r ++ wR G (ad 2) k1 r1 ++ wR G (ad 3) k2 r2 ++ wK (ad 4) ++ [(q9, .inr (11, [e1, e2, e3, .null, .null, .int 0, .int (eS (tB r t) (-1) (eW (wBy mi.toInt 0 30) (eS (inR w 0 1) (-2) 0)))]))])) ⟨C0, hK, hP, hD, hS, hA⟩ 0 rfl (ci := 0) rfl rfl ((m_refuse l G ad kd k1 k2 r r1 r2 ho rn ln dr ro lt rf th sb hr hp hk (eS (tB r t) (-1) (eW (wBy mi.toInt 0 30) (eS (inR w 0 1) (-2) 0))) (rfOk_S rfOk_k.1 (rfOk_W (rfOk_S rfOk_k.2.1 rfOk_0))))) (cwV 1 hts (lw_V q999 q1001 qs62 q86 q1002) rfl rfl rfl (by decide +kernel) ⟨Nat.le_of_ble_eq_true rfl, Nat.le_of_ble_eq_true rfl⟩) [0, 1, 2, 3, 4, 5, 6, 7, 8, 9, 10, 11, 12, 13, 14, 15, 16, 17, 18, 19, 20, 21, 22, 23, 24, 25, 26, 27, 28, 29, 30] [1, 3, 5, 7, 9, 11, 13, 15, 17, 19, 21, 23, 25, 27, 29, 31, 33, 35, 37, 39, 41, 43, 45, 47, 49, 51, 53, 55, 57, 59, 61, 62] rfl (fun _ => rfl) rfl rfl hl.1 rfl (Nat.le_of_ble_eq_true rfl) dX0_act_58 ⟨(Nat.le_of_ble_eq_true rfl), (Nat.le_of_ble_eq_true rfl)⟩ (fun r_7 u_7 H locs hw_7 hP hD hS => ?_)
          have hw_7 : (eS (tB r t) (-1) (eW (wBy mi.toInt 0 30) (eS (inR w 0 1) (-2) 0)) : Int32) = r_7 := hw_7.symm
          subst hw_7
          have hP : va_P G.1 vwCl (wX G ad ho rn ln dr ro lt (rfU rf (eS (tB r t) (-1) (eW (wBy mi.toInt 0 30) (eS (inR w 0 1) (-2) 0)))) th sb ++ wR G (ad 1) kd r ++ wR G (ad 2) k1 r1 ++ wR G (ad 3) k2 r2 ++ wK (ad 4) ++ [(q9, .inr (11, [e1, e2, e3, .null, .null, .int 0, .int (eS (tB r t) (-1) (eW (wBy mi.toInt 0 30) (eS (inR w 0 1) (-2) 0)))]))]) H := hP
          have hD : va_D A (wX G ad ho rn ln dr ro lt (rfU rf (eS (tB r t) (-1) (eW (wBy mi.toInt 0 30) (eS (inR w 0 1) (-2) 0)))) th sb ++ wR G (ad 1) kd r ++ wR G (ad 2) k1 r1 ++ wR G (ad 3) k2 r2 ++ wK (ad 4) ++ [(q9, .inr (11, [e1, e2, e3, .null, .null, .int 0, .int (eS (tB r t) (-1) (eW (wBy mi.toInt 0 30) (eS (inR w 0 1) (-2) 0)))]))]) := hD
          have hP := x_dropP hP
          have hD := x_dropD hD
          have hP : va_P G.1 vwCl (wX G ad ho rn ln dr ro lt (sel (eS (tB r t) (-1) (eW (wBy mi.toInt 0 30) (eS (inR w 0 1) (-2) 0))) rf (rfU rf (eS (tB r t) (-1) (eW (wBy mi.toInt 0 30) (eS (inR w 0 1) (-2) 0))))) th sb ++ wR G (ad 1) kd r ++ wR G (ad 2) ((k1, r1).1) ((k1, r1).2) ++ wR G (ad 3) k2 r2 ++ wK (ad 4)) H := by simp only [sel_n hne]; exact hP
          have hD : va_D A (wX G ad ho rn ln dr ro lt (sel (eS (tB r t) (-1) (eW (wBy mi.toInt 0 30) (eS (inR w 0 1) (-2) 0))) rf (rfU rf (eS (tB r t) (-1) (eW (wBy mi.toInt 0 30) (eS (inR w 0 1) (-2) 0))))) th sb ++ wR G (ad 1) kd r ++ wR G (ad 2) ((k1, r1).1) ((k1, r1).2) ++ wR G (ad 3) k2 r2 ++ wK (ad 4)) := by simp only [sel_n hne]; exact hD
          refine hret _ _ _ _ _ _ (eS (tB r t) (-1) (eW (wBy mi.toInt 0 30) (eS (inR w 0 1) (-2) 0))) (k1, r1) dX0_act_61 ?_ hP hD hS (Nat.le_of_ble_eq_true rfl) (Nat.le_of_ble_eq_true rfl)
          exact (sel_n hne).symm
      · skip
        obtain ⟨hz_3, hw_3⟩ := hw_3
        have hw_3 : (pMost r (ix t) (ix mi) w : Int32) = r_3 := hw_3.symm
        subst hw_3
        have hP : va_P G.1 vwCl (wX G ad ho rn ln dr ro lt rf th sb ++ wR G (ad 1) kd r ++ wR G (ad 2) u_3.1 u_3.2 ++ wR G (ad 3) k2 r2 ++ wK (ad 4)) H := hP
        have hD : va_D A (wX G ad ho rn ln dr ro lt rf th sb ++ wR G (ad 1) kd r ++ wR G (ad 2) u_3.1 u_3.2 ++ wR G (ad 3) k2 r2 ++ wK (ad 4)) := hD
        refine W.widen (k := 4) (n := 28) (Nat.le_of_ble_eq_true rfl) (Nat.le_of_ble_eq_true rfl) ?_
        refine lv_goto (tgt := 49) hx hb dX0_act_33 (by decide) ?_
        have hP : va_P G.1 vwCl (wX G ad ho rn ln dr ro lt (sel (eS (tB r t) (-1) (eW (wBy mi.toInt 0 30) (eS (inR w 0 1) (-2) 0))) rf (rfU rf (eS (tB r t) (-1) (eW (wBy mi.toInt 0 30) (eS (inR w 0 1) (-2) 0))))) th sb ++ wR G (ad 1) kd r ++ wR G (ad 2) u_3.1 u_3.2 ++ wR G (ad 3) k2 r2 ++ wK (ad 4)) H := by simp only [sel_0 hz_3]; exact hP
        have hD : va_D A (wX G ad ho rn ln dr ro lt (sel (eS (tB r t) (-1) (eW (wBy mi.toInt 0 30) (eS (inR w 0 1) (-2) 0))) rf (rfU rf (eS (tB r t) (-1) (eW (wBy mi.toInt 0 30) (eS (inR w 0 1) (-2) 0))))) th sb ++ wR G (ad 1) kd r ++ wR G (ad 2) u_3.1 u_3.2 ++ wR G (ad 3) k2 r2 ++ wK (ad 4)) := by simp only [sel_0 hz_3]; exact hD
        refine hret _ _ _ _ _ _ (pMost r (ix t) (ix mi) w) u_3 dX0_act_49 ?_ hP hD hS (Nat.le_of_ble_eq_true rfl) (Nat.le_of_ble_eq_true rfl)
        exact (sel_0 hz_3).symm
  · skip
    exact absurd c_1 (by decide)
set_option maxHeartbeats 4000000 in
set_option maxRecDepth 100000 in
theorem m_act_18 (l : Launch) (hl0 : l.stackTraces = false) (G : xG) (ad : Nat → Nat → Nat) (kd k1 k2 : Nat → Option Nat) (r r1 r2 : Rw) (ho rn ln dr : Int32) (ro lt rf th sb : Nat → Int32) (hr : Ok r) (hp : r 5 3 = 0) (hk : kOk (ad 4) kd r) (mi z10 z11 z12 z13 : Int32) : zCi l G yX0_act (wsW_ yX0_act cX0_act 8 (some .int) [(0, 49, 50, 239)]) ({ frames := 11, cells := 2, slots := 14, locals := 200 } : Room) [.ref (ad 0 0), .int 18, .int mi, .int z10, .int z11, .int z12, .int z13] (wX G ad ho rn ln dr ro lt rf th sb ++ wR G (ad 1) kd r ++ wR G (ad 2) k1 r1 ++ wR G (ad 3) k2 r2 ++ wK (ad 4)) (S := ((Nat → Option Nat) × Rw)) (fun v _ => v = sel (eW (wBy mi.toInt 0 99) 0) ((pKy r (ix mi) (mny r)).1) (eW (wBy mi.toInt 0 99) 0)) (fun u => (wX G ad ho rn ln dr ro lt (sel (eW (wBy mi.toInt 0 99) 0) rf (rfU rf (eW (wBy mi.toInt 0 99) 0))) th sb ++ wR G (ad 1) kd r ++ wR G (ad 2) u.1 u.2 ++ wR G (ad 3) k2 r2 ++ wK (ad 4))) := by
  refine z_openiW (hh := [(0, 49, 50, 239)]) (by decide) (Nat.le_of_ble_eq_true rfl) (fun _ _ _ => rfl) ?_
  intro p e s m args below meth c A Q ls C0 hK hZ hP hD hA hl htb hret
  obtain ⟨hx, hb, hml, hown, hts⟩ := id C0
  have hS : va_S A s.heap s.heap [] := va_S.rf
  have hP : va_P G.1 vwCl (wX G ad ho rn ln dr ro lt rf th sb ++ wR G (ad 1) kd r ++ wR G (ad 2) k1 r1 ++ wR G (ad 3) k2 r2 ++ wK (ad 4)) s.heap := hP
  have hD : va_D A (wX G ad ho rn ln dr ro lt rf th sb ++ wR G (ad 1) kd r ++ wR G (ad 2) k1 r1 ++ wR G (ad 3) k2 r2 ++ wK (ad 4)) := hD
  have hl : lv_has ls 8 [(0, .ref (ad 0 0)), (1, .int 18), (2, .int mi), (3, .int z10), (4, .int z11), (5, .int z12), (6, .int z13)] := hl
  have hr0 := hr.n
  have hN := hr.le
  refine lv_iload_n hx hb dX0_act_0 rfl (lv_at hl 1 rfl) ?_
  refine lv_bipush (v := 9) hx hb dX0_act_1 (by decide) ?_
  refine lv_icmp_ge (tgt := 18) hx hb dX0_act_3 (by decide) (fun c_1 => ?_) (fun c_1 => ?_)
  · skip
    refine lv_iload_n hx hb dX0_act_18 rfl (lv_at hl 1 rfl) ?_
    refine lv_bipush (v := 18) hx hb dX0_act_19 (by decide) ?_
    refine lv_icmp_ge (tgt := 36) hx hb dX0_act_21 (by decide) (fun c_2 => ?_) (fun c_2 => ?_)
    · skip
      refine lv_aload_n hx hb dX0_act_36 rfl (lv_at hl 0 rfl) ?_
      refine lv_iload_n hx hb dX0_act_37 rfl (lv_at hl 1 rfl) ?_
      refine lv_iload_n hx hb dX0_act_38 rfl (lv_at hl 2 rfl) ?_
      refine lv_iload_n hx hb dX0_act_39 rfl (lv_at hl 3 rfl) ?_
      refine lv_iload hx hb dX0_act_40 (lv_at hl 4 rfl) ?_
      refine lv_iload hx hb dX0_act_42 (lv_at hl 5 rfl) ?_
      refine lv_iload hx hb dX0_act_44 (lv_at hl 6 rfl) ?_
      refine y_Vi (wN := fun u_3 => (wX G ad ho rn ln dr ro lt rf th sb ++ wR G (ad 1) kd r ++ wR G (ad 2) u_3.1 u_3.2 ++ wR G (ad 3) k2 r2 ++ wK (ad 4))) (wNx := fun u9 => (wX G ad ho rn ln dr ro lt rf th sb ++ wR G (ad 1) kd r ++ wR G (ad 2) k1 r1 ++ wR G (ad 3) k2 r2 ++ wK (ad 4))) ⟨C0, hK, hP, hD, hS, hA⟩ hZ 0 rfl (ci := 0) rfl rfl ((m_of_18 l hl0 G ad kd k1 k2 r r1 r2 ho rn ln dr ro lt rf th sb hr hp hk mi z10 z11 z12 z13)) (cwV 6 hts (lw_V q875 q877 qs40 q86 q878) rfl rfl rfl (by decide +kernel) ⟨Nat.le_of_ble_eq_true rfl, Nat.le_of_ble_eq_true rfl⟩) [0, 1, 2, 3, 4, 5, 6, 7, 8, 9, 10, 11, 12, 13, 14, 15, 16, 17, 18, 19, 20, 21, 22, 23, 24, 25, 26, 27, 28, 29, 30] [1, 3, 5, 7, 9, 11, 13, 15, 17, 19, 21, 23, 25, 27, 29, 31, 33, 35, 37, 39, 41, 43, 45, 47, 49, 51, 53, 55, 57, 59, 61] [1, 3, 5, 7, 9, 11, 13, 15, 17, 19, 21, 23, 25, 27, 29, 31, 33, 35, 37, 39, 41, 43, 45, 47, 49, 51, 53, 55, 57, 59, 61, 63] rfl (fun _ => rfl) (fun _ _ _ => rfl) rfl rfl rfl hl.1 rfl (Nat.le_of_ble_eq_true rfl) dX0_act_46 ⟨(Nat.le_of_ble_eq_true rfl), (Nat.le_of_ble_eq_true rfl)⟩ (fun q9 u9 ee H locs hw_3 hP hD hS => ?_) (fun r_3 u_3 H locs hw_3 hP hD hS => ?_)
      · skip
        refine z_catch ⟨0, 49, 50, 239⟩ hown hK htb rfl (by decide) (by decide) (hts _ q273) hP ?_
        have hthr9 : ee.2.1 = eW (wBy mi.toInt 0 99) 0 ∧ eW (wBy mi.toInt 0 99) 0 ≠ 0 := hw_3
        refine lv_astore (lv' := [(7, .ref q9), (0, .ref (ad 0 0)), (1, .int 18), (2, .int mi), (3, .int z10), (4, .int z11), (5, .int z12), (6, .int z13)]) hx hb dX0_act_50 hl (by decide) rfl (fun ls hl => ?_)
        refine lv_aload_n hx hb dX0_act_52 rfl (lv_at hl 1 rfl) ?_
        refine lv_aload hx hb dX0_act_53 (lv_at hl 0 rfl) ?_
        obtain ⟨ek, en, e1, e2, e3⟩ := ee
        cases ek
        · skip
          have hP : va_P G.1 vwCl (wX G ad ho rn ln dr ro lt rf th sb ++ wR G (ad 1) kd r ++ wR G (ad 2) k1 r1 ++ wR G (ad 3) k2 r2 ++ wK (ad 4) ++ [(q9, .inr (9, [e1, e2, e3, .null, .null, .int 0, .int en]))]) H := hP
          have hD : va_D A (wX G ad ho rn ln dr ro lt rf th sb ++ wR G (ad 1) kd r ++ wR G (ad 2) k1 r1 ++ wR G (ad 3) k2 r2 ++ wK (ad 4) ++ [(q9, .inr (9, [e1, e2, e3, .null, .null, .int 0, .int en]))]) := hD
          obtain ⟨een, hne⟩ := hthr9
          have een : en = eW (wBy mi.toInt 0 99) 0 := een
          subst een
          have hP : va_P G.1 vwCl (wX G ad ho rn ln dr ro lt rf th sb ++ wR G (ad 1) kd r ++ wR G (ad 2) k1 r1 ++ wR G (ad 3) k2 r2 ++ wK (ad 4) ++ [(q9, .inr (9, [e1, e2, e3, .null, .null, .int 0, .int (eW (wBy mi.toInt 0 99) 0)]))]) H := hP
          have hD : va_D A (wX G ad ho rn ln dr ro lt rf th sb ++ wR G (ad 1) kd r ++ wR G (ad 2) k1 r1 ++ wR G (ad 3) k2 r2 ++ wK (ad 4) ++ [(q9, .inr (9, [e1, e2, e3, .null, .null, .int 0, .int (eW (wBy mi.toInt 0 99) 0)]))]) := hD
          refine x_Ui (wN := fun _ => (wX G ad ho rn ln dr ro lt rf th sb ++ wR G (ad 1) kd r ++ wR G (ad 2) k1 r1 ++ wR G (ad 3) k2 r2 ++ wK (ad 4) ++ [(q9, .inr (9, [e1, e2, e3, .null, .null, .int 0, .int (eW (wBy mi.toInt 0 99) 0)]))])) ⟨C0, hK, hP, hD, hS, hA⟩ 31 rfl (ci := 9) rfl rfl ((m_X11_number l G q9 e1 e2 e3 (eW (wBy mi.toInt 0 99) 0))) (va_cwA (owner := "PulledFromUnder$Refusal") 0 hts (lw_U q990 q992 q996 q997 q100 q998) rfl rfl rfl (hK.2.D 13 rfl) (by decide +kernel) ⟨Nat.le_of_ble_eq_true rfl, Nat.le_of_ble_eq_true rfl⟩) [31] [0, 2, 4, 6, 8, 10, 12, 14, 16, 18, 20, 22, 24, 26, 28, 30, 32, 34, 36, 38, 40, 42, 44, 46, 48, 50, 52, 54, 56, 58, 60, 1] rfl (fun _ => rfl) rfl rfl hl.1 rfl (Nat.le_of_ble_eq_true rfl) dX0_act_55 ⟨(Nat.le_of_ble_eq_true rfl), (Nat.le_of_ble_eq_true rfl)⟩ (fun r_4 u_4 H locs hw_4 hP hD hS => ?_)
          have hw_4 : (eW (wBy mi.toInt 0 99) 0 : Int32) = r_4 := hw_4.symm
          subst hw_4
          refine x_Vi (wN := fun _ => (wX G ad ho rn ln dr ro lt (rfU rf (eW (wBy mi.toInt 0 99) 0)) th sb ++ wR G (ad 1) kd r ++ wR G (ad 2) k1 r1 ++ wR G (ad 3) k2 r2 ++ wK (ad 4) ++ [(q9, .inr (9, [e1, e2, e3, .null, .null, .int 0, .int (eW (wBy mi.toInt 0 99) 0)]))])) ⟨C0, hK, hP, hD, hS, hA⟩ 0 rfl (ci := 0) rfl rfl ((m_refuse l G ad kd k1 k2 r r1 r2 ho rn ln dr ro lt rf th sb hr hp hk (eW (wBy mi.toInt 0 99) 0) (rfOk_W rfOk_0))) (cwV 1 hts (lw_V q999 q1001 qs62 q86 q1002) rfl rfl rfl (by decide +kernel) ⟨Nat.le_of_ble_eq_true rfl, Nat.le_of_ble_eq_true rfl⟩) [0, 1, 2, 3, 4, 5, 6, 7, 8, 9, 10, 11, 12, 13, 14, 15, 16, 17, 18, 19, 20, 21, 22, 23, 24, 25, 26, 27, 28, 29, 30] [1, 3, 5, 7, 9, 11, 13, 15, 17, 19, 21, 23, 25, 27, 29, 31, 33, 35, 37, 39, 41, 43, 45, 47, 49, 51, 53, 55, 57, 59, 61, 62] rfl (fun _ => rfl) rfl rfl hl.1 rfl (Nat.le_of_ble_eq_true rfl) dX0_act_58 ⟨(Nat.le_of_ble_eq_true rfl), (Nat.le_of_ble_eq_true rfl)⟩ (fun r_5 u_5 H locs hw_5 hP hD hS => ?_)
          have hw_5 : (eW (wBy mi.toInt 0 99) 0 : Int32) = r_5 := hw_5.symm
          subst hw_5
          have hP : va_P G.1 vwCl (wX G ad ho rn ln dr ro lt (rfU rf (eW (wBy mi.toInt 0 99) 0)) th sb ++ wR G (ad 1) kd r ++ wR G (ad 2) k1 r1 ++ wR G (ad 3) k2 r2 ++ wK (ad 4) ++ [(q9, .inr (9, [e1, e2, e3, .null, .null, .int 0, .int (eW (wBy mi.toInt 0 99) 0)]))]) H := hP
          have hD : va_D A (wX G ad ho rn ln dr ro lt (rfU rf (eW (wBy mi.toInt 0 99) 0)) th sb ++ wR G (ad 1) kd r ++ wR G (ad 2) k1 r1 ++ wR G (ad 3) k2 r2 ++ wK (ad 4) ++ [(q9, .inr (9, [e1, e2, e3, .null, .null, .int 0, .int (eW (wBy mi.toInt 0 99) 0)]))]) := hD
          have hP := x_dropP hP
          have hD := x_dropD hD
          have hP : va_P G.1 vwCl (wX G ad ho rn ln dr ro lt (sel (eW (wBy mi.toInt 0 99) 0) rf (rfU rf (eW (wBy mi.toInt 0 99) 0))) th sb ++ wR G (ad 1) kd r ++ wR G (ad 2) ((k1, r1).1) ((k1, r1).2) ++ wR G (ad 3) k2 r2 ++ wK (ad 4)) H := by simp only [sel_n hne]; exact hP
          have hD : va_D A (wX G ad ho rn ln dr ro lt (sel (eW (wBy mi.toInt 0 99) 0) rf (rfU rf (eW (wBy mi.toInt 0 99) 0))) th sb ++ wR G (ad 1) kd r ++ wR G (ad 2) ((k1, r1).1) ((k1, r1).2) ++ wR G (ad 3) k2 r2 ++ wK (ad 4)) := by simp only [sel_n hne]; exact hD
          refine hret _ _ _ _ _ _ (eW (wBy mi.toInt 0 99) 0) (k1, r1) dX0_act_61 ?_ hP hD hS (Nat.le_of_ble_eq_true rfl) (Nat.le_of_ble_eq_true rfl)
          exact (sel_n hne).symm
        · skip
          have hP : va_P G.1 vwCl (wX G ad ho rn ln dr ro lt rf th sb ++ wR G (ad 1) kd r ++ wR G (ad 2) k1 r1 ++ wR G (ad 3) k2 r2 ++ wK (ad 4) ++ [(q9, .inr (11, [e1, e2, e3, .null, .null, .int 0, .int en]))]) H := hP
          have hD : va_D A (wX G ad ho rn ln dr ro lt rf th sb ++ wR G (ad 1) kd r ++ wR G (ad 2) k1 r1 ++ wR G (ad 3) k2 r2 ++ wK (ad 4) ++ [(q9, .inr (11, [e1, e2, e3, .null, .null, .int 0, .int en]))]) := hD
          obtain ⟨een, hne⟩ := hthr9
          have een : en = eW (wBy mi.toInt 0 99) 0 := een
          subst een
          have hP : va_P G.1 vwCl (wX G ad ho rn ln dr ro lt rf th sb ++ wR G (ad 1) kd r ++ wR G (ad 2) k1 r1 ++ wR G (ad 3) k2 r2 ++ wK (ad 4) ++ [(q9, .inr (11, [e1, e2, e3, .null, .null, .int 0, .int (eW (wBy mi.toInt 0 99) 0)]))]) H := hP
          have hD : va_D A (wX G ad ho rn ln dr ro lt rf th sb ++ wR G (ad 1) kd r ++ wR G (ad 2) k1 r1 ++ wR G (ad 3) k2 r2 ++ wK (ad 4) ++ [(q9, .inr (11, [e1, e2, e3, .null, .null, .int 0, .int (eW (wBy mi.toInt 0 99) 0)]))]) := hD
          refine x_Ui (wN := fun _ => (wX G ad ho rn ln dr ro lt rf th sb ++ wR G (ad 1) kd r ++ wR G (ad 2) k1 r1 ++ wR G (ad 3) k2 r2 ++ wK (ad 4) ++ [(q9, .inr (11, [e1, e2, e3, .null, .null, .int 0, .int (eW (wBy mi.toInt 0 99) 0)]))])) ⟨C0, hK, hP, hD, hS, hA⟩ 31 rfl (ci := 11) rfl rfl ((m_X13_number l G q9 e1 e2 e3 (eW (wBy mi.toInt 0 99) 0))) (va_cwA (owner := "PulledFromUnder$Refusal") 0 hts (lw_U q990 q992 q993 q994 q102 q995) rfl rfl rfl (hK.2.D 13 rfl) (by decide +kernel) ⟨Nat.le_of_ble_eq_true rfl, Nat.le_of_ble_eq_true rfl⟩) [31] [0, 2, 4, 6, 8, 10, 12, 14, 16, 18, 20, 22, 24, 26, 28, 30, 32, 34, 36, 38, 40, 42, 44, 46, 48, 50, 52, 54, 56, 58, 60, 1] rfl (fun _ => rfl) rfl rfl hl.1 rfl (Nat.le_of_ble_eq_true rfl) dX0_act_55 ⟨(Nat.le_of_ble_eq_true rfl), (Nat.le_of_ble_eq_true rfl)⟩ (fun r_6 u_6 H locs hw_6 hP hD hS => ?_)
          have hw_6 : (eW (wBy mi.toInt 0 99) 0 : Int32) = r_6 := hw_6.symm
          subst hw_6
          refine x_Vi (wN := fun _ => (wX G ad ho rn ln dr ro lt (rfU rf (eW (wBy mi.toInt 0 99) 0)) th sb ++ wR G (ad 1) kd r ++ wR G (ad 2) k1 r1 ++ wR G (ad 3) k2 r2 ++ wK (ad 4) ++ [(q9, .inr (11, [e1, e2, e3, .null, .null, .int 0, .int (eW (wBy mi.toInt 0 99) 0)]))])) ⟨C0, hK, hP, hD, hS, hA⟩ 0 rfl (ci := 0) rfl rfl ((m_refuse l G ad kd k1 k2 r r1 r2 ho rn ln dr ro lt rf th sb hr hp hk (eW (wBy mi.toInt 0 99) 0) (rfOk_W rfOk_0))) (cwV 1 hts (lw_V q999 q1001 qs62 q86 q1002) rfl rfl rfl (by decide +kernel) ⟨Nat.le_of_ble_eq_true rfl, Nat.le_of_ble_eq_true rfl⟩) [0, 1, 2, 3, 4, 5, 6, 7, 8, 9, 10, 11, 12, 13, 14, 15, 16, 17, 18, 19, 20, 21, 22, 23, 24, 25, 26, 27, 28, 29, 30] [1, 3, 5, 7, 9, 11, 13, 15, 17, 19, 21, 23, 25, 27, 29, 31, 33, 35, 37, 39, 41, 43, 45, 47, 49, 51, 53, 55, 57, 59, 61, 62] rfl (fun _ => rfl) rfl rfl hl.1 rfl (Nat.le_of_ble_eq_true rfl) dX0_act_58 ⟨(Nat.le_of_ble_eq_true rfl), (Nat.le_of_ble_eq_true rfl)⟩ (fun r_7 u_7 H locs hw_7 hP hD hS => ?_)
          have hw_7 : (eW (wBy mi.toInt 0 99) 0 : Int32) = r_7 := hw_7.symm
          subst hw_7
          have hP : va_P G.1 vwCl (wX G ad ho rn ln dr ro lt (rfU rf (eW (wBy mi.toInt 0 99) 0)) th sb ++ wR G (ad 1) kd r ++ wR G (ad 2) k1 r1 ++ wR G (ad 3) k2 r2 ++ wK (ad 4) ++ [(q9, .inr (11, [e1, e2, e3, .null, .null, .int 0, .int (eW (wBy mi.toInt 0 99) 0)]))]) H := hP
          have hD : va_D A (wX G ad ho rn ln dr ro lt (rfU rf (eW (wBy mi.toInt 0 99) 0)) th sb ++ wR G (ad 1) kd r ++ wR G (ad 2) k1 r1 ++ wR G (ad 3) k2 r2 ++ wK (ad 4) ++ [(q9, .inr (11, [e1, e2, e3, .null, .null, .int 0, .int (eW (wBy mi.toInt 0 99) 0)]))]) := hD
          have hP := x_dropP hP
          have hD := x_dropD hD
          have hP : va_P G.1 vwCl (wX G ad ho rn ln dr ro lt (sel (eW (wBy mi.toInt 0 99) 0) rf (rfU rf (eW (wBy mi.toInt 0 99) 0))) th sb ++ wR G (ad 1) kd r ++ wR G (ad 2) ((k1, r1).1) ((k1, r1).2) ++ wR G (ad 3) k2 r2 ++ wK (ad 4)) H := by simp only [sel_n hne]; exact hP
          have hD : va_D A (wX G ad ho rn ln dr ro lt (sel (eW (wBy mi.toInt 0 99) 0) rf (rfU rf (eW (wBy mi.toInt 0 99) 0))) th sb ++ wR G (ad 1) kd r ++ wR G (ad 2) ((k1, r1).1) ((k1, r1).2) ++ wR G (ad 3) k2 r2 ++ wK (ad 4)) := by simp only [sel_n hne]; exact hD
          refine hret _ _ _ _ _ _ (eW (wBy mi.toInt 0 99) 0) (k1, r1) dX0_act_61 ?_ hP hD hS (Nat.le_of_ble_eq_true rfl) (Nat.le_of_ble_eq_true rfl)
          exact (sel_n hne).symm
      · skip
        obtain ⟨hz_3, hw_3⟩ := hw_3
        have hw_3 : ((pKy r (ix mi) (mny r)).1 : Int32) = r_3 := hw_3.symm
        subst hw_3
        have hP : va_P G.1 vwCl (wX G ad ho rn ln dr ro lt rf th sb ++ wR G (ad 1) kd r ++ wR G (ad 2) u_3.1 u_3.2 ++ wR G (ad 3) k2 r2 ++ wK (ad 4)) H := hP
        have hD : va_D A (wX G ad ho rn ln dr ro lt rf th sb ++ wR G (ad 1) kd r ++ wR G (ad 2) u_3.1 u_3.2 ++ wR G (ad 3) k2 r2 ++ wK (ad 4)) := hD
        refine W.widen (k := 2) (n := 14) (Nat.le_of_ble_eq_true rfl) (Nat.le_of_ble_eq_true rfl) ?_
        have hP : va_P G.1 vwCl (wX G ad ho rn ln dr ro lt (sel (eW (wBy mi.toInt 0 99) 0) rf (rfU rf (eW (wBy mi.toInt 0 99) 0))) th sb ++ wR G (ad 1) kd r ++ wR G (ad 2) u_3.1 u_3.2 ++ wR G (ad 3) k2 r2 ++ wK (ad 4)) H := by simp only [sel_0 hz_3]; exact hP
        have hD : va_D A (wX G ad ho rn ln dr ro lt (sel (eW (wBy mi.toInt 0 99) 0) rf (rfU rf (eW (wBy mi.toInt 0 99) 0))) th sb ++ wR G (ad 1) kd r ++ wR G (ad 2) u_3.1 u_3.2 ++ wR G (ad 3) k2 r2 ++ wK (ad 4)) := by simp only [sel_0 hz_3]; exact hD
        refine hret _ _ _ _ _ _ ((pKy r (ix mi) (mny r)).1) u_3 dX0_act_49 ?_ hP hD hS (Nat.le_of_ble_eq_true rfl) (Nat.le_of_ble_eq_true rfl)
        exact (sel_0 hz_3).symm
    · skip
      exact absurd c_2 (by decide)
  · skip
    exact absurd c_1 (by decide)
set_option maxHeartbeats 4000000 in
set_option maxRecDepth 100000 in
theorem m_act_19 (l : Launch) (hl0 : l.stackTraces = false) (G : xG) (ad : Nat → Nat → Nat) (kd k1 k2 : Nat → Option Nat) (r r1 r2 : Rw) (ho rn ln dr : Int32) (ro lt rf th sb : Nat → Int32) (hr : Ok r) (hp : r 5 3 = 0) (hk : kOk (ad 4) kd r) (mi z10 z11 z12 z13 : Int32) : zCi l G yX0_act (wsW_ yX0_act cX0_act 8 (some .int) [(0, 49, 50, 239)]) ({ frames := 11, cells := 2, slots := 14, locals := 200 } : Room) [.ref (ad 0 0), .int 19, .int mi, .int z10, .int z11, .int z12, .int z13] (wX G ad ho rn ln dr ro lt rf th sb ++ wR G (ad 1) kd r ++ wR G (ad 2) k1 r1 ++ wR G (ad 3) k2 r2 ++ wK (ad 4)) (S := ((Nat → Option Nat) × Rw)) (fun v _ => v = sel (eW (wBy mi.toInt 0 99) 0) (nI (pProp r (ix mi))) (eW (wBy mi.toInt 0 99) 0)) (fun u => (wX G ad ho rn ln dr ro lt (sel (eW (wBy mi.toInt 0 99) 0) rf (rfU rf (eW (wBy mi.toInt 0 99) 0))) th sb ++ wR G (ad 1) kd r ++ wR G (ad 2) u.1 u.2 ++ wR G (ad 3) k2 r2 ++ wK (ad 4))) := by
  refine z_openiW (hh := [(0, 49, 50, 239)]) (by decide) (Nat.le_of_ble_eq_true rfl) (fun _ _ _ => rfl) ?_
  intro p e s m args below meth c A Q ls C0 hK hZ hP hD hA hl htb hret
  obtain ⟨hx, hb, hml, hown, hts⟩ := id C0
  have hS : va_S A s.heap s.heap [] := va_S.rf
  have hP : va_P G.1 vwCl (wX G ad ho rn ln dr ro lt rf th sb ++ wR G (ad 1) kd r ++ wR G (ad 2) k1 r1 ++ wR G (ad 3) k2 r2 ++ wK (ad 4)) s.heap := hP
  have hD : va_D A (wX G ad ho rn ln dr ro lt rf th sb ++ wR G (ad 1) kd r ++ wR G (ad 2) k1 r1 ++ wR G (ad 3) k2 r2 ++ wK (ad 4)) := hD
  have hl : lv_has ls 8 [(0, .ref (ad 0 0)), (1, .int 19), (2, .int mi), (3, .int z10), (4, .int z11), (5, .int z12), (6, .int z13)] := hl
  have hr0 := hr.n
  have hN := hr.le
  refine lv_iload_n hx hb dX0_act_0 rfl (lv_at hl 1 rfl) ?_
  refine lv_bipush (v := 9) hx hb dX0_act_1 (by decide) ?_
  refine lv_icmp_ge (tgt := 18) hx hb dX0_act_3 (by decide) (fun c_1 => ?_) (fun c_1 => ?_)
  · skip
    refine lv_iload_n hx hb dX0_act_18 rfl (lv_at hl 1 rfl) ?_
    refine lv_bipush (v := 18) hx hb dX0_act_19 (by decide) ?_
    refine lv_icmp_ge (tgt := 36) hx hb dX0_act_21 (by decide) (fun c_2 => ?_) (fun c_2 => ?_)
    · skip
      refine lv_aload_n hx hb dX0_act_36 rfl (lv_at hl 0 rfl) ?_
      refine lv_iload_n hx hb dX0_act_37 rfl (lv_at hl 1 rfl) ?_
      refine lv_iload_n hx hb dX0_act_38 rfl (lv_at hl 2 rfl) ?_
      refine lv_iload_n hx hb dX0_act_39 rfl (lv_at hl 3 rfl) ?_
      refine lv_iload hx hb dX0_act_40 (lv_at hl 4 rfl) ?_
      refine lv_iload hx hb dX0_act_42 (lv_at hl 5 rfl) ?_
      refine lv_iload hx hb dX0_act_44 (lv_at hl 6 rfl) ?_
      refine y_Vi (wN := fun u_3 => (wX G ad ho rn ln dr ro lt rf th sb ++ wR G (ad 1) kd r ++ wR G (ad 2) u_3.1 u_3.2 ++ wR G (ad 3) k2 r2 ++ wK (ad 4))) (wNx := fun u9 => (wX G ad ho rn ln dr ro lt rf th sb ++ wR G (ad 1) kd r ++ wR G (ad 2) k1 r1 ++ wR G (ad 3) k2 r2 ++ wK (ad 4))) ⟨C0, hK, hP, hD, hS, hA⟩ hZ 0 rfl (ci := 0) rfl rfl ((m_of_19 l hl0 G ad kd k1 k2 r r1 r2 ho rn ln dr ro lt rf th sb hr hp hk mi z10 z11 z12 z13)) (cwV 6 hts (lw_V q875 q877 qs40 q86 q878) rfl rfl rfl (by decide +kernel) ⟨Nat.le_of_ble_eq_true rfl, Nat.le_of_ble_eq_true rfl⟩) [0, 1, 2, 3, 4, 5, 6, 7, 8, 9, 10, 11, 12, 13, 14, 15, 16, 17, 18, 19, 20, 21, 22, 23, 24, 25, 26, 27, 28, 29, 30] [1, 3, 5, 7, 9, 11, 13, 15, 17, 19, 21, 23, 25, 27, 29, 31, 33, 35, 37, 39, 41, 43, 45, 47, 49, 51, 53, 55, 57, 59, 61] [1, 3, 5, 7, 9, 11, 13, 15, 17, 19, 21, 23, 25, 27, 29, 31, 33, 35, 37, 39, 41, 43, 45, 47, 49, 51, 53, 55, 57, 59, 61, 63] rfl (fun _ => rfl) (fun _ _ _ => rfl) rfl rfl rfl hl.1 rfl (Nat.le_of_ble_eq_true rfl) dX0_act_46 ⟨(Nat.le_of_ble_eq_true rfl), (Nat.le_of_ble_eq_true rfl)⟩ (fun q9 u9 ee H locs hw_3 hP hD hS => ?_) (fun r_3 u_3 H locs hw_3 hP hD hS => ?_)
      · skip
        refine z_catch ⟨0, 49, 50, 239⟩ hown hK htb rfl (by decide) (by decide) (hts _ q273) hP ?_
        have hthr9 : ee.2.1 = eW (wBy mi.toInt 0 99) 0 ∧ eW (wBy mi.toInt 0 99) 0 ≠ 0 := hw_3
        refine lv_astore (lv' := [(7, .ref q9), (0, .ref (ad 0 0)), (1, .int 19), (2, .int mi), (3, .int z10), (4, .int z11), (5, .int z12), (6, .int z13)]) hx hb dX0_act_50 hl (by decide) rfl (fun ls hl => ?_)
        refine lv_aload_n hx hb dX0_act_52 rfl (lv_at hl 1 rfl) ?_
        refine lv_aload hx hb dX0_act_53 (lv_at hl 0 rfl) ?_
        obtain ⟨ek, en, e1, e2, e3⟩ := ee
        cases ek
        · skip
          have hP : va_P G.1 vwCl (wX G ad ho rn ln dr ro lt rf th sb ++ wR G (ad 1) kd r ++ wR G (ad 2) k1 r1 ++ wR G (ad 3) k2 r2 ++ wK (ad 4) ++ [(q9, .inr (9, [e1, e2, e3, .null, .null, .int 0, .int en]))]) H := hP
          have hD : va_D A (wX G ad ho rn ln dr ro lt rf th sb ++ wR G (ad 1) kd r ++ wR G (ad 2) k1 r1 ++ wR G (ad 3) k2 r2 ++ wK (ad 4) ++ [(q9, .inr (9, [e1, e2, e3, .null, .null, .int 0, .int en]))]) := hD
          obtain ⟨een, hne⟩ := hthr9
          have een : en = eW (wBy mi.toInt 0 99) 0 := een
          subst een
          have hP : va_P G.1 vwCl (wX G ad ho rn ln dr ro lt rf th sb ++ wR G (ad 1) kd r ++ wR G (ad 2) k1 r1 ++ wR G (ad 3) k2 r2 ++ wK (ad 4) ++ [(q9, .inr (9, [e1, e2, e3, .null, .null, .int 0, .int (eW (wBy mi.toInt 0 99) 0)]))]) H := hP
          have hD : va_D A (wX G ad ho rn ln dr ro lt rf th sb ++ wR G (ad 1) kd r ++ wR G (ad 2) k1 r1 ++ wR G (ad 3) k2 r2 ++ wK (ad 4) ++ [(q9, .inr (9, [e1, e2, e3, .null, .null, .int 0, .int (eW (wBy mi.toInt 0 99) 0)]))]) := hD
          refine x_Ui (wN := fun _ => (wX G ad ho rn ln dr ro lt rf th sb ++ wR G (ad 1) kd r ++ wR G (ad 2) k1 r1 ++ wR G (ad 3) k2 r2 ++ wK (ad 4) ++ [(q9, .inr (9, [e1, e2, e3, .null, .null, .int 0, .int (eW (wBy mi.toInt 0 99) 0)]))])) ⟨C0, hK, hP, hD, hS, hA⟩ 31 rfl (ci := 9) rfl rfl ((m_X11_number l G q9 e1 e2 e3 (eW (wBy mi.toInt 0 99) 0))) (va_cwA (owner := "PulledFromUnder$Refusal") 0 hts (lw_U q990 q992 q996 q997 q100 q998) rfl rfl rfl (hK.2.D 13 rfl) (by decide +kernel) ⟨Nat.le_of_ble_eq_true rfl, Nat.le_of_ble_eq_true rfl⟩) [31] [0, 2, 4, 6, 8, 10, 12, 14, 16, 18, 20, 22, 24, 26, 28, 30, 32, 34, 36, 38, 40, 42, 44, 46, 48, 50, 52, 54, 56, 58, 60, 1] rfl (fun _ => rfl) rfl rfl hl.1 rfl (Nat.le_of_ble_eq_true rfl) dX0_act_55 ⟨(Nat.le_of_ble_eq_true rfl), (Nat.le_of_ble_eq_true rfl)⟩ (fun r_4 u_4 H locs hw_4 hP hD hS => ?_)
          have hw_4 : (eW (wBy mi.toInt 0 99) 0 : Int32) = r_4 := hw_4.symm
          subst hw_4
          refine x_Vi (wN := fun _ => (wX G ad ho rn ln dr ro lt (rfU rf (eW (wBy mi.toInt 0 99) 0)) th sb ++ wR G (ad 1) kd r ++ wR G (ad 2) k1 r1 ++ wR G (ad 3) k2 r2 ++ wK (ad 4) ++ [(q9, .inr (9, [e1, e2, e3, .null, .null, .int 0, .int (eW (wBy mi.toInt 0 99) 0)]))])) ⟨C0, hK, hP, hD, hS, hA⟩ 0 rfl (ci := 0) rfl rfl ((m_refuse l G ad kd k1 k2 r r1 r2 ho rn ln dr ro lt rf th sb hr hp hk (eW (wBy mi.toInt 0 99) 0) (rfOk_W rfOk_0))) (cwV 1 hts (lw_V q999 q1001 qs62 q86 q1002) rfl rfl rfl (by decide +kernel) ⟨Nat.le_of_ble_eq_true rfl, Nat.le_of_ble_eq_true rfl⟩) [0, 1, 2, 3, 4, 5, 6, 7, 8, 9, 10, 11, 12, 13, 14, 15, 16, 17, 18, 19, 20, 21, 22, 23, 24, 25, 26, 27, 28, 29, 30] [1, 3, 5, 7, 9, 11, 13, 15, 17, 19, 21, 23, 25, 27, 29, 31, 33, 35, 37, 39, 41, 43, 45, 47, 49, 51, 53, 55, 57, 59, 61, 62] rfl (fun _ => rfl) rfl rfl hl.1 rfl (Nat.le_of_ble_eq_true rfl) dX0_act_58 ⟨(Nat.le_of_ble_eq_true rfl), (Nat.le_of_ble_eq_true rfl)⟩ (fun r_5 u_5 H locs hw_5 hP hD hS => ?_)
          have hw_5 : (eW (wBy mi.toInt 0 99) 0 : Int32) = r_5 := hw_5.symm
          subst hw_5
          have hP : va_P G.1 vwCl (wX G ad ho rn ln dr ro lt (rfU rf (eW (wBy mi.toInt 0 99) 0)) th sb ++ wR G (ad 1) kd r ++ wR G (ad 2) k1 r1 ++ wR G (ad 3) k2 r2 ++ wK (ad 4) ++ [(q9, .inr (9, [e1, e2, e3, .null, .null, .int 0, .int (eW (wBy mi.toInt 0 99) 0)]))]) H := hP
          have hD : va_D A (wX G ad ho rn ln dr ro lt (rfU rf (eW (wBy mi.toInt 0 99) 0)) th sb ++ wR G (ad 1) kd r ++ wR G (ad 2) k1 r1 ++ wR G (ad 3) k2 r2 ++ wK (ad 4) ++ [(q9, .inr (9, [e1, e2, e3, .null, .null, .int 0, .int (eW (wBy mi.toInt 0 99) 0)]))]) := hD
          have hP := x_dropP hP
          have hD := x_dropD hD
          have hP : va_P G.1 vwCl (wX G ad ho rn ln dr ro lt (sel (eW (wBy mi.toInt 0 99) 0) rf (rfU rf (eW (wBy mi.toInt 0 99) 0))) th sb ++ wR G (ad 1) kd r ++ wR G (ad 2) ((k1, r1).1) ((k1, r1).2) ++ wR G (ad 3) k2 r2 ++ wK (ad 4)) H := by simp only [sel_n hne]; exact hP
          have hD : va_D A (wX G ad ho rn ln dr ro lt (sel (eW (wBy mi.toInt 0 99) 0) rf (rfU rf (eW (wBy mi.toInt 0 99) 0))) th sb ++ wR G (ad 1) kd r ++ wR G (ad 2) ((k1, r1).1) ((k1, r1).2) ++ wR G (ad 3) k2 r2 ++ wK (ad 4)) := by simp only [sel_n hne]; exact hD
          refine hret _ _ _ _ _ _ (eW (wBy mi.toInt 0 99) 0) (k1, r1) dX0_act_61 ?_ hP hD hS (Nat.le_of_ble_eq_true rfl) (Nat.le_of_ble_eq_true rfl)
          exact (sel_n hne).symm
        · skip
          have hP : va_P G.1 vwCl (wX G ad ho rn ln dr ro lt rf th sb ++ wR G (ad 1) kd r ++ wR G (ad 2) k1 r1 ++ wR G (ad 3) k2 r2 ++ wK (ad 4) ++ [(q9, .inr (11, [e1, e2, e3, .null, .null, .int 0, .int en]))]) H := hP
          have hD : va_D A (wX G ad ho rn ln dr ro lt rf th sb ++ wR G (ad 1) kd r ++ wR G (ad 2) k1 r1 ++ wR G (ad 3) k2 r2 ++ wK (ad 4) ++ [(q9, .inr (11, [e1, e2, e3, .null, .null, .int 0, .int en]))]) := hD
          obtain ⟨een, hne⟩ := hthr9
          have een : en = eW (wBy mi.toInt 0 99) 0 := een
          subst een
          have hP : va_P G.1 vwCl (wX G ad ho rn ln dr ro lt rf th sb ++ wR G (ad 1) kd r ++ wR G (ad 2) k1 r1 ++ wR G (ad 3) k2 r2 ++ wK (ad 4) ++ [(q9, .inr (11, [e1, e2, e3, .null, .null, .int 0, .int (eW (wBy mi.toInt 0 99) 0)]))]) H := hP
          have hD : va_D A (wX G ad ho rn ln dr ro lt rf th sb ++ wR G (ad 1) kd r ++ wR G (ad 2) k1 r1 ++ wR G (ad 3) k2 r2 ++ wK (ad 4) ++ [(q9, .inr (11, [e1, e2, e3, .null, .null, .int 0, .int (eW (wBy mi.toInt 0 99) 0)]))]) := hD
          refine x_Ui (wN := fun _ => (wX G ad ho rn ln dr ro lt rf th sb ++ wR G (ad 1) kd r ++ wR G (ad 2) k1 r1 ++ wR G (ad 3) k2 r2 ++ wK (ad 4) ++ [(q9, .inr (11, [e1, e2, e3, .null, .null, .int 0, .int (eW (wBy mi.toInt 0 99) 0)]))])) ⟨C0, hK, hP, hD, hS, hA⟩ 31 rfl (ci := 11) rfl rfl ((m_X13_number l G q9 e1 e2 e3 (eW (wBy mi.toInt 0 99) 0))) (va_cwA (owner := "PulledFromUnder$Refusal") 0 hts (lw_U q990 q992 q993 q994 q102 q995) rfl rfl rfl (hK.2.D 13 rfl) (by decide +kernel) ⟨Nat.le_of_ble_eq_true rfl, Nat.le_of_ble_eq_true rfl⟩) [31] [0, 2, 4, 6, 8, 10, 12, 14, 16, 18, 20, 22, 24, 26, 28, 30, 32, 34, 36, 38, 40, 42, 44, 46, 48, 50, 52, 54, 56, 58, 60, 1] rfl (fun _ => rfl) rfl rfl hl.1 rfl (Nat.le_of_ble_eq_true rfl) dX0_act_55 ⟨(Nat.le_of_ble_eq_true rfl), (Nat.le_of_ble_eq_true rfl)⟩ (fun r_6 u_6 H locs hw_6 hP hD hS => ?_)
          have hw_6 : (eW (wBy mi.toInt 0 99) 0 : Int32) = r_6 := hw_6.symm
          subst hw_6
          refine x_Vi (wN := fun _ => (wX G ad ho rn ln dr ro lt (rfU rf (eW (wBy mi.toInt 0 99) 0)) th sb ++ wR G (ad 1) kd r ++ wR G (ad 2) k1 r1 ++ wR G (ad 3) k2 r2 ++ wK (ad 4) ++ [(q9, .inr (11, [e1, e2, e3, .null, .null, .int 0, .int (eW (wBy mi.toInt 0 99) 0)]))])) ⟨C0, hK, hP, hD, hS, hA⟩ 0 rfl (ci := 0) rfl rfl ((m_refuse l G ad kd k1 k2 r r1 r2 ho rn ln dr ro lt rf th sb hr hp hk (eW (wBy mi.toInt 0 99) 0) (rfOk_W rfOk_0))) (cwV 1 hts (lw_V q999 q1001 qs62 q86 q1002) rfl rfl rfl (by decide +kernel) ⟨Nat.le_of_ble_eq_true rfl, Nat.le_of_ble_eq_true rfl⟩) [0, 1, 2, 3, 4, 5, 6, 7, 8, 9, 10, 11, 12, 13, 14, 15, 16, 17, 18, 19, 20, 21, 22, 23, 24, 25, 26, 27, 28, 29, 30] [1, 3, 5, 7, 9, 11, 13, 15, 17, 19, 21, 23, 25, 27, 29, 31, 33, 35, 37, 39, 41, 43, 45, 47, 49, 51, 53, 55, 57, 59, 61, 62] rfl (fun _ => rfl) rfl rfl hl.1 rfl (Nat.le_of_ble_eq_true rfl) dX0_act_58 ⟨(Nat.le_of_ble_eq_true rfl), (Nat.le_of_ble_eq_true rfl)⟩ (fun r_7 u_7 H locs hw_7 hP hD hS => ?_)
          have hw_7 : (eW (wBy mi.toInt 0 99) 0 : Int32) = r_7 := hw_7.symm
          subst hw_7
          have hP : va_P G.1 vwCl (wX G ad ho rn ln dr ro lt (rfU rf (eW (wBy mi.toInt 0 99) 0)) th sb ++ wR G (ad 1) kd r ++ wR G (ad 2) k1 r1 ++ wR G (ad 3) k2 r2 ++ wK (ad 4) ++ [(q9, .inr (11, [e1, e2, e3, .null, .null, .int 0, .int (eW (wBy mi.toInt 0 99) 0)]))]) H := hP
          have hD : va_D A (wX G ad ho rn ln dr ro lt (rfU rf (eW (wBy mi.toInt 0 99) 0)) th sb ++ wR G (ad 1) kd r ++ wR G (ad 2) k1 r1 ++ wR G (ad 3) k2 r2 ++ wK (ad 4) ++ [(q9, .inr (11, [e1, e2, e3, .null, .null, .int 0, .int (eW (wBy mi.toInt 0 99) 0)]))]) := hD
          have hP := x_dropP hP
          have hD := x_dropD hD
          have hP : va_P G.1 vwCl (wX G ad ho rn ln dr ro lt (sel (eW (wBy mi.toInt 0 99) 0) rf (rfU rf (eW (wBy mi.toInt 0 99) 0))) th sb ++ wR G (ad 1) kd r ++ wR G (ad 2) ((k1, r1).1) ((k1, r1).2) ++ wR G (ad 3) k2 r2 ++ wK (ad 4)) H := by simp only [sel_n hne]; exact hP
          have hD : va_D A (wX G ad ho rn ln dr ro lt (sel (eW (wBy mi.toInt 0 99) 0) rf (rfU rf (eW (wBy mi.toInt 0 99) 0))) th sb ++ wR G (ad 1) kd r ++ wR G (ad 2) ((k1, r1).1) ((k1, r1).2) ++ wR G (ad 3) k2 r2 ++ wK (ad 4)) := by simp only [sel_n hne]; exact hD
          refine hret _ _ _ _ _ _ (eW (wBy mi.toInt 0 99) 0) (k1, r1) dX0_act_61 ?_ hP hD hS (Nat.le_of_ble_eq_true rfl) (Nat.le_of_ble_eq_true rfl)
          exact (sel_n hne).symm
      · skip
        obtain ⟨hz_3, hw_3⟩ := hw_3
        have hw_3 : (nI (pProp r (ix mi)) : Int32) = r_3 := hw_3.symm
        subst hw_3
        have hP : va_P G.1 vwCl (wX G ad ho rn ln dr ro lt rf th sb ++ wR G (ad 1) kd r ++ wR G (ad 2) u_3.1 u_3.2 ++ wR G (ad 3) k2 r2 ++ wK (ad 4)) H := hP
        have hD : va_D A (wX G ad ho rn ln dr ro lt rf th sb ++ wR G (ad 1) kd r ++ wR G (ad 2) u_3.1 u_3.2 ++ wR G (ad 3) k2 r2 ++ wK (ad 4)) := hD
        refine W.widen (k := 2) (n := 14) (Nat.le_of_ble_eq_true rfl) (Nat.le_of_ble_eq_true rfl) ?_
        have hP : va_P G.1 vwCl (wX G ad ho rn ln dr ro lt (sel (eW (wBy mi.toInt 0 99) 0) rf (rfU rf (eW (wBy mi.toInt 0 99) 0))) th sb ++ wR G (ad 1) kd r ++ wR G (ad 2) u_3.1 u_3.2 ++ wR G (ad 3) k2 r2 ++ wK (ad 4)) H := by simp only [sel_0 hz_3]; exact hP
        have hD : va_D A (wX G ad ho rn ln dr ro lt (sel (eW (wBy mi.toInt 0 99) 0) rf (rfU rf (eW (wBy mi.toInt 0 99) 0))) th sb ++ wR G (ad 1) kd r ++ wR G (ad 2) u_3.1 u_3.2 ++ wR G (ad 3) k2 r2 ++ wK (ad 4)) := by simp only [sel_0 hz_3]; exact hD
        refine hret _ _ _ _ _ _ (nI (pProp r (ix mi))) u_3 dX0_act_49 ?_ hP hD hS (Nat.le_of_ble_eq_true rfl) (Nat.le_of_ble_eq_true rfl)
        exact (sel_0 hz_3).symm
    · skip
      exact absurd c_2 (by decide)
  · skip
    exact absurd c_1 (by decide)
set_option maxHeartbeats 4000000 in
set_option maxRecDepth 100000 in
theorem m_act_20 (l : Launch) (hl0 : l.stackTraces = false) (G : xG) (ad : Nat → Nat → Nat) (kd k1 k2 : Nat → Option Nat) (r r1 r2 : Rw) (ho rn ln dr : Int32) (ro lt rf th sb : Nat → Int32) (hr : Ok r) (hp : r 5 3 = 0) (hk : kOk (ad 4) kd r) (x1 x2 x3 sp w : Int32) : zCi l G yX0_act (wsW_ yX0_act cX0_act 8 (some .int) [(0, 49, 50, 239)]) ({ frames := 12, cells := 7, slots := 49, locals := 234 } : Room) [.ref (ad 0 0), .int 20, .int x1, .int x2, .int x3, .int sp, .int w] (wX G ad ho rn ln dr ro lt rf th sb ++ wR G (ad 1) kd r ++ wR G (ad 2) k1 r1 ++ wR G (ad 3) k2 r2 ++ wK (ad 4)) (S := ((Nat → Option Nat) × Rw)) (fun v _ => v = sel (eS (tB r x1) (-1) (eS (tB r x2) (-1) (eS (tB r x3) (-1) (eS (decide (x1 ≠ x2 ∧ x1 ≠ x3 ∧ x2 ≠ x3)) (-1) (eW (wBy sp.toInt 0 9) (eS (inR w 0 1) (-2) 0)))))) (pOrd r (x3f x1 x2 x3) sp w) (eS (tB r x1) (-1) (eS (tB r x2) (-1) (eS (tB r x3) (-1) (eS (decide (x1 ≠ x2 ∧ x1 ≠ x3 ∧ x2 ≠ x3)) (-1) (eW (wBy sp.toInt 0 9) (eS (inR w 0 1) (-2) 0))))))) (fun u => (wX G ad ho rn ln dr ro lt (sel (eS (tB r x1) (-1) (eS (tB r x2) (-1) (eS (tB r x3) (-1) (eS (decide (x1 ≠ x2 ∧ x1 ≠ x3 ∧ x2 ≠ x3)) (-1) (eW (wBy sp.toInt 0 9) (eS (inR w 0 1) (-2) 0)))))) rf (rfU rf (eS (tB r x1) (-1) (eS (tB r x2) (-1) (eS (tB r x3) (-1) (eS (decide (x1 ≠ x2 ∧ x1 ≠ x3 ∧ x2 ≠ x3)) (-1) (eW (wBy sp.toInt 0 9) (eS (inR w 0 1) (-2) 0)))))))) (sel (eS (tB r x1) (-1) (eS (tB r x2) (-1) (eS (tB r x3) (-1) (eS (decide (x1 ≠ x2 ∧ x1 ≠ x3 ∧ x2 ≠ x3)) (-1) (eW (wBy sp.toInt 0 9) (eS (inR w 0 1) (-2) 0)))))) (upd (upd (upd th 0 x1) 1 x2) 2 x3) th) sb ++ wR G (ad 1) kd r ++ wR G (ad 2) u.1 u.2 ++ wR G (ad 3) k2 r2 ++ wK (ad 4))) := by
  refine z_openiW (hh := [(0, 49, 50, 239)]) (by decide) (Nat.le_of_ble_eq_true rfl) (fun _ _ _ => rfl) ?_
  intro p e s m args below meth c A Q ls C0 hK hZ hP hD hA hl htb hret
  obtain ⟨hx, hb, hml, hown, hts⟩ := id C0
  have hS : va_S A s.heap s.heap [] := va_S.rf
  have hP : va_P G.1 vwCl (wX G ad ho rn ln dr ro lt rf th sb ++ wR G (ad 1) kd r ++ wR G (ad 2) k1 r1 ++ wR G (ad 3) k2 r2 ++ wK (ad 4)) s.heap := hP
  have hD : va_D A (wX G ad ho rn ln dr ro lt rf th sb ++ wR G (ad 1) kd r ++ wR G (ad 2) k1 r1 ++ wR G (ad 3) k2 r2 ++ wK (ad 4)) := hD
  have hl : lv_has ls 8 [(0, .ref (ad 0 0)), (1, .int 20), (2, .int x1), (3, .int x2), (4, .int x3), (5, .int sp), (6, .int w)] := hl
  have hr0 := hr.n
  have hN := hr.le
  refine lv_iload_n hx hb dX0_act_0 rfl (lv_at hl 1 rfl) ?_
  refine lv_bipush (v := 9) hx hb dX0_act_1 (by decide) ?_
  refine lv_icmp_ge (tgt := 18) hx hb dX0_act_3 (by decide) (fun c_1 => ?_) (fun c_1 => ?_)
  · skip
    refine lv_iload_n hx hb dX0_act_18 rfl (lv_at hl 1 rfl) ?_
    refine lv_bipush (v := 18) hx hb dX0_act_19 (by decide) ?_
    refine lv_icmp_ge (tgt := 36) hx hb dX0_act_21 (by decide) (fun c_2 => ?_) (fun c_2 => ?_)
    · skip
      refine lv_aload_n hx hb dX0_act_36 rfl (lv_at hl 0 rfl) ?_
      refine lv_iload_n hx hb dX0_act_37 rfl (lv_at hl 1 rfl) ?_
      refine lv_iload_n hx hb dX0_act_38 rfl (lv_at hl 2 rfl) ?_
      refine lv_iload_n hx hb dX0_act_39 rfl (lv_at hl 3 rfl) ?_
      refine lv_iload hx hb dX0_act_40 (lv_at hl 4 rfl) ?_
      refine lv_iload hx hb dX0_act_42 (lv_at hl 5 rfl) ?_
      refine lv_iload hx hb dX0_act_44 (lv_at hl 6 rfl) ?_
      refine y_Vi (wN := fun u_3 => (wX G ad ho rn ln dr ro lt rf (upd (upd (upd th 0 x1) 1 x2) 2 x3) sb ++ wR G (ad 1) kd r ++ wR G (ad 2) u_3.1 u_3.2 ++ wR G (ad 3) k2 r2 ++ wK (ad 4))) (wNx := fun u9 => (wX G ad ho rn ln dr ro lt rf th sb ++ wR G (ad 1) kd r ++ wR G (ad 2) k1 r1 ++ wR G (ad 3) k2 r2 ++ wK (ad 4))) ⟨C0, hK, hP, hD, hS, hA⟩ hZ 0 rfl (ci := 0) rfl rfl ((m_of_20 l hl0 G ad kd k1 k2 r r1 r2 ho rn ln dr ro lt rf th sb hr hp hk x1 x2 x3 sp w)) (cwV 6 hts (lw_V q875 q877 qs40 q86 q878) rfl rfl rfl (by decide +kernel) ⟨Nat.le_of_ble_eq_true rfl, Nat.le_of_ble_eq_true rfl⟩) [0, 1, 2, 3, 4, 5, 6, 7, 8, 9, 10, 11, 12, 13, 14, 15, 16, 17, 18, 19, 20, 21, 22, 23, 24, 25, 26, 27, 28, 29, 30] [1, 3, 5, 7, 9, 11, 13, 15, 17, 19, 21, 23, 25, 27, 29, 31, 33, 35, 37, 39, 41, 43, 45, 47, 49, 51, 53, 55, 57, 59, 61] [1, 3, 5, 7, 9, 11, 13, 15, 17, 19, 21, 23, 25, 27, 29, 31, 33, 35, 37, 39, 41, 43, 45, 47, 49, 51, 53, 55, 57, 59, 61, 63] rfl (fun _ => rfl) (fun _ _ _ => rfl) rfl rfl rfl hl.1 rfl (Nat.le_of_ble_eq_true rfl) dX0_act_46 ⟨(Nat.le_of_ble_eq_true rfl), (Nat.le_of_ble_eq_true rfl)⟩ (fun q9 u9 ee H locs hw_3 hP hD hS => ?_) (fun r_3 u_3 H locs hw_3 hP hD hS => ?_)
      · skip
        refine z_catch ⟨0, 49, 50, 239⟩ hown hK htb rfl (by decide) (by decide) (hts _ q273) hP ?_
        have hthr9 : ee.2.1 = eS (tB r x1) (-1) (eS (tB r x2) (-1) (eS (tB r x3) (-1) (eS (decide (x1 ≠ x2 ∧ x1 ≠ x3 ∧ x2 ≠ x3)) (-1) (eW (wBy sp.toInt 0 9) (eS (inR w 0 1) (-2) 0))))) ∧ eS (tB r x1) (-1) (eS (tB r x2) (-1) (eS (tB r x3) (-1) (eS (decide (x1 ≠ x2 ∧ x1 ≠ x3 ∧ x2 ≠ x3)) (-1) (eW (wBy sp.toInt 0 9) (eS (inR w 0 1) (-2) 0))))) ≠ 0 := hw_3
        refine lv_astore (lv' := [(7, .ref q9), (0, .ref (ad 0 0)), (1, .int 20), (2, .int x1), (3, .int x2), (4, .int x3), (5, .int sp), (6, .int w)]) hx hb dX0_act_50 hl (by decide) rfl (fun ls hl => ?_)
        refine lv_aload_n hx hb dX0_act_52 rfl (lv_at hl 1 rfl) ?_
        refine lv_aload hx hb dX0_act_53 (lv_at hl 0 rfl) ?_
        obtain ⟨ek, en, e1, e2, e3⟩ := ee
        cases ek
        · skip
          have hP : va_P G.1 vwCl (wX G ad ho rn ln dr ro lt rf th sb ++ wR G (ad 1) kd r ++ wR G (ad 2) k1 r1 ++ wR G (ad 3) k2 r2 ++ wK (ad 4) ++ [(q9, .inr (9, [e1, e2, e3, .null, .null, .int 0, .int en]))]) H := hP
          have hD : va_D A (wX G ad ho rn ln dr ro lt rf th sb ++ wR G (ad 1) kd r ++ wR G (ad 2) k1 r1 ++ wR G (ad 3) k2 r2 ++ wK (ad 4) ++ [(q9, .inr (9, [e1, e2, e3, .null, .null, .int 0, .int en]))]) := hD
          obtain ⟨een, hne⟩ := hthr9
          have een : en = eS (tB r x1) (-1) (eS (tB r x2) (-1) (eS (tB r x3) (-1) (eS (decide (x1 ≠ x2 ∧ x1 ≠ x3 ∧ x2 ≠ x3)) (-1) (eW (wBy sp.toInt 0 9) (eS (inR w 0 1) (-2) 0))))) := een
          subst een
          have hP : va_P G.1 vwCl (wX G ad ho rn ln dr ro lt rf th sb ++ wR G (ad 1) kd r ++ wR G (ad 2) k1 r1 ++ wR G (ad 3) k2 r2 ++ wK (ad 4) ++ [(q9, .inr (9, [e1, e2, e3, .null, .null, .int 0, .int (eS (tB r x1) (-1) (eS (tB r x2) (-1) (eS (tB r x3) (-1) (eS (decide (x1 ≠ x2 ∧ x1 ≠ x3 ∧ x2 ≠ x3)) (-1) (eW (wBy sp.toInt 0 9) (eS (inR w 0 1) (-2) 0))))))]))]) H := hP
          have hD : va_D A (wX G ad ho rn ln dr ro lt rf th sb ++ wR G (ad 1) kd r ++ wR G (ad 2) k1 r1 ++ wR G (ad 3) k2 r2 ++ wK (ad 4) ++ [(q9, .inr (9, [e1, e2, e3, .null, .null, .int 0, .int (eS (tB r x1) (-1) (eS (tB r x2) (-1) (eS (tB r x3) (-1) (eS (decide (x1 ≠ x2 ∧ x1 ≠ x3 ∧ x2 ≠ x3)) (-1) (eW (wBy sp.toInt 0 9) (eS (inR w 0 1) (-2) 0))))))]))]) := hD
          refine x_Ui (wN := fun _ => (wX G ad ho rn ln dr ro lt rf th sb ++ wR G (ad 1) kd r ++ wR G (ad 2) k1 r1 ++ wR G (ad 3) k2 r2 ++ wK (ad 4) ++ [(q9, .inr (9, [e1, e2, e3, .null, .null, .int 0, .int (eS (tB r x1) (-1) (eS (tB r x2) (-1) (eS (tB r x3) (-1) (eS (decide (x1 ≠ x2 ∧ x1 ≠ x3 ∧ x2 ≠ x3)) (-1) (eW (wBy sp.toInt 0 9) (eS (inR w 0 1) (-2) 0))))))]))])) ⟨C0, hK, hP, hD, hS, hA⟩ 31 rfl (ci := 9) rfl rfl ((m_X11_number l G q9 e1 e2 e3 (eS (tB r x1) (-1) (eS (tB r x2) (-1) (eS (tB r x3) (-1) (eS (decide (x1 ≠ x2 ∧ x1 ≠ x3 ∧ x2 ≠ x3)) (-1) (eW (wBy sp.toInt 0 9) (eS (inR w 0 1) (-2) 0)))))))) (va_cwA (owner := "PulledFromUnder$Refusal") 0 hts (lw_U q990 q992 q996 q997 q100 q998) rfl rfl rfl (hK.2.D 13 rfl) (by decide +kernel) ⟨Nat.le_of_ble_eq_true rfl, Nat.le_of_ble_eq_true rfl⟩) [31] [0, 2, 4, 6, 8, 10, 12, 14, 16, 18, 20, 22, 24, 26, 28, 30, 32, 34, 36, 38, 40, 42, 44, 46, 48, 50, 52, 54, 56, 58, 60, 1] rfl (fun _ => rfl) rfl rfl hl.1 rfl (Nat.le_of_ble_eq_true rfl) dX0_act_55 ⟨(Nat.le_of_ble_eq_true rfl), (Nat.le_of_ble_eq_true rfl)⟩ (fun r_4 u_4 H locs hw_4 hP hD hS => ?_)
          have hw_4 : (eS (tB r x1) (-1) (eS (tB r x2) (-1) (eS (tB r x3) (-1) (eS (decide (x1 ≠ x2 ∧ x1 ≠ x3 ∧ x2 ≠ x3)) (-1) (eW (wBy sp.toInt 0 9) (eS (inR w 0 1) (-2) 0))))) : Int32) = r_4 := hw_4.symm
          subst hw_4
          refine x_Vi (wN := fun _ => (wX G ad ho rn ln dr ro lt (rfU rf (eS (tB r x1) (-1) (eS (tB r x2) (-1) (eS (tB r x3) (-1) (eS (decide (x1 ≠ x2 ∧ x1 ≠ x3 ∧ x2 ≠ x3)) (-1) (eW (wBy sp.toInt 0 9) (eS (inR w 0 1) (-2) 0))))))) th sb ++ wR G (ad 1) kd r ++ wR G (ad 2) k1 r1 ++ wR G (ad 3) k2 r2 ++ wK (ad 4) ++ [(q9, .inr (9, [e1, e2, e3, .null, .null, .int 0, .int (eS (tB r x1) (-1) (eS (tB r x2) (-1) (eS (tB r x3) (-1) (eS (decide (x1 ≠ x2 ∧ x1 ≠ x3 ∧ x2 ≠ x3)) (-1) (eW (wBy sp.toInt 0 9) (eS (inR w 0 1) (-2) 0))))))]))])) ⟨C0, hK, hP, hD, hS, hA⟩ 0 rfl (ci := 0) rfl rfl ((m_refuse l G ad kd k1 k2 r r1 r2 ho rn ln dr ro lt rf th sb hr hp hk (eS (tB r x1) (-1) (eS (tB r x2) (-1) (eS (tB r x3) (-1) (eS (decide (x1 ≠ x2 ∧ x1 ≠ x3 ∧ x2 ≠ x3)) (-1) (eW (wBy sp.toInt 0 9) (eS (inR w 0 1) (-2) 0)))))) (rfOk_S rfOk_k.1 (rfOk_S rfOk_k.1 (rfOk_S rfOk_k.1 (rfOk_S rfOk_k.1 (rfOk_W (rfOk_S rfOk_k.2.1 rfOk_0)))))))) (cwV 1 hts (lw_V q999 q1001 qs62 q86 q1002) rfl rfl rfl (by decide +kernel) ⟨Nat.le_of_ble_eq_true rfl, Nat.le_of_ble_eq_true rfl⟩) [0, 1, 2, 3, 4, 5, 6, 7, 8, 9, 10, 11, 12, 13, 14, 15, 16, 17, 18, 19, 20, 21, 22, 23, 24, 25, 26, 27, 28, 29, 30] [1, 3, 5, 7, 9, 11, 13, 15, 17, 19, 21, 23, 25, 27, 29, 31, 33, 35, 37, 39, 41, 43, 45, 47, 49, 51, 53, 55, 57, 59, 61, 62] rfl (fun _ => rfl) rfl rfl hl.1 rfl (Nat.le_of_ble_eq_true rfl) dX0_act_58 ⟨(Nat.le_of_ble_eq_true rfl), (Nat.le_of_ble_eq_true rfl)⟩ (fun r_5 u_5 H locs hw_5 hP hD hS => ?_)
          have hw_5 : (eS (tB r x1) (-1) (eS (tB r x2) (-1) (eS (tB r x3) (-1) (eS (decide (x1 ≠ x2 ∧ x1 ≠ x3 ∧ x2 ≠ x3)) (-1) (eW (wBy sp.toInt 0 9) (eS (inR w 0 1) (-2) 0))))) : Int32) = r_5 := hw_5.symm
          subst hw_5
          have hP : va_P G.1 vwCl (wX G ad ho rn ln dr ro lt (rfU rf (eS (tB r x1) (-1) (eS (tB r x2) (-1) (eS (tB r x3) (-1) (eS (decide (x1 ≠ x2 ∧ x1 ≠ x3 ∧ x2 ≠ x3)) (-1) (eW (wBy sp.toInt 0 9) (eS (inR w 0 1) (-2) 0))))))) th sb ++ wR G (ad 1) kd r ++ wR G (ad 2) k1 r1 ++ wR G (ad 3) k2 r2 ++ wK (ad 4) ++ [(q9, .inr (9, [e1, e2, e3, .null, .null, .int 0, .int (eS (tB r x1) (-1) (eS (tB r x2) (-1) (eS (tB r x3) (-1) (eS (decide (x1 ≠ x2 ∧ x1 ≠ x3 ∧ x2 ≠ x3)) (-1) (eW (wBy sp.toInt 0 9) (eS (inR w 0 1) (-2) 0))))))]))]) H := hP
          have hD : va_D A (wX G ad ho rn ln dr ro lt (rfU rf (eS (tB r x1) (-1) (eS (tB r x2) (-1) (eS (tB r x3) (-1) (eS (decide (x1 ≠ x2 ∧ x1 ≠ x3 ∧ x2 ≠ x3)) (-1) (eW (wBy sp.toInt 0 9) (eS (inR w 0 1) (-2) 0))))))) th sb ++ wR G (ad 1) kd r ++ wR G (ad 2) k1 r1 ++ wR G (ad 3) k2 r2 ++ wK (ad 4) ++ [(q9, .inr (9, [e1, e2, e3, .null, .null, .int 0, .int (eS (tB r x1) (-1) (eS (tB r x2) (-1) (eS (tB r x3) (-1) (eS (decide (x1 ≠ x2 ∧ x1 ≠ x3 ∧ x2 ≠ x3)) (-1) (eW (wBy sp.toInt 0 9) (eS (inR w 0 1) (-2) 0))))))]))]) := hD
          have hP := x_dropP hP
          have hD := x_dropD hD
          have hP : va_P G.1 vwCl (wX G ad ho rn ln dr ro lt (sel (eS (tB r x1) (-1) (eS (tB r x2) (-1) (eS (tB r x3) (-1) (eS (decide (x1 ≠ x2 ∧ x1 ≠ x3 ∧ x2 ≠ x3)) (-1) (eW (wBy sp.toInt 0 9) (eS (inR w 0 1) (-2) 0)))))) rf (rfU rf (eS (tB r x1) (-1) (eS (tB r x2) (-1) (eS (tB r x3) (-1) (eS (decide (x1 ≠ x2 ∧ x1 ≠ x3 ∧ x2 ≠ x3)) (-1) (eW (wBy sp.toInt 0 9) (eS (inR w 0 1) (-2) 0)))))))) (sel (eS (tB r x1) (-1) (eS (tB r x2) (-1) (eS (tB r x3) (-1) (eS (decide (x1 ≠ x2 ∧ x1 ≠ x3 ∧ x2 ≠ x3)) (-1) (eW (wBy sp.toInt 0 9) (eS (inR w 0 1) (-2) 0)))))) (upd (upd (upd th 0 x1) 1 x2) 2 x3) th) sb ++ wR G (ad 1) kd r ++ wR G (ad 2) ((k1, r1).1) ((k1, r1).2) ++ wR G (ad 3) k2 r2 ++ wK (ad 4)) H := by simp only [sel_n hne]; exact hP
          have hD : va_D A (wX G ad ho rn ln dr ro lt (sel (eS (tB r x1) (-1) (eS (tB r x2) (-1) (eS (tB r x3) (-1) (eS (decide (x1 ≠ x2 ∧ x1 ≠ x3 ∧ x2 ≠ x3)) (-1) (eW (wBy sp.toInt 0 9) (eS (inR w 0 1) (-2) 0)))))) rf (rfU rf (eS (tB r x1) (-1) (eS (tB r x2) (-1) (eS (tB r x3) (-1) (eS (decide (x1 ≠ x2 ∧ x1 ≠ x3 ∧ x2 ≠ x3)) (-1) (eW (wBy sp.toInt 0 9) (eS (inR w 0 1) (-2) 0)))))))) (sel (eS (tB r x1) (-1) (eS (tB r x2) (-1) (eS (tB r x3) (-1) (eS (decide (x1 ≠ x2 ∧ x1 ≠ x3 ∧ x2 ≠ x3)) (-1) (eW (wBy sp.toInt 0 9) (eS (inR w 0 1) (-2) 0)))))) (upd (upd (upd th 0 x1) 1 x2) 2 x3) th) sb ++ wR G (ad 1) kd r ++ wR G (ad 2) ((k1, r1).1) ((k1, r1).2) ++ wR G (ad 3) k2 r2 ++ wK (ad 4)) := by simp only [sel_n hne]; exact hD
          refine hret _ _ _ _ _ _ (eS (tB r x1) (-1) (eS (tB r x2) (-1) (eS (tB r x3) (-1) (eS (decide (x1 ≠ x2 ∧ x1 ≠ x3 ∧ x2 ≠ x3)) (-1) (eW (wBy sp.toInt 0 9) (eS (inR w 0 1) (-2) 0)))))) (k1, r1) dX0_act_61 ?_ hP hD hS (Nat.le_of_ble_eq_true rfl) (Nat.le_of_ble_eq_true rfl)
          exact (sel_n hne).symm
        · skip
          have hP : va_P G.1 vwCl (wX G ad ho rn ln dr ro lt rf th sb ++ wR G (ad 1) kd r ++ wR G (ad 2) k1 r1 ++ wR G (ad 3) k2 r2 ++ wK (ad 4) ++ [(q9, .inr (11, [e1, e2, e3, .null, .null, .int 0, .int en]))]) H := hP
          have hD : va_D A (wX G ad ho rn ln dr ro lt rf th sb ++ wR G (ad 1) kd r ++ wR G (ad 2) k1 r1 ++ wR G (ad 3) k2 r2 ++ wK (ad 4) ++ [(q9, .inr (11, [e1, e2, e3, .null, .null, .int 0, .int en]))]) := hD
          obtain ⟨een, hne⟩ := hthr9
          have een : en = eS (tB r x1) (-1) (eS (tB r x2) (-1) (eS (tB r x3) (-1) (eS (decide (x1 ≠ x2 ∧ x1 ≠ x3 ∧ x2 ≠ x3)) (-1) (eW (wBy sp.toInt 0 9) (eS (inR w 0 1) (-2) 0))))) := een
          subst een
          have hP : va_P G.1 vwCl (wX G ad ho rn ln dr ro lt rf th sb ++ wR G (ad 1) kd r ++ wR G (ad 2) k1 r1 ++ wR G (ad 3) k2 r2 ++ wK (ad 4) ++ [(q9, .inr (11, [e1, e2, e3, .null, .null, .int 0, .int (eS (tB r x1) (-1) (eS (tB r x2) (-1) (eS (tB r x3) (-1) (eS (decide (x1 ≠ x2 ∧ x1 ≠ x3 ∧ x2 ≠ x3)) (-1) (eW (wBy sp.toInt 0 9) (eS (inR w 0 1) (-2) 0))))))]))]) H := hP
          have hD : va_D A (wX G ad ho rn ln dr ro lt rf th sb ++ wR G (ad 1) kd r ++ wR G (ad 2) k1 r1 ++ wR G (ad 3) k2 r2 ++ wK (ad 4) ++ [(q9, .inr (11, [e1, e2, e3, .null, .null, .int 0, .int (eS (tB r x1) (-1) (eS (tB r x2) (-1) (eS (tB r x3) (-1) (eS (decide (x1 ≠ x2 ∧ x1 ≠ x3 ∧ x2 ≠ x3)) (-1) (eW (wBy sp.toInt 0 9) (eS (inR w 0 1) (-2) 0))))))]))]) := hD
          refine x_Ui (wN := fun _ => (wX G ad ho rn ln dr ro lt rf th sb ++ wR G (ad 1) kd r ++ wR G (ad 2) k1 r1 ++ wR G (ad 3) k2 r2 ++ wK (ad 4) ++ [(q9, .inr (11, [e1, e2, e3, .null, .null, .int 0, .int (eS (tB r x1) (-1) (eS (tB r x2) (-1) (eS (tB r x3) (-1) (eS (decide (x1 ≠ x2 ∧ x1 ≠ x3 ∧ x2 ≠ x3)) (-1) (eW (wBy sp.toInt 0 9) (eS (inR w 0 1) (-2) 0))))))]))])) ⟨C0, hK, hP, hD, hS, hA⟩ 31 rfl (ci := 11) rfl rfl ((m_X13_number l G q9 e1 e2 e3 (eS (tB r x1) (-1) (eS (tB r x2) (-1) (eS (tB r x3) (-1) (eS (decide (x1 ≠ x2 ∧ x1 ≠ x3 ∧ x2 ≠ x3)) (-1) (eW (wBy sp.toInt 0 9) (eS (inR w 0 1) (-2) 0)))))))) (va_cwA (owner := "PulledFromUnder$Refusal") 0 hts (lw_U q990 q992 q993 q994 q102 q995) rfl rfl rfl (hK.2.D 13 rfl) (by decide +kernel) ⟨Nat.le_of_ble_eq_true rfl, Nat.le_of_ble_eq_true rfl⟩) [31] [0, 2, 4, 6, 8, 10, 12, 14, 16, 18, 20, 22, 24, 26, 28, 30, 32, 34, 36, 38, 40, 42, 44, 46, 48, 50, 52, 54, 56, 58, 60, 1] rfl (fun _ => rfl) rfl rfl hl.1 rfl (Nat.le_of_ble_eq_true rfl) dX0_act_55 ⟨(Nat.le_of_ble_eq_true rfl), (Nat.le_of_ble_eq_true rfl)⟩ (fun r_6 u_6 H locs hw_6 hP hD hS => ?_)
          have hw_6 : (eS (tB r x1) (-1) (eS (tB r x2) (-1) (eS (tB r x3) (-1) (eS (decide (x1 ≠ x2 ∧ x1 ≠ x3 ∧ x2 ≠ x3)) (-1) (eW (wBy sp.toInt 0 9) (eS (inR w 0 1) (-2) 0))))) : Int32) = r_6 := hw_6.symm
          subst hw_6
          refine x_Vi (wN := fun _ => (wX G ad ho rn ln dr ro lt (rfU rf (eS (tB r x1) (-1) (eS (tB r x2) (-1) (eS (tB r x3) (-1) (eS (decide (x1 ≠ x2 ∧ x1 ≠ x3 ∧ x2 ≠ x3)) (-1) (eW (wBy sp.toInt 0 9) (eS (inR w 0 1) (-2) 0))))))) th sb ++ wR G (ad 1) kd r ++ wR G (ad 2) k1 r1 ++ wR G (ad 3) k2 r2 ++ wK (ad 4) ++ [(q9, .inr (11, [e1, e2, e3, .null, .null, .int 0, .int (eS (tB r x1) (-1) (eS (tB r x2) (-1) (eS (tB r x3) (-1) (eS (decide (x1 ≠ x2 ∧ x1 ≠ x3 ∧ x2 ≠ x3)) (-1) (eW (wBy sp.toInt 0 9) (eS (inR w 0 1) (-2) 0))))))]))])) ⟨C0, hK, hP, hD, hS, hA⟩ 0 rfl (ci := 0) rfl rfl ((m_refuse l G ad kd k1 k2 r r1 r2 ho rn ln dr ro lt rf th sb hr hp hk (eS (tB r x1) (-1) (eS (tB r x2) (-1) (eS (tB r x3) (-1) (eS (decide (x1 ≠ x2 ∧ x1 ≠ x3 ∧ x2 ≠ x3)) (-1) (eW (wBy sp.toInt 0 9) (eS (inR w 0 1) (-2) 0)))))) (rfOk_S rfOk_k.1 (rfOk_S rfOk_k.1 (rfOk_S rfOk_k.1 (rfOk_S rfOk_k.1 (rfOk_W (rfOk_S rfOk_k.2.1 rfOk_0)))))))) (cwV 1 hts (lw_V q999 q1001 qs62 q86 q1002) rfl rfl rfl (by decide +kernel) ⟨Nat.le_of_ble_eq_true rfl, Nat.le_of_ble_eq_true rfl⟩) [0, 1, 2, 3, 4, 5, 6, 7, 8, 9, 10, 11, 12, 13, 14, 15, 16, 17, 18, 19, 20, 21, 22, 23, 24, 25, 26, 27, 28, 29, 30] [1, 3, 5, 7, 9, 11, 13, 15, 17, 19, 21, 23, 25, 27, 29, 31, 33, 35, 37, 39, 41, 43, 45, 47, 49, 51, 53, 55, 57, 59, 61, 62] rfl (fun _ => rfl) rfl rfl hl.1 rfl (Nat.le_of_ble_eq_true rfl) dX0_act_58 ⟨(Nat.le_of_ble_eq_true rfl), (Nat.le_of_ble_eq_true rfl)⟩ (fun r_7 u_7 H locs hw_7 hP hD hS => ?_)
          have hw_7 : (eS (tB r x1) (-1) (eS (tB r x2) (-1) (eS (tB r x3) (-1) (eS (decide (x1 ≠ x2 ∧ x1 ≠ x3 ∧ x2 ≠ x3)) (-1) (eW (wBy sp.toInt 0 9) (eS (inR w 0 1) (-2) 0))))) : Int32) = r_7 := hw_7.symm
          subst hw_7
          have hP : va_P G.1 vwCl (wX G ad ho rn ln dr ro lt (rfU rf (eS (tB r x1) (-1) (eS (tB r x2) (-1) (eS (tB r x3) (-1) (eS (decide (x1 ≠ x2 ∧ x1 ≠ x3 ∧ x2 ≠ x3)) (-1) (eW (wBy sp.toInt 0 9) (eS (inR w 0 1) (-2) 0))))))) th sb ++ wR G (ad 1) kd r ++ wR G (ad 2) k1 r1 ++ wR G (ad 3) k2 r2 ++ wK (ad 4) ++ [(q9, .inr (11, [e1, e2, e3, .null, .null, .int 0, .int (eS (tB r x1) (-1) (eS (tB r x2) (-1) (eS (tB r x3) (-1) (eS (decide (x1 ≠ x2 ∧ x1 ≠ x3 ∧ x2 ≠ x3)) (-1) (eW (wBy sp.toInt 0 9) (eS (inR w 0 1) (-2) 0))))))]))]) H := hP
          have hD : va_D A (wX G ad ho rn ln dr ro lt (rfU rf (eS (tB r x1) (-1) (eS (tB r x2) (-1) (eS (tB r x3) (-1) (eS (decide (x1 ≠ x2 ∧ x1 ≠ x3 ∧ x2 ≠ x3)) (-1) (eW (wBy sp.toInt 0 9) (eS (inR w 0 1) (-2) 0))))))) th sb ++ wR G (ad 1) kd r ++ wR G (ad 2) k1 r1 ++ wR G (ad 3) k2 r2 ++ wK (ad 4) ++ [(q9, .inr (11, [e1, e2, e3, .null, .null, .int 0, .int (eS (tB r x1) (-1) (eS (tB r x2) (-1) (eS (tB r x3) (-1) (eS (decide (x1 ≠ x2 ∧ x1 ≠ x3 ∧ x2 ≠ x3)) (-1) (eW (wBy sp.toInt 0 9) (eS (inR w 0 1) (-2) 0))))))]))]) := hD
          have hP := x_dropP hP
          have hD := x_dropD hD
          have hP : va_P G.1 vwCl (wX G ad ho rn ln dr ro lt (sel (eS (tB r x1) (-1) (eS (tB r x2) (-1) (eS (tB r x3) (-1) (eS (decide (x1 ≠ x2 ∧ x1 ≠ x3 ∧ x2 ≠ x3)) (-1) (eW (wBy sp.toInt 0 9) (eS (inR w 0 1) (-2) 0)))))) rf (rfU rf (eS (tB r x1) (-1) (eS (tB r x2) (-1) (eS (tB r x3) (-1) (eS (decide (x1 ≠ x2 ∧ x1 ≠ x3 ∧ x2 ≠ x3)) (-1) (eW (wBy sp.toInt 0 9) (eS (inR w 0 1) (-2) 0)))))))) (sel (eS (tB r x1) (-1) (eS (tB r x2) (-1) (eS (tB r x3) (-1) (eS (decide (x1 ≠ x2 ∧ x1 ≠ x3 ∧ x2 ≠ x3)) (-1) (eW (wBy sp.toInt 0 9) (eS (inR w 0 1) (-2) 0)))))) (upd (upd (upd th 0 x1) 1 x2) 2 x3) th) sb ++ wR G (ad 1) kd r ++ wR G (ad 2) ((k1, r1).1) ((k1, r1).2) ++ wR G (ad 3) k2 r2 ++ wK (ad 4)) H := by simp only [sel_n hne]; exact hP
          have hD : va_D A (wX G ad ho rn ln dr ro lt (sel (eS (tB r x1) (-1) (eS (tB r x2) (-1) (eS (tB r x3) (-1) (eS (decide (x1 ≠ x2 ∧ x1 ≠ x3 ∧ x2 ≠ x3)) (-1) (eW (wBy sp.toInt 0 9) (eS (inR w 0 1) (-2) 0)))))) rf (rfU rf (eS (tB r x1) (-1) (eS (tB r x2) (-1) (eS (tB r x3) (-1) (eS (decide (x1 ≠ x2 ∧ x1 ≠ x3 ∧ x2 ≠ x3)) (-1) (eW (wBy sp.toInt 0 9) (eS (inR w 0 1) (-2) 0)))))))) (sel (eS (tB r x1) (-1) (eS (tB r x2) (-1) (eS (tB r x3) (-1) (eS (decide (x1 ≠ x2 ∧ x1 ≠ x3 ∧ x2 ≠ x3)) (-1) (eW (wBy sp.toInt 0 9) (eS (inR w 0 1) (-2) 0)))))) (upd (upd (upd th 0 x1) 1 x2) 2 x3) th) sb ++ wR G (ad 1) kd r ++ wR G (ad 2) ((k1, r1).1) ((k1, r1).2) ++ wR G (ad 3) k2 r2 ++ wK (ad 4)) := by simp only [sel_n hne]; exact hD
          refine hret _ _ _ _ _ _ (eS (tB r x1) (-1) (eS (tB r x2) (-1) (eS (tB r x3) (-1) (eS (decide (x1 ≠ x2 ∧ x1 ≠ x3 ∧ x2 ≠ x3)) (-1) (eW (wBy sp.toInt 0 9) (eS (inR w 0 1) (-2) 0)))))) (k1, r1) dX0_act_61 ?_ hP hD hS (Nat.le_of_ble_eq_true rfl) (Nat.le_of_ble_eq_true rfl)
          exact (sel_n hne).symm
      · skip
        obtain ⟨hz_3, hw_3⟩ := hw_3
        have hw_3 : (pOrd r (x3f x1 x2 x3) sp w : Int32) = r_3 := hw_3.symm
        subst hw_3
        have hP : va_P G.1 vwCl (wX G ad ho rn ln dr ro lt rf (upd (upd (upd th 0 x1) 1 x2) 2 x3) sb ++ wR G (ad 1) kd r ++ wR G (ad 2) u_3.1 u_3.2 ++ wR G (ad 3) k2 r2 ++ wK (ad 4)) H := hP
        have hD : va_D A (wX G ad ho rn ln dr ro lt rf (upd (upd (upd th 0 x1) 1 x2) 2 x3) sb ++ wR G (ad 1) kd r ++ wR G (ad 2) u_3.1 u_3.2 ++ wR G (ad 3) k2 r2 ++ wK (ad 4)) := hD
        refine W.widen (k := 7) (n := 49) (Nat.le_of_ble_eq_true rfl) (Nat.le_of_ble_eq_true rfl) ?_
        have hP : va_P G.1 vwCl (wX G ad ho rn ln dr ro lt (sel (eS (tB r x1) (-1) (eS (tB r x2) (-1) (eS (tB r x3) (-1) (eS (decide (x1 ≠ x2 ∧ x1 ≠ x3 ∧ x2 ≠ x3)) (-1) (eW (wBy sp.toInt 0 9) (eS (inR w 0 1) (-2) 0)))))) rf (rfU rf (eS (tB r x1) (-1) (eS (tB r x2) (-1) (eS (tB r x3) (-1) (eS (decide (x1 ≠ x2 ∧ x1 ≠ x3 ∧ x2 ≠ x3)) (-1) (eW (wBy sp.toInt 0 9) (eS (inR w 0 1) (-2) 0)))))))) (sel (eS (tB r x1) (-1) (eS (tB r x2) (-1) (eS (tB r x3) (-1) (eS (decide (x1 ≠ x2 ∧ x1 ≠ x3 ∧ x2 ≠ x3)) (-1) (eW (wBy sp.toInt 0 9) (eS (inR w 0 1) (-2) 0)))))) (upd (upd (upd th 0 x1) 1 x2) 2 x3) th) sb ++ wR G (ad 1) kd r ++ wR G (ad 2) u_3.1 u_3.2 ++ wR G (ad 3) k2 r2 ++ wK (ad 4)) H := by simp only [sel_0 hz_3]; exact hP
        have hD : va_D A (wX G ad ho rn ln dr ro lt (sel (eS (tB r x1) (-1) (eS (tB r x2) (-1) (eS (tB r x3) (-1) (eS (decide (x1 ≠ x2 ∧ x1 ≠ x3 ∧ x2 ≠ x3)) (-1) (eW (wBy sp.toInt 0 9) (eS (inR w 0 1) (-2) 0)))))) rf (rfU rf (eS (tB r x1) (-1) (eS (tB r x2) (-1) (eS (tB r x3) (-1) (eS (decide (x1 ≠ x2 ∧ x1 ≠ x3 ∧ x2 ≠ x3)) (-1) (eW (wBy sp.toInt 0 9) (eS (inR w 0 1) (-2) 0)))))))) (sel (eS (tB r x1) (-1) (eS (tB r x2) (-1) (eS (tB r x3) (-1) (eS (decide (x1 ≠ x2 ∧ x1 ≠ x3 ∧ x2 ≠ x3)) (-1) (eW (wBy sp.toInt 0 9) (eS (inR w 0 1) (-2) 0)))))) (upd (upd (upd th 0 x1) 1 x2) 2 x3) th) sb ++ wR G (ad 1) kd r ++ wR G (ad 2) u_3.1 u_3.2 ++ wR G (ad 3) k2 r2 ++ wK (ad 4)) := by simp only [sel_0 hz_3]; exact hD
        refine hret _ _ _ _ _ _ (pOrd r (x3f x1 x2 x3) sp w) u_3 dX0_act_49 ?_ hP hD hS (Nat.le_of_ble_eq_true rfl) (Nat.le_of_ble_eq_true rfl)
        exact (sel_0 hz_3).symm
    · skip
      exact absurd c_2 (by decide)
  · skip
    exact absurd c_1 (by decide)
set_option maxHeartbeats 4000000 in
set_option maxRecDepth 100000 in
theorem m_act_21 (l : Launch) (hl0 : l.stackTraces = false) (G : xG) (ad : Nat → Nat → Nat) (kd k1 k2 : Nat → Option Nat) (r r1 r2 : Rw) (ho rn ln dr : Int32) (ro lt rf th sb : Nat → Int32) (hr : Ok r) (hp : r 5 3 = 0) (hk : kOk (ad 4) kd r) (sp z10 z11 z12 z13 : Int32) : zCi l G yX0_act (wsW_ yX0_act cX0_act 8 (some .int) [(0, 49, 50, 239)]) ({ frames := 12, cells := 2, slots := 14, locals := 221 } : Room) [.ref (ad 0 0), .int 21, .int sp, .int z10, .int z11, .int z12, .int z13] (wX G ad ho rn ln dr ro lt rf th sb ++ wR G (ad 1) kd r ++ wR G (ad 2) k1 r1 ++ wR G (ad 3) k2 r2 ++ wK (ad 4)) (S := ((Nat → Option Nat) × Rw)) (fun v _ => v = sel (eW (wBy sp.toInt 0 9) 0) (pFlo r sp) (eW (wBy sp.toInt 0 9) 0)) (fun u => (wX G ad ho rn ln dr ro lt (sel (eW (wBy sp.toInt 0 9) 0) rf (rfU rf (eW (wBy sp.toInt 0 9) 0))) th sb ++ wR G (ad 1) kd r ++ wR G (ad 2) u.1 u.2 ++ wR G (ad 3) k2 r2 ++ wK (ad 4))) := by
  refine z_openiW (hh := [(0, 49, 50, 239)]) (by decide) (Nat.le_of_ble_eq_true rfl) (fun _ _ _ => rfl) ?_
  intro p e s m args below meth c A Q ls C0 hK hZ hP hD hA hl htb hret
  obtain ⟨hx, hb, hml, hown, hts⟩ := id C0
  have hS : va_S A s.heap s.heap [] := va_S.rf
  have hP : va_P G.1 vwCl (wX G ad ho rn ln dr ro lt rf th sb ++ wR G (ad 1) kd r ++ wR G (ad 2) k1 r1 ++ wR G (ad 3) k2 r2 ++ wK (ad 4)) s.heap := hP
  have hD : va_D A (wX G ad ho rn ln dr ro lt rf th sb ++ wR G (ad 1) kd r ++ wR G (ad 2) k1 r1 ++ wR G (ad 3) k2 r2 ++ wK (ad 4)) := hD
  have hl : lv_has ls 8 [(0, .ref (ad 0 0)), (1, .int 21), (2, .int sp), (3, .int z10), (4, .int z11), (5, .int z12), (6, .int z13)] := hl
  have hr0 := hr.n
  have hN := hr.le
  refine lv_iload_n hx hb dX0_act_0 rfl (lv_at hl 1 rfl) ?_
  refine lv_bipush (v := 9) hx hb dX0_act_1 (by decide) ?_
  refine lv_icmp_ge (tgt := 18) hx hb dX0_act_3 (by decide) (fun c_1 => ?_) (fun c_1 => ?_)
  · skip
    refine lv_iload_n hx hb dX0_act_18 rfl (lv_at hl 1 rfl) ?_
    refine lv_bipush (v := 18) hx hb dX0_act_19 (by decide) ?_
    refine lv_icmp_ge (tgt := 36) hx hb dX0_act_21 (by decide) (fun c_2 => ?_) (fun c_2 => ?_)
    · skip
      refine lv_aload_n hx hb dX0_act_36 rfl (lv_at hl 0 rfl) ?_
      refine lv_iload_n hx hb dX0_act_37 rfl (lv_at hl 1 rfl) ?_
      refine lv_iload_n hx hb dX0_act_38 rfl (lv_at hl 2 rfl) ?_
      refine lv_iload_n hx hb dX0_act_39 rfl (lv_at hl 3 rfl) ?_
      refine lv_iload hx hb dX0_act_40 (lv_at hl 4 rfl) ?_
      refine lv_iload hx hb dX0_act_42 (lv_at hl 5 rfl) ?_
      refine lv_iload hx hb dX0_act_44 (lv_at hl 6 rfl) ?_
      refine y_Vi (wN := fun u_3 => (wX G ad ho rn ln dr ro lt rf th sb ++ wR G (ad 1) kd r ++ wR G (ad 2) u_3.1 u_3.2 ++ wR G (ad 3) k2 r2 ++ wK (ad 4))) (wNx := fun u9 => (wX G ad ho rn ln dr ro lt rf th sb ++ wR G (ad 1) kd r ++ wR G (ad 2) k1 r1 ++ wR G (ad 3) k2 r2 ++ wK (ad 4))) ⟨C0, hK, hP, hD, hS, hA⟩ hZ 0 rfl (ci := 0) rfl rfl ((m_of_21 l hl0 G ad kd k1 k2 r r1 r2 ho rn ln dr ro lt rf th sb hr hp hk sp z10 z11 z12 z13)) (cwV 6 hts (lw_V q875 q877 qs40 q86 q878) rfl rfl rfl (by decide +kernel) ⟨Nat.le_of_ble_eq_true rfl, Nat.le_of_ble_eq_true rfl⟩) [0, 1, 2, 3, 4, 5, 6, 7, 8, 9, 10, 11, 12, 13, 14, 15, 16, 17, 18, 19, 20, 21, 22, 23, 24, 25, 26, 27, 28, 29, 30] [1, 3, 5, 7, 9, 11, 13, 15, 17, 19, 21, 23, 25, 27, 29, 31, 33, 35, 37, 39, 41, 43, 45, 47, 49, 51, 53, 55, 57, 59, 61] [1, 3, 5, 7, 9, 11, 13, 15, 17, 19, 21, 23, 25, 27, 29, 31, 33, 35, 37, 39, 41, 43, 45, 47, 49, 51, 53, 55, 57, 59, 61, 63] rfl (fun _ => rfl) (fun _ _ _ => rfl) rfl rfl rfl hl.1 rfl (Nat.le_of_ble_eq_true rfl) dX0_act_46 ⟨(Nat.le_of_ble_eq_true rfl), (Nat.le_of_ble_eq_true rfl)⟩ (fun q9 u9 ee H locs hw_3 hP hD hS => ?_) (fun r_3 u_3 H locs hw_3 hP hD hS => ?_)
      · skip
        refine z_catch ⟨0, 49, 50, 239⟩ hown hK htb rfl (by decide) (by decide) (hts _ q273) hP ?_
        have hthr9 : ee.2.1 = eW (wBy sp.toInt 0 9) 0 ∧ eW (wBy sp.toInt 0 9) 0 ≠ 0 := hw_3
        refine lv_astore (lv' := [(7, .ref q9), (0, .ref (ad 0 0)), (1, .int 21), (2, .int sp), (3, .int z10), (4, .int z11), (5, .int z12), (6, .int z13)]) hx hb dX0_act_50 hl (by decide) rfl (fun ls hl => ?_)
        refine lv_aload_n hx hb dX0_act_52 rfl (lv_at hl 1 rfl) ?_
        refine lv_aload hx hb dX0_act_53 (lv_at hl 0 rfl) ?_
        obtain ⟨ek, en, e1, e2, e3⟩ := ee
        cases ek
        · skip
          have hP : va_P G.1 vwCl (wX G ad ho rn ln dr ro lt rf th sb ++ wR G (ad 1) kd r ++ wR G (ad 2) k1 r1 ++ wR G (ad 3) k2 r2 ++ wK (ad 4) ++ [(q9, .inr (9, [e1, e2, e3, .null, .null, .int 0, .int en]))]) H := hP
          have hD : va_D A (wX G ad ho rn ln dr ro lt rf th sb ++ wR G (ad 1) kd r ++ wR G (ad 2) k1 r1 ++ wR G (ad 3) k2 r2 ++ wK (ad 4) ++ [(q9, .inr (9, [e1, e2, e3, .null, .null, .int 0, .int en]))]) := hD
          obtain ⟨een, hne⟩ := hthr9
          have een : en = eW (wBy sp.toInt 0 9) 0 := een
          subst een
          have hP : va_P G.1 vwCl (wX G ad ho rn ln dr ro lt rf th sb ++ wR G (ad 1) kd r ++ wR G (ad 2) k1 r1 ++ wR G (ad 3) k2 r2 ++ wK (ad 4) ++ [(q9, .inr (9, [e1, e2, e3, .null, .null, .int 0, .int (eW (wBy sp.toInt 0 9) 0)]))]) H := hP
          have hD : va_D A (wX G ad ho rn ln dr ro lt rf th sb ++ wR G (ad 1) kd r ++ wR G (ad 2) k1 r1 ++ wR G (ad 3) k2 r2 ++ wK (ad 4) ++ [(q9, .inr (9, [e1, e2, e3, .null, .null, .int 0, .int (eW (wBy sp.toInt 0 9) 0)]))]) := hD
          refine x_Ui (wN := fun _ => (wX G ad ho rn ln dr ro lt rf th sb ++ wR G (ad 1) kd r ++ wR G (ad 2) k1 r1 ++ wR G (ad 3) k2 r2 ++ wK (ad 4) ++ [(q9, .inr (9, [e1, e2, e3, .null, .null, .int 0, .int (eW (wBy sp.toInt 0 9) 0)]))])) ⟨C0, hK, hP, hD, hS, hA⟩ 31 rfl (ci := 9) rfl rfl ((m_X11_number l G q9 e1 e2 e3 (eW (wBy sp.toInt 0 9) 0))) (va_cwA (owner := "PulledFromUnder$Refusal") 0 hts (lw_U q990 q992 q996 q997 q100 q998) rfl rfl rfl (hK.2.D 13 rfl) (by decide +kernel) ⟨Nat.le_of_ble_eq_true rfl, Nat.le_of_ble_eq_true rfl⟩) [31] [0, 2, 4, 6, 8, 10, 12, 14, 16, 18, 20, 22, 24, 26, 28, 30, 32, 34, 36, 38, 40, 42, 44, 46, 48, 50, 52, 54, 56, 58, 60, 1] rfl (fun _ => rfl) rfl rfl hl.1 rfl (Nat.le_of_ble_eq_true rfl) dX0_act_55 ⟨(Nat.le_of_ble_eq_true rfl), (Nat.le_of_ble_eq_true rfl)⟩ (fun r_4 u_4 H locs hw_4 hP hD hS => ?_)
          have hw_4 : (eW (wBy sp.toInt 0 9) 0 : Int32) = r_4 := hw_4.symm
          subst hw_4
          refine x_Vi (wN := fun _ => (wX G ad ho rn ln dr ro lt (rfU rf (eW (wBy sp.toInt 0 9) 0)) th sb ++ wR G (ad 1) kd r ++ wR G (ad 2) k1 r1 ++ wR G (ad 3) k2 r2 ++ wK (ad 4) ++ [(q9, .inr (9, [e1, e2, e3, .null, .null, .int 0, .int (eW (wBy sp.toInt 0 9) 0)]))])) ⟨C0, hK, hP, hD, hS, hA⟩ 0 rfl (ci := 0) rfl rfl ((m_refuse l G ad kd k1 k2 r r1 r2 ho rn ln dr ro lt rf th sb hr hp hk (eW (wBy sp.toInt 0 9) 0) (rfOk_W rfOk_0))) (cwV 1 hts (lw_V q999 q1001 qs62 q86 q1002) rfl rfl rfl (by decide +kernel) ⟨Nat.le_of_ble_eq_true rfl, Nat.le_of_ble_eq_true rfl⟩) [0, 1, 2, 3, 4, 5, 6, 7, 8, 9, 10, 11, 12, 13, 14, 15, 16, 17, 18, 19, 20, 21, 22, 23, 24, 25, 26, 27, 28, 29, 30] [1, 3, 5, 7, 9, 11, 13, 15, 17, 19, 21, 23, 25, 27, 29, 31, 33, 35, 37, 39, 41, 43, 45, 47, 49, 51, 53, 55, 57, 59, 61, 62] rfl (fun _ => rfl) rfl rfl hl.1 rfl (Nat.le_of_ble_eq_true rfl) dX0_act_58 ⟨(Nat.le_of_ble_eq_true rfl), (Nat.le_of_ble_eq_true rfl)⟩ (fun r_5 u_5 H locs hw_5 hP hD hS => ?_)
          have hw_5 : (eW (wBy sp.toInt 0 9) 0 : Int32) = r_5 := hw_5.symm
          subst hw_5
          have hP : va_P G.1 vwCl (wX G ad ho rn ln dr ro lt (rfU rf (eW (wBy sp.toInt 0 9) 0)) th sb ++ wR G (ad 1) kd r ++ wR G (ad 2) k1 r1 ++ wR G (ad 3) k2 r2 ++ wK (ad 4) ++ [(q9, .inr (9, [e1, e2, e3, .null, .null, .int 0, .int (eW (wBy sp.toInt 0 9) 0)]))]) H := hP
          have hD : va_D A (wX G ad ho rn ln dr ro lt (rfU rf (eW (wBy sp.toInt 0 9) 0)) th sb ++ wR G (ad 1) kd r ++ wR G (ad 2) k1 r1 ++ wR G (ad 3) k2 r2 ++ wK (ad 4) ++ [(q9, .inr (9, [e1, e2, e3, .null, .null, .int 0, .int (eW (wBy sp.toInt 0 9) 0)]))]) := hD
          have hP := x_dropP hP
          have hD := x_dropD hD
          have hP : va_P G.1 vwCl (wX G ad ho rn ln dr ro lt (sel (eW (wBy sp.toInt 0 9) 0) rf (rfU rf (eW (wBy sp.toInt 0 9) 0))) th sb ++ wR G (ad 1) kd r ++ wR G (ad 2) ((k1, r1).1) ((k1, r1).2) ++ wR G (ad 3) k2 r2 ++ wK (ad 4)) H := by simp only [sel_n hne]; exact hP
          have hD : va_D A (wX G ad ho rn ln dr ro lt (sel (eW (wBy sp.toInt 0 9) 0) rf (rfU rf (eW (wBy sp.toInt 0 9) 0))) th sb ++ wR G (ad 1) kd r ++ wR G (ad 2) ((k1, r1).1) ((k1, r1).2) ++ wR G (ad 3) k2 r2 ++ wK (ad 4)) := by simp only [sel_n hne]; exact hD
          refine hret _ _ _ _ _ _ (eW (wBy sp.toInt 0 9) 0) (k1, r1) dX0_act_61 ?_ hP hD hS (Nat.le_of_ble_eq_true rfl) (Nat.le_of_ble_eq_true rfl)
          exact (sel_n hne).symm
        · skip
          have hP : va_P G.1 vwCl (wX G ad ho rn ln dr ro lt rf th sb ++ wR G (ad 1) kd r ++ wR G (ad 2) k1 r1 ++ wR G (ad 3) k2 r2 ++ wK (ad 4) ++ [(q9, .inr (11, [e1, e2, e3, .null, .null, .int 0, .int en]))]) H := hP
          have hD : va_D A (wX G ad ho rn ln dr ro lt rf th sb ++ wR G (ad 1) kd r ++ wR G (ad 2) k1 r1 ++ wR G (ad 3) k2 r2 ++ wK (ad 4) ++ [(q9, .inr (11, [e1, e2, e3, .null, .null, .int 0, .int en]))]) := hD
          obtain ⟨een, hne⟩ := hthr9
          have een : en = eW (wBy sp.toInt 0 9) 0 := een
          subst een
          have hP : va_P G.1 vwCl (wX G ad ho rn ln dr ro lt rf th sb ++ wR G (ad 1) kd r ++ wR G (ad 2) k1 r1 ++ wR G (ad 3) k2 r2 ++ wK (ad 4) ++ [(q9, .inr (11, [e1, e2, e3, .null, .null, .int 0, .int (eW (wBy sp.toInt 0 9) 0)]))]) H := hP
          have hD : va_D A (wX G ad ho rn ln dr ro lt rf th sb ++ wR G (ad 1) kd r ++ wR G (ad 2) k1 r1 ++ wR G (ad 3) k2 r2 ++ wK (ad 4) ++ [(q9, .inr (11, [e1, e2, e3, .null, .null, .int 0, .int (eW (wBy sp.toInt 0 9) 0)]))]) := hD
          refine x_Ui (wN := fun _ => (wX G ad ho rn ln dr ro lt rf th sb ++ wR G (ad 1) kd r ++ wR G (ad 2) k1 r1 ++ wR G (ad 3) k2 r2 ++ wK (ad 4) ++ [(q9, .inr (11, [e1, e2, e3, .null, .null, .int 0, .int (eW (wBy sp.toInt 0 9) 0)]))])) ⟨C0, hK, hP, hD, hS, hA⟩ 31 rfl (ci := 11) rfl rfl ((m_X13_number l G q9 e1 e2 e3 (eW (wBy sp.toInt 0 9) 0))) (va_cwA (owner := "PulledFromUnder$Refusal") 0 hts (lw_U q990 q992 q993 q994 q102 q995) rfl rfl rfl (hK.2.D 13 rfl) (by decide +kernel) ⟨Nat.le_of_ble_eq_true rfl, Nat.le_of_ble_eq_true rfl⟩) [31] [0, 2, 4, 6, 8, 10, 12, 14, 16, 18, 20, 22, 24, 26, 28, 30, 32, 34, 36, 38, 40, 42, 44, 46, 48, 50, 52, 54, 56, 58, 60, 1] rfl (fun _ => rfl) rfl rfl hl.1 rfl (Nat.le_of_ble_eq_true rfl) dX0_act_55 ⟨(Nat.le_of_ble_eq_true rfl), (Nat.le_of_ble_eq_true rfl)⟩ (fun r_6 u_6 H locs hw_6 hP hD hS => ?_)
          have hw_6 : (eW (wBy sp.toInt 0 9) 0 : Int32) = r_6 := hw_6.symm
          subst hw_6
          refine x_Vi (wN := fun _ => (wX G ad ho rn ln dr ro lt (rfU rf (eW (wBy sp.toInt 0 9) 0)) th sb ++ wR G (ad 1) kd r ++ wR G (ad 2) k1 r1 ++ wR G (ad 3) k2 r2 ++ wK (ad 4) ++ [(q9, .inr (11, [e1, e2, e3, .null, .null, .int 0, .int (eW (wBy sp.toInt 0 9) 0)]))])) ⟨C0, hK, hP, hD, hS, hA⟩ 0 rfl (ci := 0) rfl rfl ((m_refuse l G ad kd k1 k2 r r1 r2 ho rn ln dr ro lt rf th sb hr hp hk (eW (wBy sp.toInt 0 9) 0) (rfOk_W rfOk_0))) (cwV 1 hts (lw_V q999 q1001 qs62 q86 q1002) rfl rfl rfl (by decide +kernel) ⟨Nat.le_of_ble_eq_true rfl, Nat.le_of_ble_eq_true rfl⟩) [0, 1, 2, 3, 4, 5, 6, 7, 8, 9, 10, 11, 12, 13, 14, 15, 16, 17, 18, 19, 20, 21, 22, 23, 24, 25, 26, 27, 28, 29, 30] [1, 3, 5, 7, 9, 11, 13, 15, 17, 19, 21, 23, 25, 27, 29, 31, 33, 35, 37, 39, 41, 43, 45, 47, 49, 51, 53, 55, 57, 59, 61, 62] rfl (fun _ => rfl) rfl rfl hl.1 rfl (Nat.le_of_ble_eq_true rfl) dX0_act_58 ⟨(Nat.le_of_ble_eq_true rfl), (Nat.le_of_ble_eq_true rfl)⟩ (fun r_7 u_7 H locs hw_7 hP hD hS => ?_)
          have hw_7 : (eW (wBy sp.toInt 0 9) 0 : Int32) = r_7 := hw_7.symm
          subst hw_7
          have hP : va_P G.1 vwCl (wX G ad ho rn ln dr ro lt (rfU rf (eW (wBy sp.toInt 0 9) 0)) th sb ++ wR G (ad 1) kd r ++ wR G (ad 2) k1 r1 ++ wR G (ad 3) k2 r2 ++ wK (ad 4) ++ [(q9, .inr (11, [e1, e2, e3, .null, .null, .int 0, .int (eW (wBy sp.toInt 0 9) 0)]))]) H := hP
          have hD : va_D A (wX G ad ho rn ln dr ro lt (rfU rf (eW (wBy sp.toInt 0 9) 0)) th sb ++ wR G (ad 1) kd r ++ wR G (ad 2) k1 r1 ++ wR G (ad 3) k2 r2 ++ wK (ad 4) ++ [(q9, .inr (11, [e1, e2, e3, .null, .null, .int 0, .int (eW (wBy sp.toInt 0 9) 0)]))]) := hD
          have hP := x_dropP hP
          have hD := x_dropD hD
          have hP : va_P G.1 vwCl (wX G ad ho rn ln dr ro lt (sel (eW (wBy sp.toInt 0 9) 0) rf (rfU rf (eW (wBy sp.toInt 0 9) 0))) th sb ++ wR G (ad 1) kd r ++ wR G (ad 2) ((k1, r1).1) ((k1, r1).2) ++ wR G (ad 3) k2 r2 ++ wK (ad 4)) H := by simp only [sel_n hne]; exact hP
          have hD : va_D A (wX G ad ho rn ln dr ro lt (sel (eW (wBy sp.toInt 0 9) 0) rf (rfU rf (eW (wBy sp.toInt 0 9) 0))) th sb ++ wR G (ad 1) kd r ++ wR G (ad 2) ((k1, r1).1) ((k1, r1).2) ++ wR G (ad 3) k2 r2 ++ wK (ad 4)) := by simp only [sel_n hne]; exact hD
          refine hret _ _ _ _ _ _ (eW (wBy sp.toInt 0 9) 0) (k1, r1) dX0_act_61 ?_ hP hD hS (Nat.le_of_ble_eq_true rfl) (Nat.le_of_ble_eq_true rfl)
          exact (sel_n hne).symm
      · skip
        obtain ⟨hz_3, hw_3⟩ := hw_3
        have hw_3 : (pFlo r sp : Int32) = r_3 := hw_3.symm
        subst hw_3
        have hP : va_P G.1 vwCl (wX G ad ho rn ln dr ro lt rf th sb ++ wR G (ad 1) kd r ++ wR G (ad 2) u_3.1 u_3.2 ++ wR G (ad 3) k2 r2 ++ wK (ad 4)) H := hP
        have hD : va_D A (wX G ad ho rn ln dr ro lt rf th sb ++ wR G (ad 1) kd r ++ wR G (ad 2) u_3.1 u_3.2 ++ wR G (ad 3) k2 r2 ++ wK (ad 4)) := hD
        refine W.widen (k := 2) (n := 14) (Nat.le_of_ble_eq_true rfl) (Nat.le_of_ble_eq_true rfl) ?_
        have hP : va_P G.1 vwCl (wX G ad ho rn ln dr ro lt (sel (eW (wBy sp.toInt 0 9) 0) rf (rfU rf (eW (wBy sp.toInt 0 9) 0))) th sb ++ wR G (ad 1) kd r ++ wR G (ad 2) u_3.1 u_3.2 ++ wR G (ad 3) k2 r2 ++ wK (ad 4)) H := by simp only [sel_0 hz_3]; exact hP
        have hD : va_D A (wX G ad ho rn ln dr ro lt (sel (eW (wBy sp.toInt 0 9) 0) rf (rfU rf (eW (wBy sp.toInt 0 9) 0))) th sb ++ wR G (ad 1) kd r ++ wR G (ad 2) u_3.1 u_3.2 ++ wR G (ad 3) k2 r2 ++ wK (ad 4)) := by simp only [sel_0 hz_3]; exact hD
        refine hret _ _ _ _ _ _ (pFlo r sp) u_3 dX0_act_49 ?_ hP hD hS (Nat.le_of_ble_eq_true rfl) (Nat.le_of_ble_eq_true rfl)
        exact (sel_0 hz_3).symm
    · skip
      exact absurd c_2 (by decide)
  · skip
    exact absurd c_1 (by decide)
set_option maxHeartbeats 4000000 in
set_option maxRecDepth 100000 in
theorem m_act_22 (l : Launch) (hl0 : l.stackTraces = false) (G : xG) (ad : Nat → Nat → Nat) (kd k1 k2 : Nat → Option Nat) (r r1 r2 : Rw) (ho rn ln dr : Int32) (ro lt rf th sb : Nat → Int32) (hr : Ok r) (hp : r 5 3 = 0) (hk : kOk (ad 4) kd r) (w z10 z11 z12 z13 : Int32) : zCi l G yX0_act (wsW_ yX0_act cX0_act 8 (some .int) [(0, 49, 50, 239)]) ({ frames := 11, cells := 1, slots := 7, locals := 196 } : Room) [.ref (ad 0 0), .int 22, .int w, .int z10, .int z11, .int z12, .int z13] (wX G ad ho rn ln dr ro lt rf th sb ++ wR G (ad 1) kd r ++ wR G (ad 2) k1 r1 ++ wR G (ad 3) k2 r2 ++ wK (ad 4)) (S := Unit) (fun v _ => v = sel (eS (inR w 0 1) (-2) 0) (pWat r w) (eS (inR w 0 1) (-2) 0)) (fun _ => (wX G ad ho rn ln dr ro lt (sel (eS (inR w 0 1) (-2) 0) rf (rfU rf (eS (inR w 0 1) (-2) 0))) th sb ++ wR G (ad 1) kd r ++ wR G (ad 2) k1 r1 ++ wR G (ad 3) k2 r2 ++ wK (ad 4))) := by
  refine z_openiW (hh := [(0, 49, 50, 239)]) (by decide) (Nat.le_of_ble_eq_true rfl) (fun _ _ _ => rfl) ?_
  intro p e s m args below meth c A Q ls C0 hK hZ hP hD hA hl htb hret
  obtain ⟨hx, hb, hml, hown, hts⟩ := id C0
  have hS : va_S A s.heap s.heap [] := va_S.rf
  have hP : va_P G.1 vwCl (wX G ad ho rn ln dr ro lt rf th sb ++ wR G (ad 1) kd r ++ wR G (ad 2) k1 r1 ++ wR G (ad 3) k2 r2 ++ wK (ad 4)) s.heap := hP
  have hD : va_D A (wX G ad ho rn ln dr ro lt rf th sb ++ wR G (ad 1) kd r ++ wR G (ad 2) k1 r1 ++ wR G (ad 3) k2 r2 ++ wK (ad 4)) := hD
  have hl : lv_has ls 8 [(0, .ref (ad 0 0)), (1, .int 22), (2, .int w), (3, .int z10), (4, .int z11), (5, .int z12), (6, .int z13)] := hl
  have hr0 := hr.n
  have hN := hr.le
  refine lv_iload_n hx hb dX0_act_0 rfl (lv_at hl 1 rfl) ?_
  refine lv_bipush (v := 9) hx hb dX0_act_1 (by decide) ?_
  refine lv_icmp_ge (tgt := 18) hx hb dX0_act_3 (by decide) (fun c_1 => ?_) (fun c_1 => ?_)
  · skip
    refine lv_iload_n hx hb dX0_act_18 rfl (lv_at hl 1 rfl) ?_
    refine lv_bipush (v := 18) hx hb dX0_act_19 (by decide) ?_
    refine lv_icmp_ge (tgt := 36) hx hb dX0_act_21 (by decide) (fun c_2 => ?_) (fun c_2 => ?_)
    · skip
      refine lv_aload_n hx hb dX0_act_36 rfl (lv_at hl 0 rfl) ?_
      refine lv_iload_n hx hb dX0_act_37 rfl (lv_at hl 1 rfl) ?_
      refine lv_iload_n hx hb dX0_act_38 rfl (lv_at hl 2 rfl) ?_
      refine lv_iload_n hx hb dX0_act_39 rfl (lv_at hl 3 rfl) ?_
      refine lv_iload hx hb dX0_act_40 (lv_at hl 4 rfl) ?_
      refine lv_iload hx hb dX0_act_42 (lv_at hl 5 rfl) ?_
      refine lv_iload hx hb dX0_act_44 (lv_at hl 6 rfl) ?_
      refine y_Vi (wN := fun u_3 => (wX G ad ho rn ln dr ro lt rf th sb ++ wR G (ad 1) kd r ++ wR G (ad 2) k1 r1 ++ wR G (ad 3) k2 r2 ++ wK (ad 4))) (wNx := fun u9 => (wX G ad ho rn ln dr ro lt rf th sb ++ wR G (ad 1) kd r ++ wR G (ad 2) k1 r1 ++ wR G (ad 3) k2 r2 ++ wK (ad 4))) ⟨C0, hK, hP, hD, hS, hA⟩ hZ 0 rfl (ci := 0) rfl rfl ((m_of_22 l hl0 G ad kd k1 k2 r r1 r2 ho rn ln dr ro lt rf th sb hr hp hk w z10 z11 z12 z13)) (cwV 6 hts (lw_V q875 q877 qs40 q86 q878) rfl rfl rfl (by decide +kernel) ⟨Nat.le_of_ble_eq_true rfl, Nat.le_of_ble_eq_true rfl⟩) [0, 1, 2, 3, 4, 5, 6, 7, 8, 9, 10, 11, 12, 13, 14, 15, 16, 17, 18, 19, 20, 21, 22, 23, 24, 25, 26, 27, 28, 29, 30] [1, 3, 5, 7, 9, 11, 13, 15, 17, 19, 21, 23, 25, 27, 29, 31, 33, 35, 37, 39, 41, 43, 45, 47, 49, 51, 53, 55, 57, 59, 61] [1, 3, 5, 7, 9, 11, 13, 15, 17, 19, 21, 23, 25, 27, 29, 31, 33, 35, 37, 39, 41, 43, 45, 47, 49, 51, 53, 55, 57, 59, 61, 63] rfl (fun _ => rfl) (fun _ _ _ => rfl) rfl rfl rfl hl.1 rfl (Nat.le_of_ble_eq_true rfl) dX0_act_46 ⟨(Nat.le_of_ble_eq_true rfl), (Nat.le_of_ble_eq_true rfl)⟩ (fun q9 u9 ee H locs hw_3 hP hD hS => ?_) (fun r_3 u_3 H locs hw_3 hP hD hS => ?_)
      · skip
        refine z_catch ⟨0, 49, 50, 239⟩ hown hK htb rfl (by decide) (by decide) (hts _ q273) hP ?_
        have hthr9 : ee.2.1 = eS (inR w 0 1) (-2) 0 ∧ eS (inR w 0 1) (-2) 0 ≠ 0 := hw_3
        refine lv_astore (lv' := [(7, .ref q9), (0, .ref (ad 0 0)), (1, .int 22), (2, .int w), (3, .int z10), (4, .int z11), (5, .int z12), (6, .int z13)]) hx hb dX0_act_50 hl (by decide) rfl (fun ls hl => ?_)
        refine lv_aload_n hx hb dX0_act_52 rfl (lv_at hl 1 rfl) ?_
        refine lv_aload hx hb dX0_act_53 (lv_at hl 0 rfl) ?_
        obtain ⟨ek, en, e1, e2, e3⟩ := ee
        cases ek
        · skip
          have hP : va_P G.1 vwCl (wX G ad ho rn ln dr ro lt rf th sb ++ wR G (ad 1) kd r ++ wR G (ad 2) k1 r1 ++ wR G (ad 3) k2 r2 ++ wK (ad 4) ++ [(q9, .inr (9, [e1, e2, e3, .null, .null, .int 0, .int en]))]) H := hP
          have hD : va_D A (wX G ad ho rn ln dr ro lt rf th sb ++ wR G (ad 1) kd r ++ wR G (ad 2) k1 r1 ++ wR G (ad 3) k2 r2 ++ wK (ad 4) ++ [(q9, .inr (9, [e1, e2, e3, .null, .null, .int 0, .int en]))]) := hD
          obtain ⟨een, hne⟩ := hthr9
          have een : en = eS (inR w 0 1) (-2) 0 := een
          subst een
          have hP : va_P G.1 vwCl (wX G ad ho rn ln dr ro lt rf th sb ++ wR G (ad 1) kd r ++ wR G (ad 2) k1 r1 ++ wR G (ad 3) k2 r2 ++ wK (ad 4) ++ [(q9, .inr (9, [e1, e2, e3, .null, .null, .int 0, .int (eS (inR w 0 1) (-2) 0)]))]) H := hP
          have hD : va_D A (wX G ad ho rn ln dr ro lt rf th sb ++ wR G (ad 1) kd r ++ wR G (ad 2) k1 r1 ++ wR G (ad 3) k2 r2 ++ wK (ad 4) ++ [(q9, .inr (9, [e1, e2, e3, .null, .null, .int 0, .int (eS (inR w 0 1) (-2) 0)]))]) := hD
          refine x_Ui (wN := fun _ => (wX G ad ho rn ln dr ro lt rf th sb ++ wR G (ad 1) kd r ++ wR G (ad 2) k1 r1 ++ wR G (ad 3) k2 r2 ++ wK (ad 4) ++ [(q9, .inr (9, [e1, e2, e3, .null, .null, .int 0, .int (eS (inR w 0 1) (-2) 0)]))])) ⟨C0, hK, hP, hD, hS, hA⟩ 31 rfl (ci := 9) rfl rfl ((m_X11_number l G q9 e1 e2 e3 (eS (inR w 0 1) (-2) 0))) (va_cwA (owner := "PulledFromUnder$Refusal") 0 hts (lw_U q990 q992 q996 q997 q100 q998) rfl rfl rfl (hK.2.D 13 rfl) (by decide +kernel) ⟨Nat.le_of_ble_eq_true rfl, Nat.le_of_ble_eq_true rfl⟩) [31] [0, 2, 4, 6, 8, 10, 12, 14, 16, 18, 20, 22, 24, 26, 28, 30, 32, 34, 36, 38, 40, 42, 44, 46, 48, 50, 52, 54, 56, 58, 60, 1] rfl (fun _ => rfl) rfl rfl hl.1 rfl (Nat.le_of_ble_eq_true rfl) dX0_act_55 ⟨(Nat.le_of_ble_eq_true rfl), (Nat.le_of_ble_eq_true rfl)⟩ (fun r_4 u_4 H locs hw_4 hP hD hS => ?_)
          have hw_4 : (eS (inR w 0 1) (-2) 0 : Int32) = r_4 := hw_4.symm
          subst hw_4
          refine x_Vi (wN := fun _ => (wX G ad ho rn ln dr ro lt (rfU rf (eS (inR w 0 1) (-2) 0)) th sb ++ wR G (ad 1) kd r ++ wR G (ad 2) k1 r1 ++ wR G (ad 3) k2 r2 ++ wK (ad 4) ++ [(q9, .inr (9, [e1, e2, e3, .null, .null, .int 0, .int (eS (inR w 0 1) (-2) 0)]))])) ⟨C0, hK, hP, hD, hS, hA⟩ 0 rfl (ci := 0) rfl rfl ((m_refuse l G ad kd k1 k2 r r1 r2 ho rn ln dr ro lt rf th sb hr hp hk (eS (inR w 0 1) (-2) 0) (rfOk_S rfOk_k.2.1 rfOk_0))) (cwV 1 hts (lw_V q999 q1001 qs62 q86 q1002) rfl rfl rfl (by decide +kernel) ⟨Nat.le_of_ble_eq_true rfl, Nat.le_of_ble_eq_true rfl⟩) [0, 1, 2, 3, 4, 5, 6, 7, 8, 9, 10, 11, 12, 13, 14, 15, 16, 17, 18, 19, 20, 21, 22, 23, 24, 25, 26, 27, 28, 29, 30] [1, 3, 5, 7, 9, 11, 13, 15, 17, 19, 21, 23, 25, 27, 29, 31, 33, 35, 37, 39, 41, 43, 45, 47, 49, 51, 53, 55, 57, 59, 61, 62] rfl (fun _ => rfl) rfl rfl hl.1 rfl (Nat.le_of_ble_eq_true rfl) dX0_act_58 ⟨(Nat.le_of_ble_eq_true rfl), (Nat.le_of_ble_eq_true rfl)⟩ (fun r_5 u_5 H locs hw_5 hP hD hS => ?_)
          have hw_5 : (eS (inR w 0 1) (-2) 0 : Int32) = r_5 := hw_5.symm
          subst hw_5
          have hP : va_P G.1 vwCl (wX G ad ho rn ln dr ro lt (rfU rf (eS (inR w 0 1) (-2) 0)) th sb ++ wR G (ad 1) kd r ++ wR G (ad 2) k1 r1 ++ wR G (ad 3) k2 r2 ++ wK (ad 4) ++ [(q9, .inr (9, [e1, e2, e3, .null, .null, .int 0, .int (eS (inR w 0 1) (-2) 0)]))]) H := hP
          have hD : va_D A (wX G ad ho rn ln dr ro lt (rfU rf (eS (inR w 0 1) (-2) 0)) th sb ++ wR G (ad 1) kd r ++ wR G (ad 2) k1 r1 ++ wR G (ad 3) k2 r2 ++ wK (ad 4) ++ [(q9, .inr (9, [e1, e2, e3, .null, .null, .int 0, .int (eS (inR w 0 1) (-2) 0)]))]) := hD
          have hP := x_dropP hP
          have hD := x_dropD hD
          have hP : va_P G.1 vwCl (wX G ad ho rn ln dr ro lt (sel (eS (inR w 0 1) (-2) 0) rf (rfU rf (eS (inR w 0 1) (-2) 0))) th sb ++ wR G (ad 1) kd r ++ wR G (ad 2) k1 r1 ++ wR G (ad 3) k2 r2 ++ wK (ad 4)) H := by simp only [sel_n hne]; exact hP
          have hD : va_D A (wX G ad ho rn ln dr ro lt (sel (eS (inR w 0 1) (-2) 0) rf (rfU rf (eS (inR w 0 1) (-2) 0))) th sb ++ wR G (ad 1) kd r ++ wR G (ad 2) k1 r1 ++ wR G (ad 3) k2 r2 ++ wK (ad 4)) := by simp only [sel_n hne]; exact hD
          refine hret _ _ _ _ _ _ (eS (inR w 0 1) (-2) 0) () dX0_act_61 ?_ hP hD hS (Nat.le_of_ble_eq_true rfl) (Nat.le_of_ble_eq_true rfl)
          exact (sel_n hne).symm
        · skip
          have hP : va_P G.1 vwCl (wX G ad ho rn ln dr ro lt rf th sb ++ wR G (ad 1) kd r ++ wR G (ad 2) k1 r1 ++ wR G (ad 3) k2 r2 ++ wK (ad 4) ++ [(q9, .inr (11, [e1, e2, e3, .null, .null, .int 0, .int en]))]) H := hP
          have hD : va_D A (wX G ad ho rn ln dr ro lt rf th sb ++ wR G (ad 1) kd r ++ wR G (ad 2) k1 r1 ++ wR G (ad 3) k2 r2 ++ wK (ad 4) ++ [(q9, .inr (11, [e1, e2, e3, .null, .null, .int 0, .int en]))]) := hD
          obtain ⟨een, hne⟩ := hthr9
          have een : en = eS (inR w 0 1) (-2) 0 := een
          subst een
          have hP : va_P G.1 vwCl (wX G ad ho rn ln dr ro lt rf th sb ++ wR G (ad 1) kd r ++ wR G (ad 2) k1 r1 ++ wR G (ad 3) k2 r2 ++ wK (ad 4) ++ [(q9, .inr (11, [e1, e2, e3, .null, .null, .int 0, .int (eS (inR w 0 1) (-2) 0)]))]) H := hP
          have hD : va_D A (wX G ad ho rn ln dr ro lt rf th sb ++ wR G (ad 1) kd r ++ wR G (ad 2) k1 r1 ++ wR G (ad 3) k2 r2 ++ wK (ad 4) ++ [(q9, .inr (11, [e1, e2, e3, .null, .null, .int 0, .int (eS (inR w 0 1) (-2) 0)]))]) := hD
          refine x_Ui (wN := fun _ => (wX G ad ho rn ln dr ro lt rf th sb ++ wR G (ad 1) kd r ++ wR G (ad 2) k1 r1 ++ wR G (ad 3) k2 r2 ++ wK (ad 4) ++ [(q9, .inr (11, [e1, e2, e3, .null, .null, .int 0, .int (eS (inR w 0 1) (-2) 0)]))])) ⟨C0, hK, hP, hD, hS, hA⟩ 31 rfl (ci := 11) rfl rfl ((m_X13_number l G q9 e1 e2 e3 (eS (inR w 0 1) (-2) 0))) (va_cwA (owner := "PulledFromUnder$Refusal") 0 hts (lw_U q990 q992 q993 q994 q102 q995) rfl rfl rfl (hK.2.D 13 rfl) (by decide +kernel) ⟨Nat.le_of_ble_eq_true rfl, Nat.le_of_ble_eq_true rfl⟩) [31] [0, 2, 4, 6, 8, 10, 12, 14, 16, 18, 20, 22, 24, 26, 28, 30, 32, 34, 36, 38, 40, 42, 44, 46, 48, 50, 52, 54, 56, 58, 60, 1] rfl (fun _ => rfl) rfl rfl hl.1 rfl (Nat.le_of_ble_eq_true rfl) dX0_act_55 ⟨(Nat.le_of_ble_eq_true rfl), (Nat.le_of_ble_eq_true rfl)⟩ (fun r_6 u_6 H locs hw_6 hP hD hS => ?_)
          have hw_6 : (eS (inR w 0 1) (-2) 0 : Int32) = r_6 := hw_6.symm
          subst hw_6
          refine x_Vi (wN := fun _ => (wX G ad ho rn ln dr ro lt (rfU rf (eS (inR w 0 1) (-2) 0)) th sb ++ wR G (ad 1) kd r ++ wR G (ad 2) k1 r1 ++ wR G (ad 3) k2 r2 ++ wK (ad 4) ++ [(q9, .inr (11, [e1, e2, e3, .null, .null, .int 0, .int (eS (inR w 0 1) (-2) 0)]))])) ⟨C0, hK, hP, hD, hS, hA⟩ 0 rfl (ci := 0) rfl rfl ((m_refuse l G ad kd k1 k2 r r1 r2 ho rn ln dr ro lt rf th sb hr hp hk (eS (inR w 0 1) (-2) 0) (rfOk_S rfOk_k.2.1 rfOk_0))) (cwV 1 hts (lw_V q999 q1001 qs62 q86 q1002) rfl rfl rfl (by decide +kernel) ⟨Nat.le_of_ble_eq_true rfl, Nat.le_of_ble_eq_true rfl⟩) [0, 1, 2, 3, 4, 5, 6, 7, 8, 9, 10, 11, 12, 13, 14, 15, 16, 17, 18, 19, 20, 21, 22, 23, 24, 25, 26, 27, 28, 29, 30] [1, 3, 5, 7, 9, 11, 13, 15, 17, 19, 21, 23, 25, 27, 29, 31, 33, 35, 37, 39, 41, 43, 45, 47, 49, 51, 53, 55, 57, 59, 61, 62] rfl (fun _ => rfl) rfl rfl hl.1 rfl (Nat.le_of_ble_eq_true rfl) dX0_act_58 ⟨(Nat.le_of_ble_eq_true rfl), (Nat.le_of_ble_eq_true rfl)⟩ (fun r_7 u_7 H locs hw_7 hP hD hS => ?_)
          have hw_7 : (eS (inR w 0 1) (-2) 0 : Int32) = r_7 := hw_7.symm
          subst hw_7
          have hP : va_P G.1 vwCl (wX G ad ho rn ln dr ro lt (rfU rf (eS (inR w 0 1) (-2) 0)) th sb ++ wR G (ad 1) kd r ++ wR G (ad 2) k1 r1 ++ wR G (ad 3) k2 r2 ++ wK (ad 4) ++ [(q9, .inr (11, [e1, e2, e3, .null, .null, .int 0, .int (eS (inR w 0 1) (-2) 0)]))]) H := hP
          have hD : va_D A (wX G ad ho rn ln dr ro lt (rfU rf (eS (inR w 0 1) (-2) 0)) th sb ++ wR G (ad 1) kd r ++ wR G (ad 2) k1 r1 ++ wR G (ad 3) k2 r2 ++ wK (ad 4) ++ [(q9, .inr (11, [e1, e2, e3, .null, .null, .int 0, .int (eS (inR w 0 1) (-2) 0)]))]) := hD
          have hP := x_dropP hP
          have hD := x_dropD hD
          have hP : va_P G.1 vwCl (wX G ad ho rn ln dr ro lt (sel (eS (inR w 0 1) (-2) 0) rf (rfU rf (eS (inR w 0 1) (-2) 0))) th sb ++ wR G (ad 1) kd r ++ wR G (ad 2) k1 r1 ++ wR G (ad 3) k2 r2 ++ wK (ad 4)) H := by simp only [sel_n hne]; exact hP
          have hD : va_D A (wX G ad ho rn ln dr ro lt (sel (eS (inR w 0 1) (-2) 0) rf (rfU rf (eS (inR w 0 1) (-2) 0))) th sb ++ wR G (ad 1) kd r ++ wR G (ad 2) k1 r1 ++ wR G (ad 3) k2 r2 ++ wK (ad 4)) := by simp only [sel_n hne]; exact hD
          refine hret _ _ _ _ _ _ (eS (inR w 0 1) (-2) 0) () dX0_act_61 ?_ hP hD hS (Nat.le_of_ble_eq_true rfl) (Nat.le_of_ble_eq_true rfl)
          exact (sel_n hne).symm
      · skip
        obtain ⟨hz_3, hw_3⟩ := hw_3
        have hw_3 : (pWat r w : Int32) = r_3 := hw_3.symm
        subst hw_3
        have hP : va_P G.1 vwCl (wX G ad ho rn ln dr ro lt rf th sb ++ wR G (ad 1) kd r ++ wR G (ad 2) k1 r1 ++ wR G (ad 3) k2 r2 ++ wK (ad 4)) H := hP
        have hD : va_D A (wX G ad ho rn ln dr ro lt rf th sb ++ wR G (ad 1) kd r ++ wR G (ad 2) k1 r1 ++ wR G (ad 3) k2 r2 ++ wK (ad 4)) := hD
        refine W.widen (k := 1) (n := 7) (Nat.le_of_ble_eq_true rfl) (Nat.le_of_ble_eq_true rfl) ?_
        have hP : va_P G.1 vwCl (wX G ad ho rn ln dr ro lt (sel (eS (inR w 0 1) (-2) 0) rf (rfU rf (eS (inR w 0 1) (-2) 0))) th sb ++ wR G (ad 1) kd r ++ wR G (ad 2) k1 r1 ++ wR G (ad 3) k2 r2 ++ wK (ad 4)) H := by simp only [sel_0 hz_3]; exact hP
        have hD : va_D A (wX G ad ho rn ln dr ro lt (sel (eS (inR w 0 1) (-2) 0) rf (rfU rf (eS (inR w 0 1) (-2) 0))) th sb ++ wR G (ad 1) kd r ++ wR G (ad 2) k1 r1 ++ wR G (ad 3) k2 r2 ++ wK (ad 4)) := by simp only [sel_0 hz_3]; exact hD
        refine hret _ _ _ _ _ _ (pWat r w) () dX0_act_49 ?_ hP hD hS (Nat.le_of_ble_eq_true rfl) (Nat.le_of_ble_eq_true rfl)
        exact (sel_0 hz_3).symm
    · skip
      exact absurd c_2 (by decide)
  · skip
    exact absurd c_1 (by decide)
set_option maxHeartbeats 4000000 in
set_option maxRecDepth 100000 in
theorem m_act_23 (l : Launch) (hl0 : l.stackTraces = false) (G : xG) (ad : Nat → Nat → Nat) (kd k1 k2 : Nat → Option Nat) (r r1 r2 : Rw) (ho rn ln dr : Int32) (ro lt rf th sb : Nat → Int32) (hr : Ok r) (hp : r 5 3 = 0) (hk : kOk (ad 4) kd r) (t z10 z11 z12 z13 : Int32) : zCi l G yX0_act (wsW_ yX0_act cX0_act 8 (some .int) [(0, 49, 50, 239)]) ({ frames := 10, cells := 1, slots := 7, locals := 175 } : Room) [.ref (ad 0 0), .int 23, .int t, .int z10, .int z11, .int z12, .int z13] (wX G ad ho rn ln dr ro lt rf th sb ++ wR G (ad 1) kd r ++ wR G (ad 2) k1 r1 ++ wR G (ad 3) k2 r2 ++ wK (ad 4)) (S := ((Nat → Option Nat) × Rw)) (fun v _ => v = sel (eS (inR t 0 1) (-2) 0) (pReb r t) (eS (inR t 0 1) (-2) 0)) (fun u => (wX G ad ho rn ln dr ro lt (sel (eS (inR t 0 1) (-2) 0) rf (rfU rf (eS (inR t 0 1) (-2) 0))) th sb ++ wR G (ad 1) kd r ++ wR G (ad 2) u.1 u.2 ++ wR G (ad 3) k2 r2 ++ wK (ad 4))) := by
  refine z_openiW (hh := [(0, 49, 50, 239)]) (by decide) (Nat.le_of_ble_eq_true rfl) (fun _ _ _ => rfl) ?_
  intro p e s m args below meth c A Q ls C0 hK hZ hP hD hA hl htb hret
  obtain ⟨hx, hb, hml, hown, hts⟩ := id C0
  have hS : va_S A s.heap s.heap [] := va_S.rf
  have hP : va_P G.1 vwCl (wX G ad ho rn ln dr ro lt rf th sb ++ wR G (ad 1) kd r ++ wR G (ad 2) k1 r1 ++ wR G (ad 3) k2 r2 ++ wK (ad 4)) s.heap := hP
  have hD : va_D A (wX G ad ho rn ln dr ro lt rf th sb ++ wR G (ad 1) kd r ++ wR G (ad 2) k1 r1 ++ wR G (ad 3) k2 r2 ++ wK (ad 4)) := hD
  have hl : lv_has ls 8 [(0, .ref (ad 0 0)), (1, .int 23), (2, .int t), (3, .int z10), (4, .int z11), (5, .int z12), (6, .int z13)] := hl
  have hr0 := hr.n
  have hN := hr.le
  refine lv_iload_n hx hb dX0_act_0 rfl (lv_at hl 1 rfl) ?_
  refine lv_bipush (v := 9) hx hb dX0_act_1 (by decide) ?_
  refine lv_icmp_ge (tgt := 18) hx hb dX0_act_3 (by decide) (fun c_1 => ?_) (fun c_1 => ?_)
  · skip
    refine lv_iload_n hx hb dX0_act_18 rfl (lv_at hl 1 rfl) ?_
    refine lv_bipush (v := 18) hx hb dX0_act_19 (by decide) ?_
    refine lv_icmp_ge (tgt := 36) hx hb dX0_act_21 (by decide) (fun c_2 => ?_) (fun c_2 => ?_)
    · skip
      refine lv_aload_n hx hb dX0_act_36 rfl (lv_at hl 0 rfl) ?_
      refine lv_iload_n hx hb dX0_act_37 rfl (lv_at hl 1 rfl) ?_
      refine lv_iload_n hx hb dX0_act_38 rfl (lv_at hl 2 rfl) ?_
      refine lv_iload_n hx hb dX0_act_39 rfl (lv_at hl 3 rfl) ?_
      refine lv_iload hx hb dX0_act_40 (lv_at hl 4 rfl) ?_
      refine lv_iload hx hb dX0_act_42 (lv_at hl 5 rfl) ?_
      refine lv_iload hx hb dX0_act_44 (lv_at hl 6 rfl) ?_
      refine y_Vi (wN := fun u_3 => (wX G ad ho rn ln dr ro lt rf th sb ++ wR G (ad 1) kd r ++ wR G (ad 2) u_3.1 u_3.2 ++ wR G (ad 3) k2 r2 ++ wK (ad 4))) (wNx := fun u9 => (wX G ad ho rn ln dr ro lt rf th sb ++ wR G (ad 1) kd r ++ wR G (ad 2) k1 r1 ++ wR G (ad 3) k2 r2 ++ wK (ad 4))) ⟨C0, hK, hP, hD, hS, hA⟩ hZ 0 rfl (ci := 0) rfl rfl ((m_of_23 l hl0 G ad kd k1 k2 r r1 r2 ho rn ln dr ro lt rf th sb hr hp hk t z10 z11 z12 z13)) (cwV 6 hts (lw_V q875 q877 qs40 q86 q878) rfl rfl rfl (by decide +kernel) ⟨Nat.le_of_ble_eq_true rfl, Nat.le_of_ble_eq_true rfl⟩) [0, 1, 2, 3, 4, 5, 6, 7, 8, 9, 10, 11, 12, 13, 14, 15, 16, 17, 18, 19, 20, 21, 22, 23, 24, 25, 26, 27, 28, 29, 30] [1, 3, 5, 7, 9, 11, 13, 15, 17, 19, 21, 23, 25, 27, 29, 31, 33, 35, 37, 39, 41, 43, 45, 47, 49, 51, 53, 55, 57, 59, 61] [1, 3, 5, 7, 9, 11, 13, 15, 17, 19, 21, 23, 25, 27, 29, 31, 33, 35, 37, 39, 41, 43, 45, 47, 49, 51, 53, 55, 57, 59, 61, 63] rfl (fun _ => rfl) (fun _ _ _ => rfl) rfl rfl rfl hl.1 rfl (Nat.le_of_ble_eq_true rfl) dX0_act_46 ⟨(Nat.le_of_ble_eq_true rfl), (Nat.le_of_ble_eq_true rfl)⟩ (fun q9 u9 ee H locs hw_3 hP hD hS => ?_) (fun r_3 u_3 H locs hw_3 hP hD hS => ?_)
      · skip
        refine z_catch ⟨0, 49, 50, 239⟩ hown hK htb rfl (by decide) (by decide) (hts _ q273) hP ?_
        have hthr9 : ee.2.1 = eS (inR t 0 1) (-2) 0 ∧ eS (inR t 0 1) (-2) 0 ≠ 0 := hw_3
        refine lv_astore (lv' := [(7, .ref q9), (0, .ref (ad 0 0)), (1, .int 23), (2, .int t), (3, .int z10), (4, .int z11), (5, .int z12), (6, .int z13)]) hx hb dX0_act_50 hl (by decide) rfl (fun ls hl => ?_)
        refine lv_aload_n hx hb dX0_act_52 rfl (lv_at hl 1 rfl) ?_
        refine lv_aload hx hb dX0_act_53 (lv_at hl 0 rfl) ?_
        obtain ⟨ek, en, e1, e2, e3⟩ := ee
        cases ek
        · skip
          have hP : va_P G.1 vwCl (wX G ad ho rn ln dr ro lt rf th sb ++ wR G (ad 1) kd r ++ wR G (ad 2) k1 r1 ++ wR G (ad 3) k2 r2 ++ wK (ad 4) ++ [(q9, .inr (9, [e1, e2, e3, .null, .null, .int 0, .int en]))]) H := hP
          have hD : va_D A (wX G ad ho rn ln dr ro lt rf th sb ++ wR G (ad 1) kd r ++ wR G (ad 2) k1 r1 ++ wR G (ad 3) k2 r2 ++ wK (ad 4) ++ [(q9, .inr (9, [e1, e2, e3, .null, .null, .int 0, .int en]))]) := hD
          obtain ⟨een, hne⟩ := hthr9
          have een : en = eS (inR t 0 1) (-2) 0 := een
          subst een
          have hP : va_P G.1 vwCl (wX G ad ho rn ln dr ro lt rf th sb ++ wR G (ad 1) kd r ++ wR G (ad 2) k1 r1 ++ wR G (ad 3) k2 r2 ++ wK (ad 4) ++ [(q9, .inr (9, [e1, e2, e3, .null, .null, .int 0, .int (eS (inR t 0 1) (-2) 0)]))]) H := hP
          have hD : va_D A (wX G ad ho rn ln dr ro lt rf th sb ++ wR G (ad 1) kd r ++ wR G (ad 2) k1 r1 ++ wR G (ad 3) k2 r2 ++ wK (ad 4) ++ [(q9, .inr (9, [e1, e2, e3, .null, .null, .int 0, .int (eS (inR t 0 1) (-2) 0)]))]) := hD
          refine x_Ui (wN := fun _ => (wX G ad ho rn ln dr ro lt rf th sb ++ wR G (ad 1) kd r ++ wR G (ad 2) k1 r1 ++ wR G (ad 3) k2 r2 ++ wK (ad 4) ++ [(q9, .inr (9, [e1, e2, e3, .null, .null, .int 0, .int (eS (inR t 0 1) (-2) 0)]))])) ⟨C0, hK, hP, hD, hS, hA⟩ 31 rfl (ci := 9) rfl rfl ((m_X11_number l G q9 e1 e2 e3 (eS (inR t 0 1) (-2) 0))) (va_cwA (owner := "PulledFromUnder$Refusal") 0 hts (lw_U q990 q992 q996 q997 q100 q998) rfl rfl rfl (hK.2.D 13 rfl) (by decide +kernel) ⟨Nat.le_of_ble_eq_true rfl, Nat.le_of_ble_eq_true rfl⟩) [31] [0, 2, 4, 6, 8, 10, 12, 14, 16, 18, 20, 22, 24, 26, 28, 30, 32, 34, 36, 38, 40, 42, 44, 46, 48, 50, 52, 54, 56, 58, 60, 1] rfl (fun _ => rfl) rfl rfl hl.1 rfl (Nat.le_of_ble_eq_true rfl) dX0_act_55 ⟨(Nat.le_of_ble_eq_true rfl), (Nat.le_of_ble_eq_true rfl)⟩ (fun r_4 u_4 H locs hw_4 hP hD hS => ?_)
          have hw_4 : (eS (inR t 0 1) (-2) 0 : Int32) = r_4 := hw_4.symm
          subst hw_4
          refine x_Vi (wN := fun _ => (wX G ad ho rn ln dr ro lt (rfU rf (eS (inR t 0 1) (-2) 0)) th sb ++ wR G (ad 1) kd r ++ wR G (ad 2) k1 r1 ++ wR G (ad 3) k2 r2 ++ wK (ad 4) ++ [(q9, .inr (9, [e1, e2, e3, .null, .null, .int 0, .int (eS (inR t 0 1) (-2) 0)]))])) ⟨C0, hK, hP, hD, hS, hA⟩ 0 rfl (ci := 0) rfl rfl ((m_refuse l G ad kd k1 k2 r r1 r2 ho rn ln dr ro lt rf th sb hr hp hk (eS (inR t 0 1) (-2) 0) (rfOk_S rfOk_k.2.1 rfOk_0))) (cwV 1 hts (lw_V q999 q1001 qs62 q86 q1002) rfl rfl rfl (by decide +kernel) ⟨Nat.le_of_ble_eq_true rfl, Nat.le_of_ble_eq_true rfl⟩) [0, 1, 2, 3, 4, 5, 6, 7, 8, 9, 10, 11, 12, 13, 14, 15, 16, 17, 18, 19, 20, 21, 22, 23, 24, 25, 26, 27, 28, 29, 30] [1, 3, 5, 7, 9, 11, 13, 15, 17, 19, 21, 23, 25, 27, 29, 31, 33, 35, 37, 39, 41, 43, 45, 47, 49, 51, 53, 55, 57, 59, 61, 62] rfl (fun _ => rfl) rfl rfl hl.1 rfl (Nat.le_of_ble_eq_true rfl) dX0_act_58 ⟨(Nat.le_of_ble_eq_true rfl), (Nat.le_of_ble_eq_true rfl)⟩ (fun r_5 u_5 H locs hw_5 hP hD hS => ?_)
          have hw_5 : (eS (inR t 0 1) (-2) 0 : Int32) = r_5 := hw_5.symm
          subst hw_5
          have hP : va_P G.1 vwCl (wX G ad ho rn ln dr ro lt (rfU rf (eS (inR t 0 1) (-2) 0)) th sb ++ wR G (ad 1) kd r ++ wR G (ad 2) k1 r1 ++ wR G (ad 3) k2 r2 ++ wK (ad 4) ++ [(q9, .inr (9, [e1, e2, e3, .null, .null, .int 0, .int (eS (inR t 0 1) (-2) 0)]))]) H := hP
          have hD : va_D A (wX G ad ho rn ln dr ro lt (rfU rf (eS (inR t 0 1) (-2) 0)) th sb ++ wR G (ad 1) kd r ++ wR G (ad 2) k1 r1 ++ wR G (ad 3) k2 r2 ++ wK (ad 4) ++ [(q9, .inr (9, [e1, e2, e3, .null, .null, .int 0, .int (eS (inR t 0 1) (-2) 0)]))]) := hD
          have hP := x_dropP hP
          have hD := x_dropD hD
          have hP : va_P G.1 vwCl (wX G ad ho rn ln dr ro lt (sel (eS (inR t 0 1) (-2) 0) rf (rfU rf (eS (inR t 0 1) (-2) 0))) th sb ++ wR G (ad 1) kd r ++ wR G (ad 2) ((k1, r1).1) ((k1, r1).2) ++ wR G (ad 3) k2 r2 ++ wK (ad 4)) H := by simp only [sel_n hne]; exact hP
          have hD : va_D A (wX G ad ho rn ln dr ro lt (sel (eS (inR t 0 1) (-2) 0) rf (rfU rf (eS (inR t 0 1) (-2) 0))) th sb ++ wR G (ad 1) kd r ++ wR G (ad 2) ((k1, r1).1) ((k1, r1).2) ++ wR G (ad 3) k2 r2 ++ wK (ad 4)) := by simp only [sel_n hne]; exact hD
          refine hret _ _ _ _ _ _ (eS (inR t 0 1) (-2) 0) (k1, r1) dX0_act_61 ?_ hP hD hS (Nat.le_of_ble_eq_true rfl) (Nat.le_of_ble_eq_true rfl)
          exact (sel_n hne).symm
        · skip
          have hP : va_P G.1 vwCl (wX G ad ho rn ln dr ro lt rf th sb ++ wR G (ad 1) kd r ++ wR G (ad 2) k1 r1 ++ wR G (ad 3) k2 r2 ++ wK (ad 4) ++ [(q9, .inr (11, [e1, e2, e3, .null, .null, .int 0, .int en]))]) H := hP
          have hD : va_D A (wX G ad ho rn ln dr ro lt rf th sb ++ wR G (ad 1) kd r ++ wR G (ad 2) k1 r1 ++ wR G (ad 3) k2 r2 ++ wK (ad 4) ++ [(q9, .inr (11, [e1, e2, e3, .null, .null, .int 0, .int en]))]) := hD
          obtain ⟨een, hne⟩ := hthr9
          have een : en = eS (inR t 0 1) (-2) 0 := een
          subst een
          have hP : va_P G.1 vwCl (wX G ad ho rn ln dr ro lt rf th sb ++ wR G (ad 1) kd r ++ wR G (ad 2) k1 r1 ++ wR G (ad 3) k2 r2 ++ wK (ad 4) ++ [(q9, .inr (11, [e1, e2, e3, .null, .null, .int 0, .int (eS (inR t 0 1) (-2) 0)]))]) H := hP
          have hD : va_D A (wX G ad ho rn ln dr ro lt rf th sb ++ wR G (ad 1) kd r ++ wR G (ad 2) k1 r1 ++ wR G (ad 3) k2 r2 ++ wK (ad 4) ++ [(q9, .inr (11, [e1, e2, e3, .null, .null, .int 0, .int (eS (inR t 0 1) (-2) 0)]))]) := hD
          refine x_Ui (wN := fun _ => (wX G ad ho rn ln dr ro lt rf th sb ++ wR G (ad 1) kd r ++ wR G (ad 2) k1 r1 ++ wR G (ad 3) k2 r2 ++ wK (ad 4) ++ [(q9, .inr (11, [e1, e2, e3, .null, .null, .int 0, .int (eS (inR t 0 1) (-2) 0)]))])) ⟨C0, hK, hP, hD, hS, hA⟩ 31 rfl (ci := 11) rfl rfl ((m_X13_number l G q9 e1 e2 e3 (eS (inR t 0 1) (-2) 0))) (va_cwA (owner := "PulledFromUnder$Refusal") 0 hts (lw_U q990 q992 q993 q994 q102 q995) rfl rfl rfl (hK.2.D 13 rfl) (by decide +kernel) ⟨Nat.le_of_ble_eq_true rfl, Nat.le_of_ble_eq_true rfl⟩) [31] [0, 2, 4, 6, 8, 10, 12, 14, 16, 18, 20, 22, 24, 26, 28, 30, 32, 34, 36, 38, 40, 42, 44, 46, 48, 50, 52, 54, 56, 58, 60, 1] rfl (fun _ => rfl) rfl rfl hl.1 rfl (Nat.le_of_ble_eq_true rfl) dX0_act_55 ⟨(Nat.le_of_ble_eq_true rfl), (Nat.le_of_ble_eq_true rfl)⟩ (fun r_6 u_6 H locs hw_6 hP hD hS => ?_)
          have hw_6 : (eS (inR t 0 1) (-2) 0 : Int32) = r_6 := hw_6.symm
          subst hw_6
          refine x_Vi (wN := fun _ => (wX G ad ho rn ln dr ro lt (rfU rf (eS (inR t 0 1) (-2) 0)) th sb ++ wR G (ad 1) kd r ++ wR G (ad 2) k1 r1 ++ wR G (ad 3) k2 r2 ++ wK (ad 4) ++ [(q9, .inr (11, [e1, e2, e3, .null, .null, .int 0, .int (eS (inR t 0 1) (-2) 0)]))])) ⟨C0, hK, hP, hD, hS, hA⟩ 0 rfl (ci := 0) rfl rfl ((m_refuse l G ad kd k1 k2 r r1 r2 ho rn ln dr ro lt rf th sb hr hp hk (eS (inR t 0 1) (-2) 0) (rfOk_S rfOk_k.2.1 rfOk_0))) (cwV 1 hts (lw_V q999 q1001 qs62 q86 q1002) rfl rfl rfl (by decide +kernel) ⟨Nat.le_of_ble_eq_true rfl, Nat.le_of_ble_eq_true rfl⟩) [0, 1, 2, 3, 4, 5, 6, 7, 8, 9, 10, 11, 12, 13, 14, 15, 16, 17, 18, 19, 20, 21, 22, 23, 24, 25, 26, 27, 28, 29, 30] [1, 3, 5, 7, 9, 11, 13, 15, 17, 19, 21, 23, 25, 27, 29, 31, 33, 35, 37, 39, 41, 43, 45, 47, 49, 51, 53, 55, 57, 59, 61, 62] rfl (fun _ => rfl) rfl rfl hl.1 rfl (Nat.le_of_ble_eq_true rfl) dX0_act_58 ⟨(Nat.le_of_ble_eq_true rfl), (Nat.le_of_ble_eq_true rfl)⟩ (fun r_7 u_7 H locs hw_7 hP hD hS => ?_)
          have hw_7 : (eS (inR t 0 1) (-2) 0 : Int32) = r_7 := hw_7.symm
          subst hw_7
          have hP : va_P G.1 vwCl (wX G ad ho rn ln dr ro lt (rfU rf (eS (inR t 0 1) (-2) 0)) th sb ++ wR G (ad 1) kd r ++ wR G (ad 2) k1 r1 ++ wR G (ad 3) k2 r2 ++ wK (ad 4) ++ [(q9, .inr (11, [e1, e2, e3, .null, .null, .int 0, .int (eS (inR t 0 1) (-2) 0)]))]) H := hP
          have hD : va_D A (wX G ad ho rn ln dr ro lt (rfU rf (eS (inR t 0 1) (-2) 0)) th sb ++ wR G (ad 1) kd r ++ wR G (ad 2) k1 r1 ++ wR G (ad 3) k2 r2 ++ wK (ad 4) ++ [(q9, .inr (11, [e1, e2, e3, .null, .null, .int 0, .int (eS (inR t 0 1) (-2) 0)]))]) := hD
          have hP := x_dropP hP
          have hD := x_dropD hD
          have hP : va_P G.1 vwCl (wX G ad ho rn ln dr ro lt (sel (eS (inR t 0 1) (-2) 0) rf (rfU rf (eS (inR t 0 1) (-2) 0))) th sb ++ wR G (ad 1) kd r ++ wR G (ad 2) ((k1, r1).1) ((k1, r1).2) ++ wR G (ad 3) k2 r2 ++ wK (ad 4)) H := by simp only [sel_n hne]; exact hP
          have hD : va_D A (wX G ad ho rn ln dr ro lt (sel (eS (inR t 0 1) (-2) 0) rf (rfU rf (eS (inR t 0 1) (-2) 0))) th sb ++ wR G (ad 1) kd r ++ wR G (ad 2) ((k1, r1).1) ((k1, r1).2) ++ wR G (ad 3) k2 r2 ++ wK (ad 4)) := by simp only [sel_n hne]; exact hD
          refine hret _ _ _ _ _ _ (eS (inR t 0 1) (-2) 0) (k1, r1) dX0_act_61 ?_ hP hD hS (Nat.le_of_ble_eq_true rfl) (Nat.le_of_ble_eq_true rfl)
          exact (sel_n hne).symm
      · skip
        obtain ⟨hz_3, hw_3⟩ := hw_3
        have hw_3 : (pReb r t : Int32) = r_3 := hw_3.symm
        subst hw_3
        have hP : va_P G.1 vwCl (wX G ad ho rn ln dr ro lt rf th sb ++ wR G (ad 1) kd r ++ wR G (ad 2) u_3.1 u_3.2 ++ wR G (ad 3) k2 r2 ++ wK (ad 4)) H := hP
        have hD : va_D A (wX G ad ho rn ln dr ro lt rf th sb ++ wR G (ad 1) kd r ++ wR G (ad 2) u_3.1 u_3.2 ++ wR G (ad 3) k2 r2 ++ wK (ad 4)) := hD
        refine W.widen (k := 1) (n := 7) (Nat.le_of_ble_eq_true rfl) (Nat.le_of_ble_eq_true rfl) ?_
        have hP : va_P G.1 vwCl (wX G ad ho rn ln dr ro lt (sel (eS (inR t 0 1) (-2) 0) rf (rfU rf (eS (inR t 0 1) (-2) 0))) th sb ++ wR G (ad 1) kd r ++ wR G (ad 2) u_3.1 u_3.2 ++ wR G (ad 3) k2 r2 ++ wK (ad 4)) H := by simp only [sel_0 hz_3]; exact hP
        have hD : va_D A (wX G ad ho rn ln dr ro lt (sel (eS (inR t 0 1) (-2) 0) rf (rfU rf (eS (inR t 0 1) (-2) 0))) th sb ++ wR G (ad 1) kd r ++ wR G (ad 2) u_3.1 u_3.2 ++ wR G (ad 3) k2 r2 ++ wK (ad 4)) := by simp only [sel_0 hz_3]; exact hD
        refine hret _ _ _ _ _ _ (pReb r t) u_3 dX0_act_49 ?_ hP hD hS (Nat.le_of_ble_eq_true rfl) (Nat.le_of_ble_eq_true rfl)
        exact (sel_0 hz_3).symm
    · skip
      exact absurd c_2 (by decide)
  · skip
    exact absurd c_1 (by decide)
set_option maxHeartbeats 4000000 in
set_option maxRecDepth 100000 in
theorem m_act_24 (l : Launch) (hl0 : l.stackTraces = false) (G : xG) (ad : Nat → Nat → Nat) (kd k1 k2 : Nat → Option Nat) (r r1 r2 : Rw) (ho rn ln dr : Int32) (ro lt rf th sb : Nat → Int32) (hr : Ok r) (hp : r 5 3 = 0) (hk : kOk (ad 4) kd r) (t t2 mi z10 z11 : Int32) : zCi l G yX0_act (wsW_ yX0_act cX0_act 8 (some .int) [(0, 49, 50, 239)]) ({ frames := 12, cells := 5, slots := 35, locals := 223 } : Room) [.ref (ad 0 0), .int 24, .int t, .int t2, .int mi, .int z10, .int z11] (wX G ad ho rn ln dr ro lt rf th sb ++ wR G (ad 1) kd r ++ wR G (ad 2) k1 r1 ++ wR G (ad 3) k2 r2 ++ wK (ad 4)) (S := (((Nat → Option Nat) × Rw) × (Nat → Int32))) (fun v _ => v = sel (eS (tB r t) (-1) (eS (tB r t2) (-1) (eS (decide (t ≠ t2)) (-1) (eW (wBy mi.toInt 0 99) 0)))) (pTwo r (ix t) (ix t2) (ix mi)) (eS (tB r t) (-1) (eS (tB r t2) (-1) (eS (decide (t ≠ t2)) (-1) (eW (wBy mi.toInt 0 99) 0))))) (fun u => (wX G ad ho rn ln dr ro lt (sel (eS (tB r t) (-1) (eS (tB r t2) (-1) (eS (decide (t ≠ t2)) (-1) (eW (wBy mi.toInt 0 99) 0)))) rf (rfU rf (eS (tB r t) (-1) (eS (tB r t2) (-1) (eS (decide (t ≠ t2)) (-1) (eW (wBy mi.toInt 0 99) 0)))))) th u.2 ++ wR G (ad 1) kd r ++ wR G (ad 2) u.1.1 u.1.2 ++ wR G (ad 3) k2 r2 ++ wK (ad 4))) := by
  refine z_openiW (hh := [(0, 49, 50, 239)]) (by decide) (Nat.le_of_ble_eq_true rfl) (fun _ _ _ => rfl) ?_
  intro p e s m args below meth c A Q ls C0 hK hZ hP hD hA hl htb hret
  obtain ⟨hx, hb, hml, hown, hts⟩ := id C0
  have hS : va_S A s.heap s.heap [] := va_S.rf
  have hP : va_P G.1 vwCl (wX G ad ho rn ln dr ro lt rf th sb ++ wR G (ad 1) kd r ++ wR G (ad 2) k1 r1 ++ wR G (ad 3) k2 r2 ++ wK (ad 4)) s.heap := hP
  have hD : va_D A (wX G ad ho rn ln dr ro lt rf th sb ++ wR G (ad 1) kd r ++ wR G (ad 2) k1 r1 ++ wR G (ad 3) k2 r2 ++ wK (ad 4)) := hD
  have hl : lv_has ls 8 [(0, .ref (ad 0 0)), (1, .int 24), (2, .int t), (3, .int t2), (4, .int mi), (5, .int z10), (6, .int z11)] := hl
  have hr0 := hr.n
  have hN := hr.le
  refine lv_iload_n hx hb dX0_act_0 rfl (lv_at hl 1 rfl) ?_
  refine lv_bipush (v := 9) hx hb dX0_act_1 (by decide) ?_
  refine lv_icmp_ge (tgt := 18) hx hb dX0_act_3 (by decide) (fun c_1 => ?_) (fun c_1 => ?_)
  · skip
    refine lv_iload_n hx hb dX0_act_18 rfl (lv_at hl 1 rfl) ?_
    refine lv_bipush (v := 18) hx hb dX0_act_19 (by decide) ?_
    refine lv_icmp_ge (tgt := 36) hx hb dX0_act_21 (by decide) (fun c_2 => ?_) (fun c_2 => ?_)
    · skip
      refine lv_aload_n hx hb dX0_act_36 rfl (lv_at hl 0 rfl) ?_
      refine lv_iload_n hx hb dX0_act_37 rfl (lv_at hl 1 rfl) ?_
      refine lv_iload_n hx hb dX0_act_38 rfl (lv_at hl 2 rfl) ?_
      refine lv_iload_n hx hb dX0_act_39 rfl (lv_at hl 3 rfl) ?_
      refine lv_iload hx hb dX0_act_40 (lv_at hl 4 rfl) ?_
      refine lv_iload hx hb dX0_act_42 (lv_at hl 5 rfl) ?_
      refine lv_iload hx hb dX0_act_44 (lv_at hl 6 rfl) ?_
      refine y_Vi (wN := fun u_3 => (wX G ad ho rn ln dr ro lt rf th u_3.2 ++ wR G (ad 1) kd r ++ wR G (ad 2) u_3.1.1 u_3.1.2 ++ wR G (ad 3) k2 r2 ++ wK (ad 4))) (wNx := fun u9 => (wX G ad ho rn ln dr ro lt rf th sb ++ wR G (ad 1) kd r ++ wR G (ad 2) k1 r1 ++ wR G (ad 3) k2 r2 ++ wK (ad 4))) ⟨C0, hK, hP, hD, hS, hA⟩ hZ 0 rfl (ci := 0) rfl rfl ((m_of_24 l hl0 G ad kd k1 k2 r r1 r2 ho rn ln dr ro lt rf th sb hr hp hk t t2 mi z10 z11)) (cwV 6 hts (lw_V q875 q877 qs40 q86 q878) rfl rfl rfl (by decide +kernel) ⟨Nat.le_of_ble_eq_true rfl, Nat.le_of_ble_eq_true rfl⟩) [0, 1, 2, 3, 4, 5, 6, 7, 8, 9, 10, 11, 12, 13, 14, 15, 16, 17, 18, 19, 20, 21, 22, 23, 24, 25, 26, 27, 28, 29, 30] [1, 3, 5, 7, 9, 11, 13, 15, 17, 19, 21, 23, 25, 27, 29, 31, 33, 35, 37, 39, 41, 43, 45, 47, 49, 51, 53, 55, 57, 59, 61] [1, 3, 5, 7, 9, 11, 13, 15, 17, 19, 21, 23, 25, 27, 29, 31, 33, 35, 37, 39, 41, 43, 45, 47, 49, 51, 53, 55, 57, 59, 61, 63] rfl (fun _ => rfl) (fun _ _ _ => rfl) rfl rfl rfl hl.1 rfl (Nat.le_of_ble_eq_true rfl) dX0_act_46 ⟨(Nat.le_of_ble_eq_true rfl), (Nat.le_of_ble_eq_true rfl)⟩ (fun q9 u9 ee H locs hw_3 hP hD hS => ?_) (fun r_3 u_3 H locs hw_3 hP hD hS => ?_)
      · skip
        refine z_catch ⟨0, 49, 50, 239⟩ hown hK htb rfl (by decide) (by decide) (hts _ q273) hP ?_
        have hthr9 : ee.2.1 = eS (tB r t) (-1) (eS (tB r t2) (-1) (eS (decide (t ≠ t2)) (-1) (eW (wBy mi.toInt 0 99) 0))) ∧ eS (tB r t) (-1) (eS (tB r t2) (-1) (eS (decide (t ≠ t2)) (-1) (eW (wBy mi.toInt 0 99) 0))) ≠ 0 := hw_3
        refine lv_astore (lv' := [(7, .ref q9), (0, .ref (ad 0 0)), (1, .int 24), (2, .int t), (3, .int t2), (4, .int mi), (5, .int z10), (6, .int z11)]) hx hb dX0_act_50 hl (by decide) rfl (fun ls hl => ?_)
        refine lv_aload_n hx hb dX0_act_52 rfl (lv_at hl 1 rfl) ?_
        refine lv_aload hx hb dX0_act_53 (lv_at hl 0 rfl) ?_
        obtain ⟨ek, en, e1, e2, e3⟩ := ee
        cases ek
        · skip
          have hP : va_P G.1 vwCl (wX G ad ho rn ln dr ro lt rf th sb ++ wR G (ad 1) kd r ++ wR G (ad 2) k1 r1 ++ wR G (ad 3) k2 r2 ++ wK (ad 4) ++ [(q9, .inr (9, [e1, e2, e3, .null, .null, .int 0, .int en]))]) H := hP
          have hD : va_D A (wX G ad ho rn ln dr ro lt rf th sb ++ wR G (ad 1) kd r ++ wR G (ad 2) k1 r1 ++ wR G (ad 3) k2 r2 ++ wK (ad 4) ++ [(q9, .inr (9, [e1, e2, e3, .null, .null, .int 0, .int en]))]) := hD
          obtain ⟨een, hne⟩ := hthr9
          have een : en = eS (tB r t) (-1) (eS (tB r t2) (-1) (eS (decide (t ≠ t2)) (-1) (eW (wBy mi.toInt 0 99) 0))) := een
          subst een
          have hP : va_P G.1 vwCl (wX G ad ho rn ln dr ro lt rf th sb ++ wR G (ad 1) kd r ++ wR G (ad 2) k1 r1 ++ wR G (ad 3) k2 r2 ++ wK (ad 4) ++ [(q9, .inr (9, [e1, e2, e3, .null, .null, .int 0, .int (eS (tB r t) (-1) (eS (tB r t2) (-1) (eS (decide (t ≠ t2)) (-1) (eW (wBy mi.toInt 0 99) 0))))]))]) H := hP
          have hD : va_D A (wX G ad ho rn ln dr ro lt rf th sb ++ wR G (ad 1) kd r ++ wR G (ad 2) k1 r1 ++ wR G (ad 3) k2 r2 ++ wK (ad 4) ++ [(q9, .inr (9, [e1, e2, e3, .null, .null, .int 0, .int (eS (tB r t) (-1) (eS (tB r t2) (-1) (eS (decide (t ≠ t2)) (-1) (eW (wBy mi.toInt 0 99) 0))))]))]) := hD
          refine x_Ui (wN := fun _ => (wX G ad ho rn ln dr ro lt rf th sb ++ wR G (ad 1) kd r ++ wR G (ad 2) k1 r1 ++ wR G (ad 3) k2 r2 ++ wK (ad 4) ++ [(q9, .inr (9, [e1, e2, e3, .null, .null, .int 0, .int (eS (tB r t) (-1) (eS (tB r t2) (-1) (eS (decide (t ≠ t2)) (-1) (eW (wBy mi.toInt 0 99) 0))))]))])) ⟨C0, hK, hP, hD, hS, hA⟩ 31 rfl (ci := 9) rfl rfl ((m_X11_number l G q9 e1 e2 e3 (eS (tB r t) (-1) (eS (tB r t2) (-1) (eS (decide (t ≠ t2)) (-1) (eW (wBy mi.toInt 0 99) 0)))))) (va_cwA (owner := "PulledFromUnder$Refusal") 0 hts (lw_U q990 q992 q996 q997 q100 q998) rfl rfl rfl (hK.2.D 13 rfl) (by decide +kernel) ⟨Nat.le_of_ble_eq_true rfl, Nat.le_of_ble_eq_true rfl⟩) [31] [0, 2, 4, 6, 8, 10, 12, 14, 16, 18, 20, 22, 24, 26, 28, 30, 32, 34, 36, 38, 40, 42, 44, 46, 48, 50, 52, 54, 56, 58, 60, 1] rfl (fun _ => rfl) rfl rfl hl.1 rfl (Nat.le_of_ble_eq_true rfl) dX0_act_55 ⟨(Nat.le_of_ble_eq_true rfl), (Nat.le_of_ble_eq_true rfl)⟩ (fun r_4 u_4 H locs hw_4 hP hD hS => ?_)
          have hw_4 : (eS (tB r t) (-1) (eS (tB r t2) (-1) (eS (decide (t ≠ t2)) (-1) (eW (wBy mi.toInt 0 99) 0))) : Int32) = r_4 := hw_4.symm
          subst hw_4
          refine x_Vi (wN := fun _ => (wX G ad ho rn ln dr ro lt (rfU rf (eS (tB r t) (-1) (eS (tB r t2) (-1) (eS (decide (t ≠ t2)) (-1) (eW (wBy mi.toInt 0 99) 0))))) th sb ++ wR G (ad 1) kd r ++ wR G (ad 2) k1 r1 ++ wR G (ad 3) k2 r2 ++ wK (ad 4) ++ [(q9, .inr (9, [e1, e2, e3, .null, .null, .int 0, .int (eS (tB r t) (-1) (eS (tB r t2) (-1) (eS (decide (t ≠ t2)) (-1) (eW (wBy mi.toInt 0 99) 0))))]))])) ⟨C0, hK, hP, hD, hS, hA⟩ 0 rfl (ci := 0) rfl rfl ((m_refuse l G ad kd k1 k2 r r1 r2 ho rn ln dr ro lt rf th sb hr hp hk (eS (tB r t) (-1) (eS (tB r t2) (-1) (eS (decide (t ≠ t2)) (-1) (eW (wBy mi.toInt 0 99) 0)))) (rfOk_S rfOk_k.1 (rfOk_S rfOk_k.1 (rfOk_S rfOk_k.1 (rfOk_W rfOk_0)))))) (cwV 1 hts (lw_V q999 q1001 qs62 q86 q1002) rfl rfl rfl (by decide +kernel) ⟨Nat.le_of_ble_eq_true rfl, Nat.le_of_ble_eq_true rfl⟩) [0, 1, 2, 3, 4, 5, 6, 7, 8, 9, 10, 11, 12, 13, 14, 15, 16, 17, 18, 19, 20, 21, 22, 23, 24, 25, 26, 27, 28, 29, 30] [1, 3, 5, 7, 9, 11, 13, 15, 17, 19, 21, 23, 25, 27, 29, 31, 33, 35, 37, 39, 41, 43, 45, 47, 49, 51, 53, 55, 57, 59, 61, 62] rfl (fun _ => rfl) rfl rfl hl.1 rfl (Nat.le_of_ble_eq_true rfl) dX0_act_58 ⟨(Nat.le_of_ble_eq_true rfl), (Nat.le_of_ble_eq_true rfl)⟩ (fun r_5 u_5 H locs hw_5 hP hD hS => ?_)
          have hw_5 : (eS (tB r t) (-1) (eS (tB r t2) (-1) (eS (decide (t ≠ t2)) (-1) (eW (wBy mi.toInt 0 99) 0))) : Int32) = r_5 := hw_5.symm
          subst hw_5
          have hP : va_P G.1 vwCl (wX G ad ho rn ln dr ro lt (rfU rf (eS (tB r t) (-1) (eS (tB r t2) (-1) (eS (decide (t ≠ t2)) (-1) (eW (wBy mi.toInt 0 99) 0))))) th sb ++ wR G (ad 1) kd r ++ wR G (ad 2) k1 r1 ++ wR G (ad 3) k2 r2 ++ wK (ad 4) ++ [(q9, .inr (9, [e1, e2, e3, .null, .null, .int 0, .int (eS (tB r t) (-1) (eS (tB r t2) (-1) (eS (decide (t ≠ t2)) (-1) (eW (wBy mi.toInt 0 99) 0))))]))]) H := hP
          have hD : va_D A (wX G ad ho rn ln dr ro lt (rfU rf (eS (tB r t) (-1) (eS (tB r t2) (-1) (eS (decide (t ≠ t2)) (-1) (eW (wBy mi.toInt 0 99) 0))))) th sb ++ wR G (ad 1) kd r ++ wR G (ad 2) k1 r1 ++ wR G (ad 3) k2 r2 ++ wK (ad 4) ++ [(q9, .inr (9, [e1, e2, e3, .null, .null, .int 0, .int (eS (tB r t) (-1) (eS (tB r t2) (-1) (eS (decide (t ≠ t2)) (-1) (eW (wBy mi.toInt 0 99) 0))))]))]) := hD
          have hP := x_dropP hP
          have hD := x_dropD hD
          have hP : va_P G.1 vwCl (wX G ad ho rn ln dr ro lt (sel (eS (tB r t) (-1) (eS (tB r t2) (-1) (eS (decide (t ≠ t2)) (-1) (eW (wBy mi.toInt 0 99) 0)))) rf (rfU rf (eS (tB r t) (-1) (eS (tB r t2) (-1) (eS (decide (t ≠ t2)) (-1) (eW (wBy mi.toInt 0 99) 0)))))) th (((k1, r1), sb).2) ++ wR G (ad 1) kd r ++ wR G (ad 2) (((k1, r1), sb).1.1) (((k1, r1), sb).1.2) ++ wR G (ad 3) k2 r2 ++ wK (ad 4)) H := by simp only [sel_n hne]; exact hP
          have hD : va_D A (wX G ad ho rn ln dr ro lt (sel (eS (tB r t) (-1) (eS (tB r t2) (-1) (eS (decide (t ≠ t2)) (-1) (eW (wBy mi.toInt 0 99) 0)))) rf (rfU rf (eS (tB r t) (-1) (eS (tB r t2) (-1) (eS (decide (t ≠ t2)) (-1) (eW (wBy mi.toInt 0 99) 0)))))) th (((k1, r1), sb).2) ++ wR G (ad 1) kd r ++ wR G (ad 2) (((k1, r1), sb).1.1) (((k1, r1), sb).1.2) ++ wR G (ad 3) k2 r2 ++ wK (ad 4)) := by simp only [sel_n hne]; exact hD
          refine hret _ _ _ _ _ _ (eS (tB r t) (-1) (eS (tB r t2) (-1) (eS (decide (t ≠ t2)) (-1) (eW (wBy mi.toInt 0 99) 0)))) ((k1, r1), sb) dX0_act_61 ?_ hP hD hS (Nat.le_of_ble_eq_true rfl) (Nat.le_of_ble_eq_true rfl)
          exact (sel_n hne).symm
        · skip
          have hP : va_P G.1 vwCl (wX G ad ho rn ln dr ro lt rf th sb ++ wR G (ad 1) kd r ++ wR G (ad 2) k1 r1 ++ wR G (ad 3) k2 r2 ++ wK (ad 4) ++ [(q9, .inr (11, [e1, e2, e3, .null, .null, .int 0, .int en]))]) H := hP
          have hD : va_D A (wX G ad ho rn ln dr ro lt rf th sb ++ wR G (ad 1) kd r ++ wR G (ad 2) k1 r1 ++ wR G (ad 3) k2 r2 ++ wK (ad 4) ++ [(q9, .inr (11, [e1, e2, e3, .null, .null, .int 0, .int en]))]) := hD
          obtain ⟨een, hne⟩ := hthr9
          have een : en = eS (tB r t) (-1) (eS (tB r t2) (-1) (eS (decide (t ≠ t2)) (-1) (eW (wBy mi.toInt 0 99) 0))) := een
          subst een
          have hP : va_P G.1 vwCl (wX G ad ho rn ln dr ro lt rf th sb ++ wR G (ad 1) kd r ++ wR G (ad 2) k1 r1 ++ wR G (ad 3) k2 r2 ++ wK (ad 4) ++ [(q9, .inr (11, [e1, e2, e3, .null, .null, .int 0, .int (eS (tB r t) (-1) (eS (tB r t2) (-1) (eS (decide (t ≠ t2)) (-1) (eW (wBy mi.toInt 0 99) 0))))]))]) H := hP
          have hD : va_D A (wX G ad ho rn ln dr ro lt rf th sb ++ wR G (ad 1) kd r ++ wR G (ad 2) k1 r1 ++ wR G (ad 3) k2 r2 ++ wK (ad 4) ++ [(q9, .inr (11, [e1, e2, e3, .null, .null, .int 0, .int (eS (tB r t) (-1) (eS (tB r t2) (-1) (eS (decide (t ≠ t2)) (-1) (eW (wBy mi.toInt 0 99) 0))))]))]) := hD
          refine x_Ui (wN := fun _ => (wX G ad ho rn ln dr ro lt rf th sb ++ wR G (ad 1) kd r ++ wR G (ad 2) k1 r1 ++ wR G (ad 3) k2 r2 ++ wK (ad 4) ++ [(q9, .inr (11, [e1, e2, e3, .null, .null, .int 0, .int (eS (tB r t) (-1) (eS (tB r t2) (-1) (eS (decide (t ≠ t2)) (-1) (eW (wBy mi.toInt 0 99) 0))))]))])) ⟨C0, hK, hP, hD, hS, hA⟩ 31 rfl (ci := 11) rfl rfl ((m_X13_number l G q9 e1 e2 e3 (eS (tB r t) (-1) (eS (tB r t2) (-1) (eS (decide (t ≠ t2)) (-1) (eW (wBy mi.toInt 0 99) 0)))))) (va_cwA (owner := "PulledFromUnder$Refusal") 0 hts (lw_U q990 q992 q993 q994 q102 q995) rfl rfl rfl (hK.2.D 13 rfl) (by decide +kernel) ⟨Nat.le_of_ble_eq_true rfl, Nat.le_of_ble_eq_true rfl⟩) [31] [0, 2, 4, 6, 8, 10, 12, 14, 16, 18, 20, 22, 24, 26, 28, 30, 32, 34, 36, 38, 40, 42, 44, 46, 48, 50, 52, 54, 56, 58, 60, 1] rfl (fun _ => rfl) rfl rfl hl.1 rfl (Nat.le_of_ble_eq_true rfl) dX0_act_55 ⟨(Nat.le_of_ble_eq_true rfl), (Nat.le_of_ble_eq_true rfl)⟩ (fun r_6 u_6 H locs hw_6 hP hD hS => ?_)
          have hw_6 : (eS (tB r t) (-1) (eS (tB r t2) (-1) (eS (decide (t ≠ t2)) (-1) (eW (wBy mi.toInt 0 99) 0))) : Int32) = r_6 := hw_6.symm
          subst hw_6
          refine x_Vi (wN := fun _ => (wX G ad ho rn ln dr ro lt (rfU rf (eS (tB r t) (-1) (eS (tB r t2) (-1) (eS (decide (t ≠ t2)) (-1) (eW (wBy mi.toInt 0 99) 0))))) th sb ++ wR G (ad 1) kd r ++ wR G (ad 2) k1 r1 ++ wR G (ad 3) k2 r2 ++ wK (ad 4) ++ [(q9, .inr (11, [e1, e2, e3, .null, .null, .int 0, .int (eS (tB r t) (-1) (eS (tB r t2) (-1) (eS (decide (t ≠ t2)) (-1) (eW (wBy mi.toInt 0 99) 0))))]))])) ⟨C0, hK, hP, hD, hS, hA⟩ 0 rfl (ci := 0) rfl rfl ((m_refuse l G ad kd k1 k2 r r1 r2 ho rn ln dr ro lt rf th sb hr hp hk (eS (tB r t) (-1) (eS (tB r t2) (-1) (eS (decide (t ≠ t2)) (-1) (eW (wBy mi.toInt 0 99) 0)))) (rfOk_S rfOk_k.1 (rfOk_S rfOk_k.1 (rfOk_S rfOk_k.1 (rfOk_W rfOk_0)))))) (cwV 1 hts (lw_V q999 q1001 qs62 q86 q1002) rfl rfl rfl (by decide +kernel) ⟨Nat.le_of_ble_eq_true rfl, Nat.le_of_ble_eq_true rfl⟩) [0, 1, 2, 3, 4, 5, 6, 7, 8, 9, 10, 11, 12, 13, 14, 15, 16, 17, 18, 19, 20, 21, 22, 23, 24, 25, 26, 27, 28, 29, 30] [1, 3, 5, 7, 9, 11, 13, 15, 17, 19, 21, 23, 25, 27, 29, 31, 33, 35, 37, 39, 41, 43, 45, 47, 49, 51, 53, 55, 57, 59, 61, 62] rfl (fun _ => rfl) rfl rfl hl.1 rfl (Nat.le_of_ble_eq_true rfl) dX0_act_58 ⟨(Nat.le_of_ble_eq_true rfl), (Nat.le_of_ble_eq_true rfl)⟩ (fun r_7 u_7 H locs hw_7 hP hD hS => ?_)
          have hw_7 : (eS (tB r t) (-1) (eS (tB r t2) (-1) (eS (decide (t ≠ t2)) (-1) (eW (wBy mi.toInt 0 99) 0))) : Int32) = r_7 := hw_7.symm
          subst hw_7
          have hP : va_P G.1 vwCl (wX G ad ho rn ln dr ro lt (rfU rf (eS (tB r t) (-1) (eS (tB r t2) (-1) (eS (decide (t ≠ t2)) (-1) (eW (wBy mi.toInt 0 99) 0))))) th sb ++ wR G (ad 1) kd r ++ wR G (ad 2) k1 r1 ++ wR G (ad 3) k2 r2 ++ wK (ad 4) ++ [(q9, .inr (11, [e1, e2, e3, .null, .null, .int 0, .int (eS (tB r t) (-1) (eS (tB r t2) (-1) (eS (decide (t ≠ t2)) (-1) (eW (wBy mi.toInt 0 99) 0))))]))]) H := hP
          have hD : va_D A (wX G ad ho rn ln dr ro lt (rfU rf (eS (tB r t) (-1) (eS (tB r t2) (-1) (eS (decide (t ≠ t2)) (-1) (eW (wBy mi.toInt 0 99) 0))))) th sb ++ wR G (ad 1) kd r ++ wR G (ad 2) k1 r1 ++ wR G (ad 3) k2 r2 ++ wK (ad 4) ++ [(q9, .inr (11, [e1, e2, e3, .null, .null, .int 0, .int (eS (tB r t) (-1) (eS (tB r t2) (-1) (eS (decide (t ≠ t2)) (-1) (eW (wBy mi.toInt 0 99) 0))))]))]) := hD
          have hP := x_dropP hP
          have hD := x_dropD hD
          have hP : va_P G.1 vwCl (wX G ad ho rn ln dr ro lt (sel (eS (tB r t) (-1) (eS (tB r t2) (-1) (eS (decide (t ≠ t2)) (-1) (eW (wBy mi.toInt 0 99) 0)))) rf (rfU rf (eS (tB r t) (-1) (eS (tB r t2) (-1) (eS (decide (t ≠ t2)) (-1) (eW (wBy mi.toInt 0 99) 0)))))) th (((k1, r1), sb).2) ++ wR G (ad 1) kd r ++ wR G (ad 2) (((k1, r1), sb).1.1) (((k1, r1), sb).1.2) ++ wR G (ad 3) k2 r2 ++ wK (ad 4)) H := by simp only [sel_n hne]; exact hP
          have hD : va_D A (wX G ad ho rn ln dr ro lt (sel (eS (tB r t) (-1) (eS (tB r t2) (-1) (eS (decide (t ≠ t2)) (-1) (eW (wBy mi.toInt 0 99) 0)))) rf (rfU rf (eS (tB r t) (-1) (eS (tB r t2) (-1) (eS (decide (t ≠ t2)) (-1) (eW (wBy mi.toInt 0 99) 0)))))) th (((k1, r1), sb).2) ++ wR G (ad 1) kd r ++ wR G (ad 2) (((k1, r1), sb).1.1) (((k1, r1), sb).1.2) ++ wR G (ad 3) k2 r2 ++ wK (ad 4)) := by simp only [sel_n hne]; exact hD
          refine hret _ _ _ _ _ _ (eS (tB r t) (-1) (eS (tB r t2) (-1) (eS (decide (t ≠ t2)) (-1) (eW (wBy mi.toInt 0 99) 0)))) ((k1, r1), sb) dX0_act_61 ?_ hP hD hS (Nat.le_of_ble_eq_true rfl) (Nat.le_of_ble_eq_true rfl)
          exact (sel_n hne).symm
      · skip
        obtain ⟨hz_3, hw_3⟩ := hw_3
        have hw_3 : (pTwo r (ix t) (ix t2) (ix mi) : Int32) = r_3 := hw_3.symm
        subst hw_3
        have hP : va_P G.1 vwCl (wX G ad ho rn ln dr ro lt rf th u_3.2 ++ wR G (ad 1) kd r ++ wR G (ad 2) u_3.1.1 u_3.1.2 ++ wR G (ad 3) k2 r2 ++ wK (ad 4)) H := hP
        have hD : va_D A (wX G ad ho rn ln dr ro lt rf th u_3.2 ++ wR G (ad 1) kd r ++ wR G (ad 2) u_3.1.1 u_3.1.2 ++ wR G (ad 3) k2 r2 ++ wK (ad 4)) := hD
        refine W.widen (k := 5) (n := 35) (Nat.le_of_ble_eq_true rfl) (Nat.le_of_ble_eq_true rfl) ?_
        have hP : va_P G.1 vwCl (wX G ad ho rn ln dr ro lt (sel (eS (tB r t) (-1) (eS (tB r t2) (-1) (eS (decide (t ≠ t2)) (-1) (eW (wBy mi.toInt 0 99) 0)))) rf (rfU rf (eS (tB r t) (-1) (eS (tB r t2) (-1) (eS (decide (t ≠ t2)) (-1) (eW (wBy mi.toInt 0 99) 0)))))) th u_3.2 ++ wR G (ad 1) kd r ++ wR G (ad 2) u_3.1.1 u_3.1.2 ++ wR G (ad 3) k2 r2 ++ wK (ad 4)) H := by simp only [sel_0 hz_3]; exact hP
        have hD : va_D A (wX G ad ho rn ln dr ro lt (sel (eS (tB r t) (-1) (eS (tB r t2) (-1) (eS (decide (t ≠ t2)) (-1) (eW (wBy mi.toInt 0 99) 0)))) rf (rfU rf (eS (tB r t) (-1) (eS (tB r t2) (-1) (eS (decide (t ≠ t2)) (-1) (eW (wBy mi.toInt 0 99) 0)))))) th u_3.2 ++ wR G (ad 1) kd r ++ wR G (ad 2) u_3.1.1 u_3.1.2 ++ wR G (ad 3) k2 r2 ++ wK (ad 4)) := by simp only [sel_0 hz_3]; exact hD
        refine hret _ _ _ _ _ _ (pTwo r (ix t) (ix t2) (ix mi)) u_3 dX0_act_49 ?_ hP hD hS (Nat.le_of_ble_eq_true rfl) (Nat.le_of_ble_eq_true rfl)
        exact (sel_0 hz_3).symm
    · skip
      exact absurd c_2 (by decide)
  · skip
    exact absurd c_1 (by decide)
set_option maxHeartbeats 4000000 in
set_option maxRecDepth 100000 in
theorem m_act_25 (l : Launch) (hl0 : l.stackTraces = false) (G : xG) (ad : Nat → Nat → Nat) (kd k1 k2 : Nat → Option Nat) (r r1 r2 : Rw) (ho rn ln dr : Int32) (ro lt rf th sb : Nat → Int32) (hr : Ok r) (hp : r 5 3 = 0) (hk : kOk (ad 4) kd r) (t w z10 z11 z12 : Int32) : zCi l G yX0_act (wsW_ yX0_act cX0_act 8 (some .int) [(0, 49, 50, 239)]) ({ frames := 13, cells := 13, slots := 121, locals := 244 } : Room) [.ref (ad 0 0), .int 25, .int t, .int w, .int z10, .int z11, .int z12] (wX G ad ho rn ln dr ro lt rf th sb ++ wR G (ad 1) kd r ++ wR G (ad 2) k1 r1 ++ wR G (ad 3) k2 r2 ++ wK (ad 4)) (S := ((Nat → Option Nat) × Rw)) (fun v _ => v = sel (eS (tB r t) (-1) (eS (inR w 0 1) (-2) (eS (decide (rn = nI (mny r))) (-3) 0))) (pFits r ro (ix t) w) (eS (tB r t) (-1) (eS (inR w 0 1) (-2) (eS (decide (rn = nI (mny r))) (-3) 0)))) (fun u => (wX G ad ho rn ln dr ro lt (sel (eS (tB r t) (-1) (eS (inR w 0 1) (-2) (eS (decide (rn = nI (mny r))) (-3) 0))) rf (rfU rf (eS (tB r t) (-1) (eS (inR w 0 1) (-2) (eS (decide (rn = nI (mny r))) (-3) 0))))) th sb ++ wR G (ad 1) kd r ++ wR G (ad 2) u.1 u.2 ++ wR G (ad 3) k2 r2 ++ wK (ad 4))) := by
  refine z_openiW (hh := [(0, 49, 50, 239)]) (by decide) (Nat.le_of_ble_eq_true rfl) (fun _ _ _ => rfl) ?_
  intro p e s m args below meth c A Q ls C0 hK hZ hP hD hA hl htb hret
  obtain ⟨hx, hb, hml, hown, hts⟩ := id C0
  have hS : va_S A s.heap s.heap [] := va_S.rf
  have hP : va_P G.1 vwCl (wX G ad ho rn ln dr ro lt rf th sb ++ wR G (ad 1) kd r ++ wR G (ad 2) k1 r1 ++ wR G (ad 3) k2 r2 ++ wK (ad 4)) s.heap := hP
  have hD : va_D A (wX G ad ho rn ln dr ro lt rf th sb ++ wR G (ad 1) kd r ++ wR G (ad 2) k1 r1 ++ wR G (ad 3) k2 r2 ++ wK (ad 4)) := hD
  have hl : lv_has ls 8 [(0, .ref (ad 0 0)), (1, .int 25), (2, .int t), (3, .int w), (4, .int z10), (5, .int z11), (6, .int z12)] := hl
  have hr0 := hr.n
  have hN := hr.le
  refine lv_iload_n hx hb dX0_act_0 rfl (lv_at hl 1 rfl) ?_
  refine lv_bipush (v := 9) hx hb dX0_act_1 (by decide) ?_
  refine lv_icmp_ge (tgt := 18) hx hb dX0_act_3 (by decide) (fun c_1 => ?_) (fun c_1 => ?_)
  · skip
    refine lv_iload_n hx hb dX0_act_18 rfl (lv_at hl 1 rfl) ?_
    refine lv_bipush (v := 18) hx hb dX0_act_19 (by decide) ?_
    refine lv_icmp_ge (tgt := 36) hx hb dX0_act_21 (by decide) (fun c_2 => ?_) (fun c_2 => ?_)
    · skip
      refine lv_aload_n hx hb dX0_act_36 rfl (lv_at hl 0 rfl) ?_
      refine lv_iload_n hx hb dX0_act_37 rfl (lv_at hl 1 rfl) ?_
      refine lv_iload_n hx hb dX0_act_38 rfl (lv_at hl 2 rfl) ?_
      refine lv_iload_n hx hb dX0_act_39 rfl (lv_at hl 3 rfl) ?_
      refine lv_iload hx hb dX0_act_40 (lv_at hl 4 rfl) ?_
      refine lv_iload hx hb dX0_act_42 (lv_at hl 5 rfl) ?_
      refine lv_iload hx hb dX0_act_44 (lv_at hl 6 rfl) ?_
      refine y_Vi (wN := fun u_3 => (wX G ad ho rn ln dr ro lt rf th sb ++ wR G (ad 1) kd r ++ wR G (ad 2) u_3.1 u_3.2 ++ wR G (ad 3) k2 r2 ++ wK (ad 4))) (wNx := fun u9 => (wX G ad ho rn ln dr ro lt rf th sb ++ wR G (ad 1) kd r ++ wR G (ad 2) k1 r1 ++ wR G (ad 3) k2 r2 ++ wK (ad 4))) ⟨C0, hK, hP, hD, hS, hA⟩ hZ 0 rfl (ci := 0) rfl rfl ((m_rest_25 l hl0 G ad kd k1 k2 r r1 r2 ho rn ln dr ro lt rf th sb hr hp hk t w z10 z11 z12)) (cwV 6 hts (lw_V q875 q877 qs40 q86 q878) rfl rfl rfl (by decide +kernel) ⟨Nat.le_of_ble_eq_true rfl, Nat.le_of_ble_eq_true rfl⟩) [0, 1, 2, 3, 4, 5, 6, 7, 8, 9, 10, 11, 12, 13, 14, 15, 16, 17, 18, 19, 20, 21, 22, 23, 24, 25, 26, 27, 28, 29, 30] [1, 3, 5, 7, 9, 11, 13, 15, 17, 19, 21, 23, 25, 27, 29, 31, 33, 35, 37, 39, 41, 43, 45, 47, 49, 51, 53, 55, 57, 59, 61] [1, 3, 5, 7, 9, 11, 13, 15, 17, 19, 21, 23, 25, 27, 29, 31, 33, 35, 37, 39, 41, 43, 45, 47, 49, 51, 53, 55, 57, 59, 61, 63] rfl (fun _ => rfl) (fun _ _ _ => rfl) rfl rfl rfl hl.1 rfl (Nat.le_of_ble_eq_true rfl) dX0_act_46 ⟨(Nat.le_of_ble_eq_true rfl), (Nat.le_of_ble_eq_true rfl)⟩ (fun q9 u9 ee H locs hw_3 hP hD hS => ?_) (fun r_3 u_3 H locs hw_3 hP hD hS => ?_)
      · skip
        refine z_catch ⟨0, 49, 50, 239⟩ hown hK htb rfl (by decide) (by decide) (hts _ q273) hP ?_
        have hthr9 : ee.2.1 = eS (tB r t) (-1) (eS (inR w 0 1) (-2) (eS (decide (rn = nI (mny r))) (-3) 0)) ∧ eS (tB r t) (-1) (eS (inR w 0 1) (-2) (eS (decide (rn = nI (mny r))) (-3) 0)) ≠ 0 := hw_3
        refine lv_astore (lv' := [(7, .ref q9), (0, .ref (ad 0 0)), (1, .int 25), (2, .int t), (3, .int w), (4, .int z10), (5, .int z11), (6, .int z12)]) hx hb dX0_act_50 hl (by decide) rfl (fun ls hl => ?_)
        refine lv_aload_n hx hb dX0_act_52 rfl (lv_at hl 1 rfl) ?_
        refine lv_aload hx hb dX0_act_53 (lv_at hl 0 rfl) ?_
        obtain ⟨ek, en, e1, e2, e3⟩ := ee
        cases ek
        · skip
          have hP : va_P G.1 vwCl (wX G ad ho rn ln dr ro lt rf th sb ++ wR G (ad 1) kd r ++ wR G (ad 2) k1 r1 ++ wR G (ad 3) k2 r2 ++ wK (ad 4) ++ [(q9, .inr (9, [e1, e2, e3, .null, .null, .int 0, .int en]))]) H := hP
          have hD : va_D A (wX G ad ho rn ln dr ro lt rf th sb ++ wR G (ad 1) kd r ++ wR G (ad 2) k1 r1 ++ wR G (ad 3) k2 r2 ++ wK (ad 4) ++ [(q9, .inr (9, [e1, e2, e3, .null, .null, .int 0, .int en]))]) := hD
          obtain ⟨een, hne⟩ := hthr9
          have een : en = eS (tB r t) (-1) (eS (inR w 0 1) (-2) (eS (decide (rn = nI (mny r))) (-3) 0)) := een
          subst een
          have hP : va_P G.1 vwCl (wX G ad ho rn ln dr ro lt rf th sb ++ wR G (ad 1) kd r ++ wR G (ad 2) k1 r1 ++ wR G (ad 3) k2 r2 ++ wK (ad 4) ++ [(q9, .inr (9, [e1, e2, e3, .null, .null, .int 0, .int (eS (tB r t) (-1) (eS (inR w 0 1) (-2) (eS (decide (rn = nI (mny r))) (-3) 0)))]))]) H := hP
          have hD : va_D A (wX G ad ho rn ln dr ro lt rf th sb ++ wR G (ad 1) kd r ++ wR G (ad 2) k1 r1 ++ wR G (ad 3) k2 r2 ++ wK (ad 4) ++ [(q9, .inr (9, [e1, e2, e3, .null, .null, .int 0, .int (eS (tB r t) (-1) (eS (inR w 0 1) (-2) (eS (decide (rn = nI (mny r))) (-3) 0)))]))]) := hD
          refine x_Ui (wN := fun _ => (wX G ad ho rn ln dr ro lt rf th sb ++ wR G (ad 1) kd r ++ wR G (ad 2) k1 r1 ++ wR G (ad 3) k2 r2 ++ wK (ad 4) ++ [(q9, .inr (9, [e1, e2, e3, .null, .null, .int 0, .int (eS (tB r t) (-1) (eS (inR w 0 1) (-2) (eS (decide (rn = nI (mny r))) (-3) 0)))]))])) ⟨C0, hK, hP, hD, hS, hA⟩ 31 rfl (ci := 9) rfl rfl ((m_X11_number l G q9 e1 e2 e3 (eS (tB r t) (-1) (eS (inR w 0 1) (-2) (eS (decide (rn = nI (mny r))) (-3) 0))))) (va_cwA (owner := "PulledFromUnder$Refusal") 0 hts (lw_U q990 q992 q996 q997 q100 q998) rfl rfl rfl (hK.2.D 13 rfl) (by decide +kernel) ⟨Nat.le_of_ble_eq_true rfl, Nat.le_of_ble_eq_true rfl⟩) [31] [0, 2, 4, 6, 8, 10, 12, 14, 16, 18, 20, 22, 24, 26, 28, 30, 32, 34, 36, 38, 40, 42, 44, 46, 48, 50, 52, 54, 56, 58, 60, 1] rfl (fun _ => rfl) rfl rfl hl.1 rfl (Nat.le_of_ble_eq_true rfl) dX0_act_55 ⟨(Nat.le_of_ble_eq_true rfl), (Nat.le_of_ble_eq_true rfl)⟩ (fun r_4 u_4 H locs hw_4 hP hD hS => ?_)
          have hw_4 : (eS (tB r t) (-1) (eS (inR w 0 1) (-2) (eS (decide (rn = nI (mny r))) (-3) 0)) : Int32) = r_4 := hw_4.symm
          subst hw_4
          refine x_Vi (wN := fun _ => (wX G ad ho rn ln dr ro lt (rfU rf (eS (tB r t) (-1) (eS (inR w 0 1) (-2) (eS (decide (rn = nI (mny r))) (-3) 0)))) th sb ++ wR G (ad 1) kd r ++ wR G (ad 2) k1 r1 ++ wR G (ad 3) k2 r2 ++ wK (ad 4) ++ [(q9, .inr (9, [e1, e2, e3, .null, .null, .int 0, .int (eS (tB r t) (-1) (eS (inR w 0 1) (-2) (eS (decide (rn = nI (mny r))) (-3) 0)))]))])) ⟨C0, hK, hP, hD, hS, hA⟩ 0 rfl (ci := 0) rfl rfl ((m_refuse l G ad kd k1 k2 r r1 r2 ho rn ln dr ro lt rf th sb hr hp hk (eS (tB r t) (-1) (eS (inR w 0 1) (-2) (eS (decide (rn = nI (mny r))) (-3) 0))) (rfOk_S rfOk_k.1 (rfOk_S rfOk_k.2.1 (rfOk_S rfOk_k.2.2.1 rfOk_0))))) (cwV 1 hts (lw_V q999 q1001 qs62 q86 q1002) rfl rfl rfl (by decide +kernel) ⟨Nat.le_of_ble_eq_true rfl, Nat.le_of_ble_eq_true rfl⟩) [0, 1, 2, 3, 4, 5, 6, 7, 8, 9, 10, 11, 12, 13, 14, 15, 16, 17, 18, 19, 20, 21, 22, 23, 24, 25, 26, 27, 28, 29, 30] [1, 3, 5, 7, 9, 11, 13, 15, 17, 19, 21, 23, 25, 27, 29, 31, 33, 35, 37, 39, 41, 43, 45, 47, 49, 51, 53, 55, 57, 59, 61, 62] rfl (fun _ => rfl) rfl rfl hl.1 rfl (Nat.le_of_ble_eq_true rfl) dX0_act_58 ⟨(Nat.le_of_ble_eq_true rfl), (Nat.le_of_ble_eq_true rfl)⟩ (fun r_5 u_5 H locs hw_5 hP hD hS => ?_)
          have hw_5 : (eS (tB r t) (-1) (eS (inR w 0 1) (-2) (eS (decide (rn = nI (mny r))) (-3) 0)) : Int32) = r_5 := hw_5.symm
          subst hw_5
          have hP : va_P G.1 vwCl (wX G ad ho rn ln dr ro lt (rfU rf (eS (tB r t) (-1) (eS (inR w 0 1) (-2) (eS (decide (rn = nI (mny r))) (-3) 0)))) th sb ++ wR G (ad 1) kd r ++ wR G (ad 2) k1 r1 ++ wR G (ad 3) k2 r2 ++ wK (ad 4) ++ [(q9, .inr (9, [e1, e2, e3, .null, .null, .int 0, .int (eS (tB r t) (-1) (eS (inR w 0 1) (-2) (eS (decide (rn = nI (mny r))) (-3) 0)))]))]) H := hP
          have hD : va_D A (wX G ad ho rn ln dr ro lt (rfU rf (eS (tB r t) (-1) (eS (inR w 0 1) (-2) (eS (decide (rn = nI (mny r))) (-3) 0)))) th sb ++ wR G (ad 1) kd r ++ wR G (ad 2) k1 r1 ++ wR G (ad 3) k2 r2 ++ wK (ad 4) ++ [(q9, .inr (9, [e1, e2, e3, .null, .null, .int 0, .int (eS (tB r t) (-1) (eS (inR w 0 1) (-2) (eS (decide (rn = nI (mny r))) (-3) 0)))]))]) := hD
          have hP := x_dropP hP
          have hD := x_dropD hD
          have hP : va_P G.1 vwCl (wX G ad ho rn ln dr ro lt (sel (eS (tB r t) (-1) (eS (inR w 0 1) (-2) (eS (decide (rn = nI (mny r))) (-3) 0))) rf (rfU rf (eS (tB r t) (-1) (eS (inR w 0 1) (-2) (eS (decide (rn = nI (mny r))) (-3) 0))))) th sb ++ wR G (ad 1) kd r ++ wR G (ad 2) ((k1, r1).1) ((k1, r1).2) ++ wR G (ad 3) k2 r2 ++ wK (ad 4)) H := by simp only [sel_n hne]; exact hP
          have hD : va_D A (wX G ad ho rn ln dr ro lt (sel (eS (tB r t) (-1) (eS (inR w 0 1) (-2) (eS (decide (rn = nI (mny r))) (-3) 0))) rf (rfU rf (eS (tB r t) (-1) (eS (inR w 0 1) (-2) (eS (decide (rn = nI (mny r))) (-3) 0))))) th sb ++ wR G (ad 1) kd r ++ wR G (ad 2) ((k1, r1).1) ((k1, r1).2) ++ wR G (ad 3) k2 r2 ++ wK (ad 4)) := by simp only [sel_n hne]; exact hD
          refine hret _ _ _ _ _ _ (eS (tB r t) (-1) (eS (inR w 0 1) (-2) (eS (decide (rn = nI (mny r))) (-3) 0))) (k1, r1) dX0_act_61 ?_ hP hD hS (Nat.le_of_ble_eq_true rfl) (Nat.le_of_ble_eq_true rfl)
          exact (sel_n hne).symm
        · skip
          have hP : va_P G.1 vwCl (wX G ad ho rn ln dr ro lt rf th sb ++ wR G (ad 1) kd r ++ wR G (ad 2) k1 r1 ++ wR G (ad 3) k2 r2 ++ wK (ad 4) ++ [(q9, .inr (11, [e1, e2, e3, .null, .null, .int 0, .int en]))]) H := hP
          have hD : va_D A (wX G ad ho rn ln dr ro lt rf th sb ++ wR G (ad 1) kd r ++ wR G (ad 2) k1 r1 ++ wR G (ad 3) k2 r2 ++ wK (ad 4) ++ [(q9, .inr (11, [e1, e2, e3, .null, .null, .int 0, .int en]))]) := hD
          obtain ⟨een, hne⟩ := hthr9
          have een : en = eS (tB r t) (-1) (eS (inR w 0 1) (-2) (eS (decide (rn = nI (mny r))) (-3) 0)) := een
          subst een
          have hP : va_P G.1 vwCl (wX G ad ho rn ln dr ro lt rf th sb ++ wR G (ad 1) kd r ++ wR G (ad 2) k1 r1 ++ wR G (ad 3) k2 r2 ++ wK (ad 4) ++ [(q9, .inr (11, [e1, e2, e3, .null, .null, .int 0, .int (eS (tB r t) (-1) (eS (inR w 0 1) (-2) (eS (decide (rn = nI (mny r))) (-3) 0)))]))]) H := hP
          have hD : va_D A (wX G ad ho rn ln dr ro lt rf th sb ++ wR G (ad 1) kd r ++ wR G (ad 2) k1 r1 ++ wR G (ad 3) k2 r2 ++ wK (ad 4) ++ [(q9, .inr (11, [e1, e2, e3, .null, .null, .int 0, .int (eS (tB r t) (-1) (eS (inR w 0 1) (-2) (eS (decide (rn = nI (mny r))) (-3) 0)))]))]) := hD
          refine x_Ui (wN := fun _ => (wX G ad ho rn ln dr ro lt rf th sb ++ wR G (ad 1) kd r ++ wR G (ad 2) k1 r1 ++ wR G (ad 3) k2 r2 ++ wK (ad 4) ++ [(q9, .inr (11, [e1, e2, e3, .null, .null, .int 0, .int (eS (tB r t) (-1) (eS (inR w 0 1) (-2) (eS (decide (rn = nI (mny r))) (-3) 0)))]))])) ⟨C0, hK, hP, hD, hS, hA⟩ 31 rfl (ci := 11) rfl rfl ((m_X13_number l G q9 e1 e2 e3 (eS (tB r t) (-1) (eS (inR w 0 1) (-2) (eS (decide (rn = nI (mny r))) (-3) 0))))) (va_cwA (owner := "PulledFromUnder$Refusal") 0 hts (lw_U q990 q992 q993 q994 q102 q995) rfl rfl rfl (hK.2.D 13 rfl) (by decide +kernel) ⟨Nat.le_of_ble_eq_true rfl, Nat.le_of_ble_eq_true rfl⟩) [31] [0, 2, 4, 6, 8, 10, 12, 14, 16, 18, 20, 22, 24, 26, 28, 30, 32, 34, 36, 38, 40, 42, 44, 46, 48, 50, 52, 54, 56, 58, 60, 1] rfl (fun _ => rfl) rfl rfl hl.1 rfl (Nat.le_of_ble_eq_true rfl) dX0_act_55 ⟨(Nat.le_of_ble_eq_true rfl), (Nat.le_of_ble_eq_true rfl)⟩ (fun r_6 u_6 H locs hw_6 hP hD hS => ?_)
          have hw_6 : (eS (tB r t) (-1) (eS (inR w 0 1) (-2) (eS (decide (rn = nI (mny r))) (-3) 0)) : Int32) = r_6 := hw_6.symm
          subst hw_6
          refine x_Vi (wN := fun _ => (wX G ad ho rn ln dr ro lt (rfU rf (eS (tB r t) (-1) (eS (inR w 0 1) (-2) (eS (decide (rn = nI (mny r))) (-3) 0)))) th sb ++ wR G (ad 1) kd r ++ wR G (ad 2) k1 r1 ++ wR G (ad 3) k2 r2 ++ wK (ad 4) ++ [(q9, .inr (11, [e1, e2, e3, .null, .null, .int 0, .int (eS (tB r t) (-1) (eS (inR w 0 1) (-2) (eS (decide (rn = nI (mny r))) (-3) 0)))]))])) ⟨C0, hK, hP, hD, hS, hA⟩ 0 rfl (ci := 0) rfl rfl ((m_refuse l G ad kd k1 k2 r r1 r2 ho rn ln dr ro lt rf th sb hr hp hk (eS (tB r t) (-1) (eS (inR w 0 1) (-2) (eS (decide (rn = nI (mny r))) (-3) 0))) (rfOk_S rfOk_k.1 (rfOk_S rfOk_k.2.1 (rfOk_S rfOk_k.2.2.1 rfOk_0))))) (cwV 1 hts (lw_V q999 q1001 qs62 q86 q1002) rfl rfl rfl (by decide +kernel) ⟨Nat.le_of_ble_eq_true rfl, Nat.le_of_ble_eq_true rfl⟩) [0, 1, 2, 3, 4, 5, 6, 7, 8, 9, 10, 11, 12, 13, 14, 15, 16, 17, 18, 19, 20, 21, 22, 23, 24, 25, 26, 27, 28, 29, 30] [1, 3, 5, 7, 9, 11, 13, 15, 17, 19, 21, 23, 25, 27, 29, 31, 33, 35, 37, 39, 41, 43, 45, 47, 49, 51, 53, 55, 57, 59, 61, 62] rfl (fun _ => rfl) rfl rfl hl.1 rfl (Nat.le_of_ble_eq_true rfl) dX0_act_58 ⟨(Nat.le_of_ble_eq_true rfl), (Nat.le_of_ble_eq_true rfl)⟩ (fun r_7 u_7 H locs hw_7 hP hD hS => ?_)
          have hw_7 : (eS (tB r t) (-1) (eS (inR w 0 1) (-2) (eS (decide (rn = nI (mny r))) (-3) 0)) : Int32) = r_7 := hw_7.symm
          subst hw_7
          have hP : va_P G.1 vwCl (wX G ad ho rn ln dr ro lt (rfU rf (eS (tB r t) (-1) (eS (inR w 0 1) (-2) (eS (decide (rn = nI (mny r))) (-3) 0)))) th sb ++ wR G (ad 1) kd r ++ wR G (ad 2) k1 r1 ++ wR G (ad 3) k2 r2 ++ wK (ad 4) ++ [(q9, .inr (11, [e1, e2, e3, .null, .null, .int 0, .int (eS (tB r t) (-1) (eS (inR w 0 1) (-2) (eS (decide (rn = nI (mny r))) (-3) 0)))]))]) H := hP
          have hD : va_D A (wX G ad ho rn ln dr ro lt (rfU rf (eS (tB r t) (-1) (eS (inR w 0 1) (-2) (eS (decide (rn = nI (mny r))) (-3) 0)))) th sb ++ wR G (ad 1) kd r ++ wR G (ad 2) k1 r1 ++ wR G (ad 3) k2 r2 ++ wK (ad 4) ++ [(q9, .inr (11, [e1, e2, e3, .null, .null, .int 0, .int (eS (tB r t) (-1) (eS (inR w 0 1) (-2) (eS (decide (rn = nI (mny r))) (-3) 0)))]))]) := hD
          have hP := x_dropP hP
          have hD := x_dropD hD
          have hP : va_P G.1 vwCl (wX G ad ho rn ln dr ro lt (sel (eS (tB r t) (-1) (eS (inR w 0 1) (-2) (eS (decide (rn = nI (mny r))) (-3) 0))) rf (rfU rf (eS (tB r t) (-1) (eS (inR w 0 1) (-2) (eS (decide (rn = nI (mny r))) (-3) 0))))) th sb ++ wR G (ad 1) kd r ++ wR G (ad 2) ((k1, r1).1) ((k1, r1).2) ++ wR G (ad 3) k2 r2 ++ wK (ad 4)) H := by simp only [sel_n hne]; exact hP
          have hD : va_D A (wX G ad ho rn ln dr ro lt (sel (eS (tB r t) (-1) (eS (inR w 0 1) (-2) (eS (decide (rn = nI (mny r))) (-3) 0))) rf (rfU rf (eS (tB r t) (-1) (eS (inR w 0 1) (-2) (eS (decide (rn = nI (mny r))) (-3) 0))))) th sb ++ wR G (ad 1) kd r ++ wR G (ad 2) ((k1, r1).1) ((k1, r1).2) ++ wR G (ad 3) k2 r2 ++ wK (ad 4)) := by simp only [sel_n hne]; exact hD
          refine hret _ _ _ _ _ _ (eS (tB r t) (-1) (eS (inR w 0 1) (-2) (eS (decide (rn = nI (mny r))) (-3) 0))) (k1, r1) dX0_act_61 ?_ hP hD hS (Nat.le_of_ble_eq_true rfl) (Nat.le_of_ble_eq_true rfl)
          exact (sel_n hne).symm
      · skip
        obtain ⟨hz_3, hw_3⟩ := hw_3
        have hw_3 : (pFits r ro (ix t) w : Int32) = r_3 := hw_3.symm
        subst hw_3
        have hP : va_P G.1 vwCl (wX G ad ho rn ln dr ro lt rf th sb ++ wR G (ad 1) kd r ++ wR G (ad 2) u_3.1 u_3.2 ++ wR G (ad 3) k2 r2 ++ wK (ad 4)) H := hP
        have hD : va_D A (wX G ad ho rn ln dr ro lt rf th sb ++ wR G (ad 1) kd r ++ wR G (ad 2) u_3.1 u_3.2 ++ wR G (ad 3) k2 r2 ++ wK (ad 4)) := hD
        refine W.widen (k := 13) (n := 121) (Nat.le_of_ble_eq_true rfl) (Nat.le_of_ble_eq_true rfl) ?_
        have hP : va_P G.1 vwCl (wX G ad ho rn ln dr ro lt (sel (eS (tB r t) (-1) (eS (inR w 0 1) (-2) (eS (decide (rn = nI (mny r))) (-3) 0))) rf (rfU rf (eS (tB r t) (-1) (eS (inR w 0 1) (-2) (eS (decide (rn = nI (mny r))) (-3) 0))))) th sb ++ wR G (ad 1) kd r ++ wR G (ad 2) u_3.1 u_3.2 ++ wR G (ad 3) k2 r2 ++ wK (ad 4)) H := by simp only [sel_0 hz_3]; exact hP
        have hD : va_D A (wX G ad ho rn ln dr ro lt (sel (eS (tB r t) (-1) (eS (inR w 0 1) (-2) (eS (decide (rn = nI (mny r))) (-3) 0))) rf (rfU rf (eS (tB r t) (-1) (eS (inR w 0 1) (-2) (eS (decide (rn = nI (mny r))) (-3) 0))))) th sb ++ wR G (ad 1) kd r ++ wR G (ad 2) u_3.1 u_3.2 ++ wR G (ad 3) k2 r2 ++ wK (ad 4)) := by simp only [sel_0 hz_3]; exact hD
        refine hret _ _ _ _ _ _ (pFits r ro (ix t) w) u_3 dX0_act_49 ?_ hP hD hS (Nat.le_of_ble_eq_true rfl) (Nat.le_of_ble_eq_true rfl)
        exact (sel_0 hz_3).symm
    · skip
      exact absurd c_2 (by decide)
  · skip
    exact absurd c_1 (by decide)
set_option maxHeartbeats 4000000 in
set_option maxRecDepth 100000 in
theorem m_act_26 (l : Launch) (hl0 : l.stackTraces = false) (G : xG) (ad : Nat → Nat → Nat) (kd k1 k2 : Nat → Option Nat) (r r1 r2 : Rw) (ho rn ln dr : Int32) (ro lt rf th sb : Nat → Int32) (hr : Ok r) (hp : r 5 3 = 0) (hk : kOk (ad 4) kd r) (mi z10 z11 z12 z13 : Int32) (jn : Nat) (hjn : rn = nI jn) (hjm : jn ≤ 16) : zCi l G yX0_act (wsW_ yX0_act cX0_act 8 (some .int) [(0, 49, 50, 239)]) ({ frames := 11, cells := 3, slots := 21, locals := 205 } : Room) [.ref (ad 0 0), .int 26, .int mi, .int z10, .int z11, .int z12, .int z13] (wX G ad ho rn ln dr ro lt rf th sb ++ wR G (ad 1) kd r ++ wR G (ad 2) k1 r1 ++ wR G (ad 3) k2 r2 ++ wK (ad 4)) (S := Unit) (fun v _ => v = sel (eW (wBy mi.toInt 0 99) (eS (decide (jn < 16)) (-6) 0)) (nI (jn + 1)) (eW (wBy mi.toInt 0 99) (eS (decide (jn < 16)) (-6) 0))) (fun _ => (wX G ad ho (sel (eW (wBy mi.toInt 0 99) (eS (decide (jn < 16)) (-6) 0)) (nI (jn + 1)) rn) ln dr (sel (eW (wBy mi.toInt 0 99) (eS (decide (jn < 16)) (-6) 0)) (upd ro jn mi) ro) lt (sel (eW (wBy mi.toInt 0 99) (eS (decide (jn < 16)) (-6) 0)) rf (rfU rf (eW (wBy mi.toInt 0 99) (eS (decide (jn < 16)) (-6) 0)))) th sb ++ wR G (ad 1) kd r ++ wR G (ad 2) k1 r1 ++ wR G (ad 3) k2 r2 ++ wK (ad 4))) := by
  refine z_openiW (hh := [(0, 49, 50, 239)]) (by decide) (Nat.le_of_ble_eq_true rfl) (fun _ _ _ => rfl) ?_
  intro p e s m args below meth c A Q ls C0 hK hZ hP hD hA hl htb hret
  obtain ⟨hx, hb, hml, hown, hts⟩ := id C0
  have hS : va_S A s.heap s.heap [] := va_S.rf
  have hP : va_P G.1 vwCl (wX G ad ho rn ln dr ro lt rf th sb ++ wR G (ad 1) kd r ++ wR G (ad 2) k1 r1 ++ wR G (ad 3) k2 r2 ++ wK (ad 4)) s.heap := hP
  have hD : va_D A (wX G ad ho rn ln dr ro lt rf th sb ++ wR G (ad 1) kd r ++ wR G (ad 2) k1 r1 ++ wR G (ad 3) k2 r2 ++ wK (ad 4)) := hD
  have hl : lv_has ls 8 [(0, .ref (ad 0 0)), (1, .int 26), (2, .int mi), (3, .int z10), (4, .int z11), (5, .int z12), (6, .int z13)] := hl
  have hr0 := hr.n
  have hN := hr.le
  refine lv_iload_n hx hb dX0_act_0 rfl (lv_at hl 1 rfl) ?_
  refine lv_bipush (v := 9) hx hb dX0_act_1 (by decide) ?_
  refine lv_icmp_ge (tgt := 18) hx hb dX0_act_3 (by decide) (fun c_1 => ?_) (fun c_1 => ?_)
  · skip
    refine lv_iload_n hx hb dX0_act_18 rfl (lv_at hl 1 rfl) ?_
    refine lv_bipush (v := 18) hx hb dX0_act_19 (by decide) ?_
    refine lv_icmp_ge (tgt := 36) hx hb dX0_act_21 (by decide) (fun c_2 => ?_) (fun c_2 => ?_)
    · skip
      refine lv_aload_n hx hb dX0_act_36 rfl (lv_at hl 0 rfl) ?_
      refine lv_iload_n hx hb dX0_act_37 rfl (lv_at hl 1 rfl) ?_
      refine lv_iload_n hx hb dX0_act_38 rfl (lv_at hl 2 rfl) ?_
      refine lv_iload_n hx hb dX0_act_39 rfl (lv_at hl 3 rfl) ?_
      refine lv_iload hx hb dX0_act_40 (lv_at hl 4 rfl) ?_
      refine lv_iload hx hb dX0_act_42 (lv_at hl 5 rfl) ?_
      refine lv_iload hx hb dX0_act_44 (lv_at hl 6 rfl) ?_
      refine y_Vi (wN := fun u_3 => (wX G ad ho (nI (jn + 1)) ln dr (upd ro jn mi) lt rf th sb ++ wR G (ad 1) kd r ++ wR G (ad 2) k1 r1 ++ wR G (ad 3) k2 r2 ++ wK (ad 4))) (wNx := fun u9 => (wX G ad ho rn ln dr ro lt rf th sb ++ wR G (ad 1) kd r ++ wR G (ad 2) k1 r1 ++ wR G (ad 3) k2 r2 ++ wK (ad 4))) ⟨C0, hK, hP, hD, hS, hA⟩ hZ 0 rfl (ci := 0) rfl rfl ((m_rest_26 l hl0 G ad kd k1 k2 r r1 r2 ho rn ln dr ro lt rf th sb hr hp hk mi z10 z11 z12 z13 jn hjn hjm)) (cwV 6 hts (lw_V q875 q877 qs40 q86 q878) rfl rfl rfl (by decide +kernel) ⟨Nat.le_of_ble_eq_true rfl, Nat.le_of_ble_eq_true rfl⟩) [0, 1, 2, 3, 4, 5, 6, 7, 8, 9, 10, 11, 12, 13, 14, 15, 16, 17, 18, 19, 20, 21, 22, 23, 24, 25, 26, 27, 28, 29, 30] [1, 3, 5, 7, 9, 11, 13, 15, 17, 19, 21, 23, 25, 27, 29, 31, 33, 35, 37, 39, 41, 43, 45, 47, 49, 51, 53, 55, 57, 59, 61] [1, 3, 5, 7, 9, 11, 13, 15, 17, 19, 21, 23, 25, 27, 29, 31, 33, 35, 37, 39, 41, 43, 45, 47, 49, 51, 53, 55, 57, 59, 61, 63] rfl (fun _ => rfl) (fun _ _ _ => rfl) rfl rfl rfl hl.1 rfl (Nat.le_of_ble_eq_true rfl) dX0_act_46 ⟨(Nat.le_of_ble_eq_true rfl), (Nat.le_of_ble_eq_true rfl)⟩ (fun q9 u9 ee H locs hw_3 hP hD hS => ?_) (fun r_3 u_3 H locs hw_3 hP hD hS => ?_)
      · skip
        refine z_catch ⟨0, 49, 50, 239⟩ hown hK htb rfl (by decide) (by decide) (hts _ q273) hP ?_
        have hthr9 : ee.2.1 = eW (wBy mi.toInt 0 99) (eS (decide (jn < 16)) (-6) 0) ∧ eW (wBy mi.toInt 0 99) (eS (decide (jn < 16)) (-6) 0) ≠ 0 := hw_3
        refine lv_astore (lv' := [(7, .ref q9), (0, .ref (ad 0 0)), (1, .int 26), (2, .int mi), (3, .int z10), (4, .int z11), (5, .int z12), (6, .int z13)]) hx hb dX0_act_50 hl (by decide) rfl (fun ls hl => ?_)
        refine lv_aload_n hx hb dX0_act_52 rfl (lv_at hl 1 rfl) ?_
        refine lv_aload hx hb dX0_act_53 (lv_at hl 0 rfl) ?_
        obtain ⟨ek, en, e1, e2, e3⟩ := ee
        cases ek
        · skip
          have hP : va_P G.1 vwCl (wX G ad ho rn ln dr ro lt rf th sb ++ wR G (ad 1) kd r ++ wR G (ad 2) k1 r1 ++ wR G (ad 3) k2 r2 ++ wK (ad 4) ++ [(q9, .inr (9, [e1, e2, e3, .null, .null, .int 0, .int en]))]) H := hP
          have hD : va_D A (wX G ad ho rn ln dr ro lt rf th sb ++ wR G (ad 1) kd r ++ wR G (ad 2) k1 r1 ++ wR G (ad 3) k2 r2 ++ wK (ad 4) ++ [(q9, .inr (9, [e1, e2, e3, .null, .null, .int 0, .int en]))]) := hD
          obtain ⟨een, hne⟩ := hthr9
          have een : en = eW (wBy mi.toInt 0 99) (eS (decide (jn < 16)) (-6) 0) := een
          subst een
          have hP : va_P G.1 vwCl (wX G ad ho rn ln dr ro lt rf th sb ++ wR G (ad 1) kd r ++ wR G (ad 2) k1 r1 ++ wR G (ad 3) k2 r2 ++ wK (ad 4) ++ [(q9, .inr (9, [e1, e2, e3, .null, .null, .int 0, .int (eW (wBy mi.toInt 0 99) (eS (decide (jn < 16)) (-6) 0))]))]) H := hP
          have hD : va_D A (wX G ad ho rn ln dr ro lt rf th sb ++ wR G (ad 1) kd r ++ wR G (ad 2) k1 r1 ++ wR G (ad 3) k2 r2 ++ wK (ad 4) ++ [(q9, .inr (9, [e1, e2, e3, .null, .null, .int 0, .int (eW (wBy mi.toInt 0 99) (eS (decide (jn < 16)) (-6) 0))]))]) := hD
          refine x_Ui (wN := fun _ => (wX G ad ho rn ln dr ro lt rf th sb ++ wR G (ad 1) kd r ++ wR G (ad 2) k1 r1 ++ wR G (ad 3) k2 r2 ++ wK (ad 4) ++ [(q9, .inr (9, [e1, e2, e3, .null, .null, .int 0, .int (eW (wBy mi.toInt 0 99) (eS (decide (jn < 16)) (-6) 0))]))])) ⟨C0, hK, hP, hD, hS, hA⟩ 31 rfl (ci := 9) rfl rfl ((m_X11_number l G q9 e1 e2 e3 (eW (wBy mi.toInt 0 99) (eS (decide (jn < 16)) (-6) 0)))) (va_cwA (owner := "PulledFromUnder$Refusal") 0 hts (lw_U q990 q992 q996 q997 q100 q998) rfl rfl rfl (hK.2.D 13 rfl) (by decide +kernel) ⟨Nat.le_of_ble_eq_true rfl, Nat.le_of_ble_eq_true rfl⟩) [31] [0, 2, 4, 6, 8, 10, 12, 14, 16, 18, 20, 22, 24, 26, 28, 30, 32, 34, 36, 38, 40, 42, 44, 46, 48, 50, 52, 54, 56, 58, 60, 1] rfl (fun _ => rfl) rfl rfl hl.1 rfl (Nat.le_of_ble_eq_true rfl) dX0_act_55 ⟨(Nat.le_of_ble_eq_true rfl), (Nat.le_of_ble_eq_true rfl)⟩ (fun r_4 u_4 H locs hw_4 hP hD hS => ?_)
          have hw_4 : (eW (wBy mi.toInt 0 99) (eS (decide (jn < 16)) (-6) 0) : Int32) = r_4 := hw_4.symm
          subst hw_4
          refine x_Vi (wN := fun _ => (wX G ad ho rn ln dr ro lt (rfU rf (eW (wBy mi.toInt 0 99) (eS (decide (jn < 16)) (-6) 0))) th sb ++ wR G (ad 1) kd r ++ wR G (ad 2) k1 r1 ++ wR G (ad 3) k2 r2 ++ wK (ad 4) ++ [(q9, .inr (9, [e1, e2, e3, .null, .null, .int 0, .int (eW (wBy mi.toInt 0 99) (eS (decide (jn < 16)) (-6) 0))]))])) ⟨C0, hK, hP, hD, hS, hA⟩ 0 rfl (ci := 0) rfl rfl ((m_refuse l G ad kd k1 k2 r r1 r2 ho rn ln dr ro lt rf th sb hr hp hk (eW (wBy mi.toInt 0 99) (eS (decide (jn < 16)) (-6) 0)) (rfOk_W (rfOk_S rfOk_k.2.2.2.2 rfOk_0)))) (cwV 1 hts (lw_V q999 q1001 qs62 q86 q1002) rfl rfl rfl (by decide +kernel) ⟨Nat.le_of_ble_eq_true rfl, Nat.le_of_ble_eq_true rfl⟩) [0, 1, 2, 3, 4, 5, 6, 7, 8, 9, 10, 11, 12, 13, 14, 15, 16, 17, 18, 19, 20, 21, 22, 23, 24, 25, 26, 27, 28, 29, 30] [1, 3, 5, 7, 9, 11, 13, 15, 17, 19, 21, 23, 25, 27, 29, 31, 33, 35, 37, 39, 41, 43, 45, 47, 49, 51, 53, 55, 57, 59, 61, 62] rfl (fun _ => rfl) rfl rfl hl.1 rfl (Nat.le_of_ble_eq_true rfl) dX0_act_58 ⟨(Nat.le_of_ble_eq_true rfl), (Nat.le_of_ble_eq_true rfl)⟩ (fun r_5 u_5 H locs hw_5 hP hD hS => ?_)
          have hw_5 : (eW (wBy mi.toInt 0 99) (eS (decide (jn < 16)) (-6) 0) : Int32) = r_5 := hw_5.symm
          subst hw_5
          have hP : va_P G.1 vwCl (wX G ad ho rn ln dr ro lt (rfU rf (eW (wBy mi.toInt 0 99) (eS (decide (jn < 16)) (-6) 0))) th sb ++ wR G (ad 1) kd r ++ wR G (ad 2) k1 r1 ++ wR G (ad 3) k2 r2 ++ wK (ad 4) ++ [(q9, .inr (9, [e1, e2, e3, .null, .null, .int 0, .int (eW (wBy mi.toInt 0 99) (eS (decide (jn < 16)) (-6) 0))]))]) H := hP
          have hD : va_D A (wX G ad ho rn ln dr ro lt (rfU rf (eW (wBy mi.toInt 0 99) (eS (decide (jn < 16)) (-6) 0))) th sb ++ wR G (ad 1) kd r ++ wR G (ad 2) k1 r1 ++ wR G (ad 3) k2 r2 ++ wK (ad 4) ++ [(q9, .inr (9, [e1, e2, e3, .null, .null, .int 0, .int (eW (wBy mi.toInt 0 99) (eS (decide (jn < 16)) (-6) 0))]))]) := hD
          have hP := x_dropP hP
          have hD := x_dropD hD
          have hP : va_P G.1 vwCl (wX G ad ho (sel (eW (wBy mi.toInt 0 99) (eS (decide (jn < 16)) (-6) 0)) (nI (jn + 1)) rn) ln dr (sel (eW (wBy mi.toInt 0 99) (eS (decide (jn < 16)) (-6) 0)) (upd ro jn mi) ro) lt (sel (eW (wBy mi.toInt 0 99) (eS (decide (jn < 16)) (-6) 0)) rf (rfU rf (eW (wBy mi.toInt 0 99) (eS (decide (jn < 16)) (-6) 0)))) th sb ++ wR G (ad 1) kd r ++ wR G (ad 2) k1 r1 ++ wR G (ad 3) k2 r2 ++ wK (ad 4)) H := by simp only [sel_n hne]; exact hP
          have hD : va_D A (wX G ad ho (sel (eW (wBy mi.toInt 0 99) (eS (decide (jn < 16)) (-6) 0)) (nI (jn + 1)) rn) ln dr (sel (eW (wBy mi.toInt 0 99) (eS (decide (jn < 16)) (-6) 0)) (upd ro jn mi) ro) lt (sel (eW (wBy mi.toInt 0 99) (eS (decide (jn < 16)) (-6) 0)) rf (rfU rf (eW (wBy mi.toInt 0 99) (eS (decide (jn < 16)) (-6) 0)))) th sb ++ wR G (ad 1) kd r ++ wR G (ad 2) k1 r1 ++ wR G (ad 3) k2 r2 ++ wK (ad 4)) := by simp only [sel_n hne]; exact hD
          refine hret _ _ _ _ _ _ (eW (wBy mi.toInt 0 99) (eS (decide (jn < 16)) (-6) 0)) () dX0_act_61 ?_ hP hD hS (Nat.le_of_ble_eq_true rfl) (Nat.le_of_ble_eq_true rfl)
          exact (sel_n hne).symm
        · skip
          have hP : va_P G.1 vwCl (wX G ad ho rn ln dr ro lt rf th sb ++ wR G (ad 1) kd r ++ wR G (ad 2) k1 r1 ++ wR G (ad 3) k2 r2 ++ wK (ad 4) ++ [(q9, .inr (11, [e1, e2, e3, .null, .null, .int 0, .int en]))]) H := hP
          have hD : va_D A (wX G ad ho rn ln dr ro lt rf th sb ++ wR G (ad 1) kd r ++ wR G (ad 2) k1 r1 ++ wR G (ad 3) k2 r2 ++ wK (ad 4) ++ [(q9, .inr (11, [e1, e2, e3, .null, .null, .int 0, .int en]))]) := hD
          obtain ⟨een, hne⟩ := hthr9
          have een : en = eW (wBy mi.toInt 0 99) (eS (decide (jn < 16)) (-6) 0) := een
          subst een
          have hP : va_P G.1 vwCl (wX G ad ho rn ln dr ro lt rf th sb ++ wR G (ad 1) kd r ++ wR G (ad 2) k1 r1 ++ wR G (ad 3) k2 r2 ++ wK (ad 4) ++ [(q9, .inr (11, [e1, e2, e3, .null, .null, .int 0, .int (eW (wBy mi.toInt 0 99) (eS (decide (jn < 16)) (-6) 0))]))]) H := hP
          have hD : va_D A (wX G ad ho rn ln dr ro lt rf th sb ++ wR G (ad 1) kd r ++ wR G (ad 2) k1 r1 ++ wR G (ad 3) k2 r2 ++ wK (ad 4) ++ [(q9, .inr (11, [e1, e2, e3, .null, .null, .int 0, .int (eW (wBy mi.toInt 0 99) (eS (decide (jn < 16)) (-6) 0))]))]) := hD
          refine x_Ui (wN := fun _ => (wX G ad ho rn ln dr ro lt rf th sb ++ wR G (ad 1) kd r ++ wR G (ad 2) k1 r1 ++ wR G (ad 3) k2 r2 ++ wK (ad 4) ++ [(q9, .inr (11, [e1, e2, e3, .null, .null, .int 0, .int (eW (wBy mi.toInt 0 99) (eS (decide (jn < 16)) (-6) 0))]))])) ⟨C0, hK, hP, hD, hS, hA⟩ 31 rfl (ci := 11) rfl rfl ((m_X13_number l G q9 e1 e2 e3 (eW (wBy mi.toInt 0 99) (eS (decide (jn < 16)) (-6) 0)))) (va_cwA (owner := "PulledFromUnder$Refusal") 0 hts (lw_U q990 q992 q993 q994 q102 q995) rfl rfl rfl (hK.2.D 13 rfl) (by decide +kernel) ⟨Nat.le_of_ble_eq_true rfl, Nat.le_of_ble_eq_true rfl⟩) [31] [0, 2, 4, 6, 8, 10, 12, 14, 16, 18, 20, 22, 24, 26, 28, 30, 32, 34, 36, 38, 40, 42, 44, 46, 48, 50, 52, 54, 56, 58, 60, 1] rfl (fun _ => rfl) rfl rfl hl.1 rfl (Nat.le_of_ble_eq_true rfl) dX0_act_55 ⟨(Nat.le_of_ble_eq_true rfl), (Nat.le_of_ble_eq_true rfl)⟩ (fun r_6 u_6 H locs hw_6 hP hD hS => ?_)
          have hw_6 : (eW (wBy mi.toInt 0 99) (eS (decide (jn < 16)) (-6) 0) : Int32) = r_6 := hw_6.symm
          subst hw_6
          refine x_Vi (wN := fun _ => (wX G ad ho rn ln dr ro lt (rfU rf (eW (wBy mi.toInt 0 99) (eS (decide (jn < 16)) (-6) 0))) th sb ++ wR G (ad 1) kd r ++ wR G (ad 2) k1 r1 ++ wR G (ad 3) k2 r2 ++ wK (ad 4) ++ [(q9, .inr (11, [e1, e2, e3, .null, .null, .int 0, .int (eW (wBy mi.toInt 0 99) (eS (decide (jn < 16)) (-6) 0))]))])) ⟨C0, hK, hP, hD, hS, hA⟩ 0 rfl (ci := 0) rfl rfl ((m_refuse l G ad kd k1 k2 r r1 r2 ho rn ln dr ro lt rf th sb hr hp hk (eW (wBy mi.toInt 0 99) (eS (decide (jn < 16)) (-6) 0)) (rfOk_W (rfOk_S rfOk_k.2.2.2.2 rfOk_0)))) (cwV 1 hts (lw_V q999 q1001 qs62 q86 q1002) rfl rfl rfl (by decide +kernel) ⟨Nat.le_of_ble_eq_true rfl, Nat.le_of_ble_eq_true rfl⟩) [0, 1, 2, 3, 4, 5, 6, 7, 8, 9, 10, 11, 12, 13, 14, 15, 16, 17, 18, 19, 20, 21, 22, 23, 24, 25, 26, 27, 28, 29, 30] [1, 3, 5, 7, 9, 11, 13, 15, 17, 19, 21, 23, 25, 27, 29, 31, 33, 35, 37, 39, 41, 43, 45, 47, 49, 51, 53, 55, 57, 59, 61, 62] rfl (fun _ => rfl) rfl rfl hl.1 rfl (Nat.le_of_ble_eq_true rfl) dX0_act_58 ⟨(Nat.le_of_ble_eq_true rfl), (Nat.le_of_ble_eq_true rfl)⟩ (fun r_7 u_7 H locs hw_7 hP hD hS => ?_)
          have hw_7 : (eW (wBy mi.toInt 0 99) (eS (decide (jn < 16)) (-6) 0) : Int32) = r_7 := hw_7.symm
          subst hw_7
          have hP : va_P G.1 vwCl (wX G ad ho rn ln dr ro lt (rfU rf (eW (wBy mi.toInt 0 99) (eS (decide (jn < 16)) (-6) 0))) th sb ++ wR G (ad 1) kd r ++ wR G (ad 2) k1 r1 ++ wR G (ad 3) k2 r2 ++ wK (ad 4) ++ [(q9, .inr (11, [e1, e2, e3, .null, .null, .int 0, .int (eW (wBy mi.toInt 0 99) (eS (decide (jn < 16)) (-6) 0))]))]) H := hP
          have hD : va_D A (wX G ad ho rn ln dr ro lt (rfU rf (eW (wBy mi.toInt 0 99) (eS (decide (jn < 16)) (-6) 0))) th sb ++ wR G (ad 1) kd r ++ wR G (ad 2) k1 r1 ++ wR G (ad 3) k2 r2 ++ wK (ad 4) ++ [(q9, .inr (11, [e1, e2, e3, .null, .null, .int 0, .int (eW (wBy mi.toInt 0 99) (eS (decide (jn < 16)) (-6) 0))]))]) := hD
          have hP := x_dropP hP
          have hD := x_dropD hD
          have hP : va_P G.1 vwCl (wX G ad ho (sel (eW (wBy mi.toInt 0 99) (eS (decide (jn < 16)) (-6) 0)) (nI (jn + 1)) rn) ln dr (sel (eW (wBy mi.toInt 0 99) (eS (decide (jn < 16)) (-6) 0)) (upd ro jn mi) ro) lt (sel (eW (wBy mi.toInt 0 99) (eS (decide (jn < 16)) (-6) 0)) rf (rfU rf (eW (wBy mi.toInt 0 99) (eS (decide (jn < 16)) (-6) 0)))) th sb ++ wR G (ad 1) kd r ++ wR G (ad 2) k1 r1 ++ wR G (ad 3) k2 r2 ++ wK (ad 4)) H := by simp only [sel_n hne]; exact hP
          have hD : va_D A (wX G ad ho (sel (eW (wBy mi.toInt 0 99) (eS (decide (jn < 16)) (-6) 0)) (nI (jn + 1)) rn) ln dr (sel (eW (wBy mi.toInt 0 99) (eS (decide (jn < 16)) (-6) 0)) (upd ro jn mi) ro) lt (sel (eW (wBy mi.toInt 0 99) (eS (decide (jn < 16)) (-6) 0)) rf (rfU rf (eW (wBy mi.toInt 0 99) (eS (decide (jn < 16)) (-6) 0)))) th sb ++ wR G (ad 1) kd r ++ wR G (ad 2) k1 r1 ++ wR G (ad 3) k2 r2 ++ wK (ad 4)) := by simp only [sel_n hne]; exact hD
          refine hret _ _ _ _ _ _ (eW (wBy mi.toInt 0 99) (eS (decide (jn < 16)) (-6) 0)) () dX0_act_61 ?_ hP hD hS (Nat.le_of_ble_eq_true rfl) (Nat.le_of_ble_eq_true rfl)
          exact (sel_n hne).symm
      · skip
        obtain ⟨hz_3, hw_3⟩ := hw_3
        have hw_3 : (nI (jn + 1) : Int32) = r_3 := hw_3.symm
        subst hw_3
        have hP : va_P G.1 vwCl (wX G ad ho (nI (jn + 1)) ln dr (upd ro jn mi) lt rf th sb ++ wR G (ad 1) kd r ++ wR G (ad 2) k1 r1 ++ wR G (ad 3) k2 r2 ++ wK (ad 4)) H := hP
        have hD : va_D A (wX G ad ho (nI (jn + 1)) ln dr (upd ro jn mi) lt rf th sb ++ wR G (ad 1) kd r ++ wR G (ad 2) k1 r1 ++ wR G (ad 3) k2 r2 ++ wK (ad 4)) := hD
        refine W.widen (k := 3) (n := 21) (Nat.le_of_ble_eq_true rfl) (Nat.le_of_ble_eq_true rfl) ?_
        have hP : va_P G.1 vwCl (wX G ad ho (sel (eW (wBy mi.toInt 0 99) (eS (decide (jn < 16)) (-6) 0)) (nI (jn + 1)) rn) ln dr (sel (eW (wBy mi.toInt 0 99) (eS (decide (jn < 16)) (-6) 0)) (upd ro jn mi) ro) lt (sel (eW (wBy mi.toInt 0 99) (eS (decide (jn < 16)) (-6) 0)) rf (rfU rf (eW (wBy mi.toInt 0 99) (eS (decide (jn < 16)) (-6) 0)))) th sb ++ wR G (ad 1) kd r ++ wR G (ad 2) k1 r1 ++ wR G (ad 3) k2 r2 ++ wK (ad 4)) H := by simp only [sel_0 hz_3]; exact hP
        have hD : va_D A (wX G ad ho (sel (eW (wBy mi.toInt 0 99) (eS (decide (jn < 16)) (-6) 0)) (nI (jn + 1)) rn) ln dr (sel (eW (wBy mi.toInt 0 99) (eS (decide (jn < 16)) (-6) 0)) (upd ro jn mi) ro) lt (sel (eW (wBy mi.toInt 0 99) (eS (decide (jn < 16)) (-6) 0)) rf (rfU rf (eW (wBy mi.toInt 0 99) (eS (decide (jn < 16)) (-6) 0)))) th sb ++ wR G (ad 1) kd r ++ wR G (ad 2) k1 r1 ++ wR G (ad 3) k2 r2 ++ wK (ad 4)) := by simp only [sel_0 hz_3]; exact hD
        refine hret _ _ _ _ _ _ (nI (jn + 1)) () dX0_act_49 ?_ hP hD hS (Nat.le_of_ble_eq_true rfl) (Nat.le_of_ble_eq_true rfl)
        exact (sel_0 hz_3).symm
    · skip
      exact absurd c_2 (by decide)
  · skip
    exact absurd c_1 (by decide)
set_option maxHeartbeats 4000000 in
set_option maxRecDepth 100000 in
theorem m_act_27 (l : Launch) (hl0 : l.stackTraces = false) (G : xG) (ad : Nat → Nat → Nat) (kd k1 k2 : Nat → Option Nat) (r r1 r2 : Rw) (ho rn ln dr : Int32) (ro lt rf th sb : Nat → Int32) (hr : Ok r) (hp : r 5 3 = 0) (hk : kOk (ad 4) kd r) (z10 z11 z12 z13 z14 : Int32) (jn : Nat) (hjn : rn = nI jn) (hjm : jn ≤ 16) : zCi l G yX0_act (wsW_ yX0_act cX0_act 8 (some .int) [(0, 49, 50, 239)]) ({ frames := 9, cells := 0, slots := 0, locals := 207 } : Room) [.ref (ad 0 0), .int 27, .int z10, .int z11, .int z12, .int z13, .int z14] (wX G ad ho rn ln dr ro lt rf th sb ++ wR G (ad 1) kd r ++ wR G (ad 2) k1 r1 ++ wR G (ad 3) k2 r2 ++ wK (ad 4)) (S := ((Nat → Option Nat) × Rw)) (fun v _ => v = sel ((0 : Int32)) (jdN r ro jn) ((0 : Int32))) (fun u => (wX G ad ho (sel (0 : Int32) 0 rn) ln dr ro lt (sel (0 : Int32) rf (rfU rf (0 : Int32))) th sb ++ wR G (ad 1) kd r ++ wR G (ad 2) u.1 u.2 ++ wR G (ad 3) k2 r2 ++ wK (ad 4))) := by
  refine z_openiW (hh := [(0, 49, 50, 239)]) (by decide) (Nat.le_of_ble_eq_true rfl) (fun _ _ _ => rfl) ?_
  intro p e s m args below meth c A Q ls C0 hK hZ hP hD hA hl htb hret
  obtain ⟨hx, hb, hml, hown, hts⟩ := id C0
  have hS : va_S A s.heap s.heap [] := va_S.rf
  have hP : va_P G.1 vwCl (wX G ad ho rn ln dr ro lt rf th sb ++ wR G (ad 1) kd r ++ wR G (ad 2) k1 r1 ++ wR G (ad 3) k2 r2 ++ wK (ad 4)) s.heap := hP
  have hD : va_D A (wX G ad ho rn ln dr ro lt rf th sb ++ wR G (ad 1) kd r ++ wR G (ad 2) k1 r1 ++ wR G (ad 3) k2 r2 ++ wK (ad 4)) := hD
  have hl : lv_has ls 8 [(0, .ref (ad 0 0)), (1, .int 27), (2, .int z10), (3, .int z11), (4, .int z12), (5, .int z13), (6, .int z14)] := hl
  have hr0 := hr.n
  have hN := hr.le
  refine lv_iload_n hx hb dX0_act_0 rfl (lv_at hl 1 rfl) ?_
  refine lv_bipush (v := 9) hx hb dX0_act_1 (by decide) ?_
  refine lv_icmp_ge (tgt := 18) hx hb dX0_act_3 (by decide) (fun c_1 => ?_) (fun c_1 => ?_)
  · skip
    refine lv_iload_n hx hb dX0_act_18 rfl (lv_at hl 1 rfl) ?_
    refine lv_bipush (v := 18) hx hb dX0_act_19 (by decide) ?_
    refine lv_icmp_ge (tgt := 36) hx hb dX0_act_21 (by decide) (fun c_2 => ?_) (fun c_2 => ?_)
    · skip
      refine lv_aload_n hx hb dX0_act_36 rfl (lv_at hl 0 rfl) ?_
      refine lv_iload_n hx hb dX0_act_37 rfl (lv_at hl 1 rfl) ?_
      refine lv_iload_n hx hb dX0_act_38 rfl (lv_at hl 2 rfl) ?_
      refine lv_iload_n hx hb dX0_act_39 rfl (lv_at hl 3 rfl) ?_
      refine lv_iload hx hb dX0_act_40 (lv_at hl 4 rfl) ?_
      refine lv_iload hx hb dX0_act_42 (lv_at hl 5 rfl) ?_
      refine lv_iload hx hb dX0_act_44 (lv_at hl 6 rfl) ?_
      refine y_Vi (wN := fun u_3 => (wX G ad ho 0 ln dr ro lt rf th sb ++ wR G (ad 1) kd r ++ wR G (ad 2) u_3.1 u_3.2 ++ wR G (ad 3) k2 r2 ++ wK (ad 4))) (wNx := fun u9 => (wX G ad ho rn ln dr ro lt rf th sb ++ wR G (ad 1) kd r ++ wR G (ad 2) k1 r1 ++ wR G (ad 3) k2 r2 ++ wK (ad 4))) ⟨C0, hK, hP, hD, hS, hA⟩ hZ 0 rfl (ci := 0) rfl rfl ((m_rest_27 l hl0 G ad kd k1 k2 r r1 r2 ho rn ln dr ro lt rf th sb hr hp hk z10 z11 z12 z13 z14 jn hjn hjm)) (cwV 6 hts (lw_V q875 q877 qs40 q86 q878) rfl rfl rfl (by decide +kernel) ⟨Nat.le_of_ble_eq_true rfl, Nat.le_of_ble_eq_true rfl⟩) [0, 1, 2, 3, 4, 5, 6, 7, 8, 9, 10, 11, 12, 13, 14, 15, 16, 17, 18, 19, 20, 21, 22, 23, 24, 25, 26, 27, 28, 29, 30] [1, 3, 5, 7, 9, 11, 13, 15, 17, 19, 21, 23, 25, 27, 29, 31, 33, 35, 37, 39, 41, 43, 45, 47, 49, 51, 53, 55, 57, 59, 61] [1, 3, 5, 7, 9, 11, 13, 15, 17, 19, 21, 23, 25, 27, 29, 31, 33, 35, 37, 39, 41, 43, 45, 47, 49, 51, 53, 55, 57, 59, 61, 63] rfl (fun _ => rfl) (fun _ _ _ => rfl) rfl rfl rfl hl.1 rfl (Nat.le_of_ble_eq_true rfl) dX0_act_46 ⟨(Nat.le_of_ble_eq_true rfl), (Nat.le_of_ble_eq_true rfl)⟩ (fun q9 u9 ee H locs hw_3 hP hD hS => ?_) (fun r_3 u_3 H locs hw_3 hP hD hS => ?_)
      · skip
        refine z_catch ⟨0, 49, 50, 239⟩ hown hK htb rfl (by decide) (by decide) (hts _ q273) hP ?_
        have hthr9 : ee.2.1 = (0 : Int32) ∧ (0 : Int32) ≠ 0 := hw_3
        refine lv_astore (lv' := [(7, .ref q9), (0, .ref (ad 0 0)), (1, .int 27), (2, .int z10), (3, .int z11), (4, .int z12), (5, .int z13), (6, .int z14)]) hx hb dX0_act_50 hl (by decide) rfl (fun ls hl => ?_)
        refine lv_aload_n hx hb dX0_act_52 rfl (lv_at hl 1 rfl) ?_
        refine lv_aload hx hb dX0_act_53 (lv_at hl 0 rfl) ?_
        obtain ⟨ek, en, e1, e2, e3⟩ := ee
        cases ek
        · skip
          have hP : va_P G.1 vwCl (wX G ad ho rn ln dr ro lt rf th sb ++ wR G (ad 1) kd r ++ wR G (ad 2) k1 r1 ++ wR G (ad 3) k2 r2 ++ wK (ad 4) ++ [(q9, .inr (9, [e1, e2, e3, .null, .null, .int 0, .int en]))]) H := hP
          have hD : va_D A (wX G ad ho rn ln dr ro lt rf th sb ++ wR G (ad 1) kd r ++ wR G (ad 2) k1 r1 ++ wR G (ad 3) k2 r2 ++ wK (ad 4) ++ [(q9, .inr (9, [e1, e2, e3, .null, .null, .int 0, .int en]))]) := hD
          obtain ⟨een, hne⟩ := hthr9
          have een : en = (0 : Int32) := een
          subst een
          have hP : va_P G.1 vwCl (wX G ad ho rn ln dr ro lt rf th sb ++ wR G (ad 1) kd r ++ wR G (ad 2) k1 r1 ++ wR G (ad 3) k2 r2 ++ wK (ad 4) ++ [(q9, .inr (9, [e1, e2, e3, .null, .null, .int 0, .int (0 : Int32)]))]) H := hP
          have hD : va_D A (wX G ad ho rn ln dr ro lt rf th sb ++ wR G (ad 1) kd r ++ wR G (ad 2) k1 r1 ++ wR G (ad 3) k2 r2 ++ wK (ad 4) ++ [(q9, .inr (9, [e1, e2, e3, .null, .null, .int 0, .int (0 : Int32)]))]) := hD
          refine x_Ui (wN := fun _ => (wX G ad ho rn ln dr ro lt rf th sb ++ wR G (ad 1) kd r ++ wR G (ad 2) k1 r1 ++ wR G (ad 3) k2 r2 ++ wK (ad 4) ++ [(q9, .inr (9, [e1, e2, e3, .null, .null, .int 0, .int (0 : Int32)]))])) ⟨C0, hK, hP, hD, hS, hA⟩ 31 rfl (ci := 9) rfl rfl ((m_X11_number l G q9 e1 e2 e3 (0 : Int32))) (va_cwA (owner := "PulledFromUnder$Refusal") 0 hts (lw_U q990 q992 q996 q997 q100 q998) rfl rfl rfl (hK.2.D 13 rfl) (by decide +kernel) ⟨Nat.le_of_ble_eq_true rfl, Nat.le_of_ble_eq_true rfl⟩) [31] [0, 2, 4, 6, 8, 10, 12, 14, 16, 18, 20, 22, 24, 26, 28, 30, 32, 34, 36, 38, 40, 42, 44, 46, 48, 50, 52, 54, 56, 58, 60, 1] rfl (fun _ => rfl) rfl rfl hl.1 rfl (Nat.le_of_ble_eq_true rfl) dX0_act_55 ⟨(Nat.le_of_ble_eq_true rfl), (Nat.le_of_ble_eq_true rfl)⟩ (fun r_4 u_4 H locs hw_4 hP hD hS => ?_)
          have hw_4 : ((0 : Int32) : Int32) = r_4 := hw_4.symm
          subst hw_4
          refine x_Vi (wN := fun _ => (wX G ad ho rn ln dr ro lt (rfU rf (0 : Int32)) th sb ++ wR G (ad 1) kd r ++ wR G (ad 2) k1 r1 ++ wR G (ad 3) k2 r2 ++ wK (ad 4) ++ [(q9, .inr (9, [e1, e2, e3, .null, .null, .int 0, .int (0 : Int32)]))])) ⟨C0, hK, hP, hD, hS, hA⟩ 0 rfl (ci := 0) rfl rfl ((m_refuse l G ad kd k1 k2 r r1 r2 ho rn ln dr ro lt rf th sb hr hp hk (0 : Int32) rfOk_0)) (cwV 1 hts (lw_V q999 q1001 qs62 q86 q1002) rfl rfl rfl (by decide +kernel) ⟨Nat.le_of_ble_eq_true rfl, Nat.le_of_ble_eq_true rfl⟩) [0, 1, 2, 3, 4, 5, 6, 7, 8, 9, 10, 11, 12, 13, 14, 15, 16, 17, 18, 19, 20, 21, 22, 23, 24, 25, 26, 27, 28, 29, 30] [1, 3, 5, 7, 9, 11, 13, 15, 17, 19, 21, 23, 25, 27, 29, 31, 33, 35, 37, 39, 41, 43, 45, 47, 49, 51, 53, 55, 57, 59, 61, 62] rfl (fun _ => rfl) rfl rfl hl.1 rfl (Nat.le_of_ble_eq_true rfl) dX0_act_58 ⟨(Nat.le_of_ble_eq_true rfl), (Nat.le_of_ble_eq_true rfl)⟩ (fun r_5 u_5 H locs hw_5 hP hD hS => ?_)
          have hw_5 : ((0 : Int32) : Int32) = r_5 := hw_5.symm
          subst hw_5
          have hP : va_P G.1 vwCl (wX G ad ho rn ln dr ro lt (rfU rf (0 : Int32)) th sb ++ wR G (ad 1) kd r ++ wR G (ad 2) k1 r1 ++ wR G (ad 3) k2 r2 ++ wK (ad 4) ++ [(q9, .inr (9, [e1, e2, e3, .null, .null, .int 0, .int (0 : Int32)]))]) H := hP
          have hD : va_D A (wX G ad ho rn ln dr ro lt (rfU rf (0 : Int32)) th sb ++ wR G (ad 1) kd r ++ wR G (ad 2) k1 r1 ++ wR G (ad 3) k2 r2 ++ wK (ad 4) ++ [(q9, .inr (9, [e1, e2, e3, .null, .null, .int 0, .int (0 : Int32)]))]) := hD
          have hP := x_dropP hP
          have hD := x_dropD hD
          have hP : va_P G.1 vwCl (wX G ad ho (sel (0 : Int32) 0 rn) ln dr ro lt (sel (0 : Int32) rf (rfU rf (0 : Int32))) th sb ++ wR G (ad 1) kd r ++ wR G (ad 2) ((k1, r1).1) ((k1, r1).2) ++ wR G (ad 3) k2 r2 ++ wK (ad 4)) H := by simp only [sel_n hne]; exact hP
          have hD : va_D A (wX G ad ho (sel (0 : Int32) 0 rn) ln dr ro lt (sel (0 : Int32) rf (rfU rf (0 : Int32))) th sb ++ wR G (ad 1) kd r ++ wR G (ad 2) ((k1, r1).1) ((k1, r1).2) ++ wR G (ad 3) k2 r2 ++ wK (ad 4)) := by simp only [sel_n hne]; exact hD
          refine hret _ _ _ _ _ _ (0 : Int32) (k1, r1) dX0_act_61 ?_ hP hD hS (Nat.le_of_ble_eq_true rfl) (Nat.le_of_ble_eq_true rfl)
          exact (sel_n hne).symm
        · skip
          have hP : va_P G.1 vwCl (wX G ad ho rn ln dr ro lt rf th sb ++ wR G (ad 1) kd r ++ wR G (ad 2) k1 r1 ++ wR G (ad 3) k2 r2 ++ wK (ad 4) ++ [(q9, .inr (11, [e1, e2, e3, .null, .null, .int 0, .int en]))]) H := hP
          have hD : va_D A (wX G ad ho rn ln dr ro lt rf th sb ++ wR G (ad 1) kd r ++ wR G (ad 2) k1 r1 ++ wR G (ad 3) k2 r2 ++ wK (ad 4) ++ [(q9, .inr (11, [e1, e2, e3, .null, .null, .int 0, .int en]))]) := hD
          obtain ⟨een, hne⟩ := hthr9
          have een : en = (0 : Int32) := een
          subst een
          have hP : va_P G.1 vwCl (wX G ad ho rn ln dr ro lt rf th sb ++ wR G (ad 1) kd r ++ wR G (ad 2) k1 r1 ++ wR G (ad 3) k2 r2 ++ wK (ad 4) ++ [(q9, .inr (11, [e1, e2, e3, .null, .null, .int 0, .int (0 : Int32)]))]) H := hP
          have hD : va_D A (wX G ad ho rn ln dr ro lt rf th sb ++ wR G (ad 1) kd r ++ wR G (ad 2) k1 r1 ++ wR G (ad 3) k2 r2 ++ wK (ad 4) ++ [(q9, .inr (11, [e1, e2, e3, .null, .null, .int 0, .int (0 : Int32)]))]) := hD
          refine x_Ui (wN := fun _ => (wX G ad ho rn ln dr ro lt rf th sb ++ wR G (ad 1) kd r ++ wR G (ad 2) k1 r1 ++ wR G (ad 3) k2 r2 ++ wK (ad 4) ++ [(q9, .inr (11, [e1, e2, e3, .null, .null, .int 0, .int (0 : Int32)]))])) ⟨C0, hK, hP, hD, hS, hA⟩ 31 rfl (ci := 11) rfl rfl ((m_X13_number l G q9 e1 e2 e3 (0 : Int32))) (va_cwA (owner := "PulledFromUnder$Refusal") 0 hts (lw_U q990 q992 q993 q994 q102 q995) rfl rfl rfl (hK.2.D 13 rfl) (by decide +kernel) ⟨Nat.le_of_ble_eq_true rfl, Nat.le_of_ble_eq_true rfl⟩) [31] [0, 2, 4, 6, 8, 10, 12, 14, 16, 18, 20, 22, 24, 26, 28, 30, 32, 34, 36, 38, 40, 42, 44, 46, 48, 50, 52, 54, 56, 58, 60, 1] rfl (fun _ => rfl) rfl rfl hl.1 rfl (Nat.le_of_ble_eq_true rfl) dX0_act_55 ⟨(Nat.le_of_ble_eq_true rfl), (Nat.le_of_ble_eq_true rfl)⟩ (fun r_6 u_6 H locs hw_6 hP hD hS => ?_)
          have hw_6 : ((0 : Int32) : Int32) = r_6 := hw_6.symm
          subst hw_6
          refine x_Vi (wN := fun _ => (wX G ad ho rn ln dr ro lt (rfU rf (0 : Int32)) th sb ++ wR G (ad 1) kd r ++ wR G (ad 2) k1 r1 ++ wR G (ad 3) k2 r2 ++ wK (ad 4) ++ [(q9, .inr (11, [e1, e2, e3, .null, .null, .int 0, .int (0 : Int32)]))])) ⟨C0, hK, hP, hD, hS, hA⟩ 0 rfl (ci := 0) rfl rfl ((m_refuse l G ad kd k1 k2 r r1 r2 ho rn ln dr ro lt rf th sb hr hp hk (0 : Int32) rfOk_0)) (cwV 1 hts (lw_V q999 q1001 qs62 q86 q1002) rfl rfl rfl (by decide +kernel) ⟨Nat.le_of_ble_eq_true rfl, Nat.le_of_ble_eq_true rfl⟩) [0, 1, 2, 3, 4, 5, 6, 7, 8, 9, 10, 11, 12, 13, 14, 15, 16, 17, 18, 19, 20, 21, 22, 23, 24, 25, 26, 27, 28, 29, 30] [1, 3, 5, 7, 9, 11, 13, 15, 17, 19, 21, 23, 25, 27, 29, 31, 33, 35, 37, 39, 41, 43, 45, 47, 49, 51, 53, 55, 57, 59, 61, 62] rfl (fun _ => rfl) rfl rfl hl.1 rfl (Nat.le_of_ble_eq_true rfl) dX0_act_58 ⟨(Nat.le_of_ble_eq_true rfl), (Nat.le_of_ble_eq_true rfl)⟩ (fun r_7 u_7 H locs hw_7 hP hD hS => ?_)
          have hw_7 : ((0 : Int32) : Int32) = r_7 := hw_7.symm
          subst hw_7
          have hP : va_P G.1 vwCl (wX G ad ho rn ln dr ro lt (rfU rf (0 : Int32)) th sb ++ wR G (ad 1) kd r ++ wR G (ad 2) k1 r1 ++ wR G (ad 3) k2 r2 ++ wK (ad 4) ++ [(q9, .inr (11, [e1, e2, e3, .null, .null, .int 0, .int (0 : Int32)]))]) H := hP
          have hD : va_D A (wX G ad ho rn ln dr ro lt (rfU rf (0 : Int32)) th sb ++ wR G (ad 1) kd r ++ wR G (ad 2) k1 r1 ++ wR G (ad 3) k2 r2 ++ wK (ad 4) ++ [(q9, .inr (11, [e1, e2, e3, .null, .null, .int 0, .int (0 : Int32)]))]) := hD
          have hP := x_dropP hP
          have hD := x_dropD hD
          have hP : va_P G.1 vwCl (wX G ad ho (sel (0 : Int32) 0 rn) ln dr ro lt (sel (0 : Int32) rf (rfU rf (0 : Int32))) th sb ++ wR G (ad 1) kd r ++ wR G (ad 2) ((k1, r1).1) ((k1, r1).2) ++ wR G (ad 3) k2 r2 ++ wK (ad 4)) H := by simp only [sel_n hne]; exact hP
          have hD : va_D A (wX G ad ho (sel (0 : Int32) 0 rn) ln dr ro lt (sel (0 : Int32) rf (rfU rf (0 : Int32))) th sb ++ wR G (ad 1) kd r ++ wR G (ad 2) ((k1, r1).1) ((k1, r1).2) ++ wR G (ad 3) k2 r2 ++ wK (ad 4)) := by simp only [sel_n hne]; exact hD
          refine hret _ _ _ _ _ _ (0 : Int32) (k1, r1) dX0_act_61 ?_ hP hD hS (Nat.le_of_ble_eq_true rfl) (Nat.le_of_ble_eq_true rfl)
          exact (sel_n hne).symm
      · skip
        obtain ⟨hz_3, hw_3⟩ := hw_3
        have hw_3 : (jdN r ro jn : Int32) = r_3 := hw_3.symm
        subst hw_3
        have hP : va_P G.1 vwCl (wX G ad ho 0 ln dr ro lt rf th sb ++ wR G (ad 1) kd r ++ wR G (ad 2) u_3.1 u_3.2 ++ wR G (ad 3) k2 r2 ++ wK (ad 4)) H := hP
        have hD : va_D A (wX G ad ho 0 ln dr ro lt rf th sb ++ wR G (ad 1) kd r ++ wR G (ad 2) u_3.1 u_3.2 ++ wR G (ad 3) k2 r2 ++ wK (ad 4)) := hD
        have hP : va_P G.1 vwCl (wX G ad ho (sel (0 : Int32) 0 rn) ln dr ro lt (sel (0 : Int32) rf (rfU rf (0 : Int32))) th sb ++ wR G (ad 1) kd r ++ wR G (ad 2) u_3.1 u_3.2 ++ wR G (ad 3) k2 r2 ++ wK (ad 4)) H := by simp only [sel_0 hz_3]; exact hP
        have hD : va_D A (wX G ad ho (sel (0 : Int32) 0 rn) ln dr ro lt (sel (0 : Int32) rf (rfU rf (0 : Int32))) th sb ++ wR G (ad 1) kd r ++ wR G (ad 2) u_3.1 u_3.2 ++ wR G (ad 3) k2 r2 ++ wK (ad 4)) := by simp only [sel_0 hz_3]; exact hD
        refine hret _ _ _ _ _ _ (jdN r ro jn) u_3 dX0_act_49 ?_ hP hD hS (Nat.le_of_ble_eq_true rfl) (Nat.le_of_ble_eq_true rfl)
        exact (sel_0 hz_3).symm
    · skip
      exact absurd c_2 (by decide)
  · skip
    exact absurd c_1 (by decide)
set_option maxHeartbeats 4000000 in
set_option maxRecDepth 100000 in
theorem m_act_28 (l : Launch) (hl0 : l.stackTraces = false) (G : xG) (ad : Nat → Nat → Nat) (kd k1 k2 : Nat → Option Nat) (r r1 r2 : Rw) (ho rn ln dr : Int32) (ro lt rf th sb : Nat → Int32) (hr : Ok r) (hp : r 5 3 = 0) (hk : kOk (ad 4) kd r) (z10 z11 z12 z13 z14 : Int32) : zCi l G yX0_act (wsW_ yX0_act cX0_act 8 (some .int) [(0, 49, 50, 239)]) ({ frames := 2, cells := 0, slots := 0, locals := 51 } : Room) [.ref (ad 0 0), .int 28, .int z10, .int z11, .int z12, .int z13, .int z14] (wX G ad ho rn ln dr ro lt rf th sb ++ wR G (ad 1) kd r ++ wR G (ad 2) k1 r1 ++ wR G (ad 3) k2 r2 ++ wK (ad 4)) (S := Unit) (fun v _ => v = sel ((0 : Int32)) (rn) ((0 : Int32))) (fun _ => (wX G ad ho (sel (0 : Int32) 0 rn) ln dr ro lt (sel (0 : Int32) rf (rfU rf (0 : Int32))) th sb ++ wR G (ad 1) kd r ++ wR G (ad 2) k1 r1 ++ wR G (ad 3) k2 r2 ++ wK (ad 4))) := by
  refine z_openiW (hh := [(0, 49, 50, 239)]) (by decide) (Nat.le_of_ble_eq_true rfl) (fun _ _ _ => rfl) ?_
  intro p e s m args below meth c A Q ls C0 hK hZ hP hD hA hl htb hret
  obtain ⟨hx, hb, hml, hown, hts⟩ := id C0
  have hS : va_S A s.heap s.heap [] := va_S.rf
  have hP : va_P G.1 vwCl (wX G ad ho rn ln dr ro lt rf th sb ++ wR G (ad 1) kd r ++ wR G (ad 2) k1 r1 ++ wR G (ad 3) k2 r2 ++ wK (ad 4)) s.heap := hP
  have hD : va_D A (wX G ad ho rn ln dr ro lt rf th sb ++ wR G (ad 1) kd r ++ wR G (ad 2) k1 r1 ++ wR G (ad 3) k2 r2 ++ wK (ad 4)) := hD
  have hl : lv_has ls 8 [(0, .ref (ad 0 0)), (1, .int 28), (2, .int z10), (3, .int z11), (4, .int z12), (5, .int z13), (6, .int z14)] := hl
  have hr0 := hr.n
  have hN := hr.le
  refine lv_iload_n hx hb dX0_act_0 rfl (lv_at hl 1 rfl) ?_
  refine lv_bipush (v := 9) hx hb dX0_act_1 (by decide) ?_
  refine lv_icmp_ge (tgt := 18) hx hb dX0_act_3 (by decide) (fun c_1 => ?_) (fun c_1 => ?_)
  · skip
    refine lv_iload_n hx hb dX0_act_18 rfl (lv_at hl 1 rfl) ?_
    refine lv_bipush (v := 18) hx hb dX0_act_19 (by decide) ?_
    refine lv_icmp_ge (tgt := 36) hx hb dX0_act_21 (by decide) (fun c_2 => ?_) (fun c_2 => ?_)
    · skip
      refine lv_aload_n hx hb dX0_act_36 rfl (lv_at hl 0 rfl) ?_
      refine lv_iload_n hx hb dX0_act_37 rfl (lv_at hl 1 rfl) ?_
      refine lv_iload_n hx hb dX0_act_38 rfl (lv_at hl 2 rfl) ?_
      refine lv_iload_n hx hb dX0_act_39 rfl (lv_at hl 3 rfl) ?_
      refine lv_iload hx hb dX0_act_40 (lv_at hl 4 rfl) ?_
      refine lv_iload hx hb dX0_act_42 (lv_at hl 5 rfl) ?_
      refine lv_iload hx hb dX0_act_44 (lv_at hl 6 rfl) ?_
      refine y_Vi (wN := fun u_3 => (wX G ad ho 0 ln dr ro lt rf th sb ++ wR G (ad 1) kd r ++ wR G (ad 2) k1 r1 ++ wR G (ad 3) k2 r2 ++ wK (ad 4))) (wNx := fun u9 => (wX G ad ho rn ln dr ro lt rf th sb ++ wR G (ad 1) kd r ++ wR G (ad 2) k1 r1 ++ wR G (ad 3) k2 r2 ++ wK (ad 4))) ⟨C0, hK, hP, hD, hS, hA⟩ hZ 0 rfl (ci := 0) rfl rfl ((m_rest_28 l hl0 G ad kd k1 k2 r r1 r2 ho rn ln dr ro lt rf th sb hr hp hk z10 z11 z12 z13 z14)) (cwV 6 hts (lw_V q875 q877 qs40 q86 q878) rfl rfl rfl (by decide +kernel) ⟨Nat.le_of_ble_eq_true rfl, Nat.le_of_ble_eq_true rfl⟩) [0, 1, 2, 3, 4, 5, 6, 7, 8, 9, 10, 11, 12, 13, 14, 15, 16, 17, 18, 19, 20, 21, 22, 23, 24, 25, 26, 27, 28, 29, 30] [1, 3, 5, 7, 9, 11, 13, 15, 17, 19, 21, 23, 25, 27, 29, 31, 33, 35, 37, 39, 41, 43, 45, 47, 49, 51, 53, 55, 57, 59, 61] [1, 3, 5, 7, 9, 11, 13, 15, 17, 19, 21, 23, 25, 27, 29, 31, 33, 35, 37, 39, 41, 43, 45, 47, 49, 51, 53, 55, 57, 59, 61, 63] rfl (fun _ => rfl) (fun _ _ _ => rfl) rfl rfl rfl hl.1 rfl (Nat.le_of_ble_eq_true rfl) dX0_act_46 ⟨(Nat.le_of_ble_eq_true rfl), (Nat.le_of_ble_eq_true rfl)⟩ (fun q9 u9 ee H locs hw_3 hP hD hS => ?_) (fun r_3 u_3 H locs hw_3 hP hD hS => ?_)
      · skip
        refine z_catch ⟨0, 49, 50, 239⟩ hown hK htb rfl (by decide) (by decide) (hts _ q273) hP ?_
        have hthr9 : ee.2.1 = (0 : Int32) ∧ (0 : Int32) ≠ 0 := hw_3
        refine lv_astore (lv' := [(7, .ref q9), (0, .ref (ad 0 0)), (1, .int 28), (2, .int z10), (3, .int z11), (4, .int z12), (5, .int z13), (6, .int z14)]) hx hb dX0_act_50 hl (by decide) rfl (fun ls hl => ?_)
        refine lv_aload_n hx hb dX0_act_52 rfl (lv_at hl 1 rfl) ?_
        refine lv_aload hx hb dX0_act_53 (lv_at hl 0 rfl) ?_
        obtain ⟨ek, en, e1, e2, e3⟩ := ee
        cases ek
        · skip
          have hP : va_P G.1 vwCl (wX G ad ho rn ln dr ro lt rf th sb ++ wR G (ad 1) kd r ++ wR G (ad 2) k1 r1 ++ wR G (ad 3) k2 r2 ++ wK (ad 4) ++ [(q9, .inr (9, [e1, e2, e3, .null, .null, .int 0, .int en]))]) H := hP
          have hD : va_D A (wX G ad ho rn ln dr ro lt rf th sb ++ wR G (ad 1) kd r ++ wR G (ad 2) k1 r1 ++ wR G (ad 3) k2 r2 ++ wK (ad 4) ++ [(q9, .inr (9, [e1, e2, e3, .null, .null, .int 0, .int en]))]) := hD
          obtain ⟨een, hne⟩ := hthr9
          have een : en = (0 : Int32) := een
          subst een
          have hP : va_P G.1 vwCl (wX G ad ho rn ln dr ro lt rf th sb ++ wR G (ad 1) kd r ++ wR G (ad 2) k1 r1 ++ wR G (ad 3) k2 r2 ++ wK (ad 4) ++ [(q9, .inr (9, [e1, e2, e3, .null, .null, .int 0, .int (0 : Int32)]))]) H := hP
          have hD : va_D A (wX G ad ho rn ln dr ro lt rf th sb ++ wR G (ad 1) kd r ++ wR G (ad 2) k1 r1 ++ wR G (ad 3) k2 r2 ++ wK (ad 4) ++ [(q9, .inr (9, [e1, e2, e3, .null, .null, .int 0, .int (0 : Int32)]))]) := hD
          refine x_Ui (wN := fun _ => (wX G ad ho rn ln dr ro lt rf th sb ++ wR G (ad 1) kd r ++ wR G (ad 2) k1 r1 ++ wR G (ad 3) k2 r2 ++ wK (ad 4) ++ [(q9, .inr (9, [e1, e2, e3, .null, .null, .int 0, .int (0 : Int32)]))])) ⟨C0, hK, hP, hD, hS, hA⟩ 31 rfl (ci := 9) rfl rfl ((m_X11_number l G q9 e1 e2 e3 (0 : Int32))) (va_cwA (owner := "PulledFromUnder$Refusal") 0 hts (lw_U q990 q992 q996 q997 q100 q998) rfl rfl rfl (hK.2.D 13 rfl) (by decide +kernel) ⟨Nat.le_of_ble_eq_true rfl, Nat.le_of_ble_eq_true rfl⟩) [31] [0, 2, 4, 6, 8, 10, 12, 14, 16, 18, 20, 22, 24, 26, 28, 30, 32, 34, 36, 38, 40, 42, 44, 46, 48, 50, 52, 54, 56, 58, 60, 1] rfl (fun _ => rfl) rfl rfl hl.1 rfl (Nat.le_of_ble_eq_true rfl) dX0_act_55 ⟨(Nat.le_of_ble_eq_true rfl), (Nat.le_of_ble_eq_true rfl)⟩ (fun r_4 u_4 H locs hw_4 hP hD hS => ?_)
          have hw_4 : ((0 : Int32) : Int32) = r_4 := hw_4.symm
          subst hw_4
          refine x_Vi (wN := fun _ => (wX G ad ho rn ln dr ro lt (rfU rf (0 : Int32)) th sb ++ wR G (ad 1) kd r ++ wR G (ad 2) k1 r1 ++ wR G (ad 3) k2 r2 ++ wK (ad 4) ++ [(q9, .inr (9, [e1, e2, e3, .null, .null, .int 0, .int (0 : Int32)]))])) ⟨C0, hK, hP, hD, hS, hA⟩ 0 rfl (ci := 0) rfl rfl ((m_refuse l G ad kd k1 k2 r r1 r2 ho rn ln dr ro lt rf th sb hr hp hk (0 : Int32) rfOk_0)) (cwV 1 hts (lw_V q999 q1001 qs62 q86 q1002) rfl rfl rfl (by decide +kernel) ⟨Nat.le_of_ble_eq_true rfl, Nat.le_of_ble_eq_true rfl⟩) [0, 1, 2, 3, 4, 5, 6, 7, 8, 9, 10, 11, 12, 13, 14, 15, 16, 17, 18, 19, 20, 21, 22, 23, 24, 25, 26, 27, 28, 29, 30] [1, 3, 5, 7, 9, 11, 13, 15, 17, 19, 21, 23, 25, 27, 29, 31, 33, 35, 37, 39, 41, 43, 45, 47, 49, 51, 53, 55, 57, 59, 61, 62] rfl (fun _ => rfl) rfl rfl hl.1 rfl (Nat.le_of_ble_eq_true rfl) dX0_act_58 ⟨(Nat.le_of_ble_eq_true rfl), (Nat.le_of_ble_eq_true rfl)⟩ (fun r_5 u_5 H locs hw_5 hP hD hS => ?_)
          have hw_5 : ((0 : Int32) : Int32) = r_5 := hw_5.symm
          subst hw_5
          have hP : va_P G.1 vwCl (wX G ad ho rn ln dr ro lt (rfU rf (0 : Int32)) th sb ++ wR G (ad 1) kd r ++ wR G (ad 2) k1 r1 ++ wR G (ad 3) k2 r2 ++ wK (ad 4) ++ [(q9, .inr (9, [e1, e2, e3, .null, .null, .int 0, .int (0 : Int32)]))]) H := hP
          have hD : va_D A (wX G ad ho rn ln dr ro lt (rfU rf (0 : Int32)) th sb ++ wR G (ad 1) kd r ++ wR G (ad 2) k1 r1 ++ wR G (ad 3) k2 r2 ++ wK (ad 4) ++ [(q9, .inr (9, [e1, e2, e3, .null, .null, .int 0, .int (0 : Int32)]))]) := hD
          have hP := x_dropP hP
          have hD := x_dropD hD
          have hP : va_P G.1 vwCl (wX G ad ho (sel (0 : Int32) 0 rn) ln dr ro lt (sel (0 : Int32) rf (rfU rf (0 : Int32))) th sb ++ wR G (ad 1) kd r ++ wR G (ad 2) k1 r1 ++ wR G (ad 3) k2 r2 ++ wK (ad 4)) H := by simp only [sel_n hne]; exact hP
          have hD : va_D A (wX G ad ho (sel (0 : Int32) 0 rn) ln dr ro lt (sel (0 : Int32) rf (rfU rf (0 : Int32))) th sb ++ wR G (ad 1) kd r ++ wR G (ad 2) k1 r1 ++ wR G (ad 3) k2 r2 ++ wK (ad 4)) := by simp only [sel_n hne]; exact hD
          refine hret _ _ _ _ _ _ (0 : Int32) () dX0_act_61 ?_ hP hD hS (Nat.le_of_ble_eq_true rfl) (Nat.le_of_ble_eq_true rfl)
          exact (sel_n hne).symm
        · skip
          have hP : va_P G.1 vwCl (wX G ad ho rn ln dr ro lt rf th sb ++ wR G (ad 1) kd r ++ wR G (ad 2) k1 r1 ++ wR G (ad 3) k2 r2 ++ wK (ad 4) ++ [(q9, .inr (11, [e1, e2, e3, .null, .null, .int 0, .int en]))]) H := hP
          have hD : va_D A (wX G ad ho rn ln dr ro lt rf th sb ++ wR G (ad 1) kd r ++ wR G (ad 2) k1 r1 ++ wR G (ad 3) k2 r2 ++ wK (ad 4) ++ [(q9, .inr (11, [e1, e2, e3, .null, .null, .int 0, .int en]))]) := hD
          obtain ⟨een, hne⟩ := hthr9
          have een : en = (0 : Int32) := een
          subst een
          have hP : va_P G.1 vwCl (wX G ad ho rn ln dr ro lt rf th sb ++ wR G (ad 1) kd r ++ wR G (ad 2) k1 r1 ++ wR G (ad 3) k2 r2 ++ wK (ad 4) ++ [(q9, .inr (11, [e1, e2, e3, .null, .null, .int 0, .int (0 : Int32)]))]) H := hP
          have hD : va_D A (wX G ad ho rn ln dr ro lt rf th sb ++ wR G (ad 1) kd r ++ wR G (ad 2) k1 r1 ++ wR G (ad 3) k2 r2 ++ wK (ad 4) ++ [(q9, .inr (11, [e1, e2, e3, .null, .null, .int 0, .int (0 : Int32)]))]) := hD
          refine x_Ui (wN := fun _ => (wX G ad ho rn ln dr ro lt rf th sb ++ wR G (ad 1) kd r ++ wR G (ad 2) k1 r1 ++ wR G (ad 3) k2 r2 ++ wK (ad 4) ++ [(q9, .inr (11, [e1, e2, e3, .null, .null, .int 0, .int (0 : Int32)]))])) ⟨C0, hK, hP, hD, hS, hA⟩ 31 rfl (ci := 11) rfl rfl ((m_X13_number l G q9 e1 e2 e3 (0 : Int32))) (va_cwA (owner := "PulledFromUnder$Refusal") 0 hts (lw_U q990 q992 q993 q994 q102 q995) rfl rfl rfl (hK.2.D 13 rfl) (by decide +kernel) ⟨Nat.le_of_ble_eq_true rfl, Nat.le_of_ble_eq_true rfl⟩) [31] [0, 2, 4, 6, 8, 10, 12, 14, 16, 18, 20, 22, 24, 26, 28, 30, 32, 34, 36, 38, 40, 42, 44, 46, 48, 50, 52, 54, 56, 58, 60, 1] rfl (fun _ => rfl) rfl rfl hl.1 rfl (Nat.le_of_ble_eq_true rfl) dX0_act_55 ⟨(Nat.le_of_ble_eq_true rfl), (Nat.le_of_ble_eq_true rfl)⟩ (fun r_6 u_6 H locs hw_6 hP hD hS => ?_)
          have hw_6 : ((0 : Int32) : Int32) = r_6 := hw_6.symm
          subst hw_6
          refine x_Vi (wN := fun _ => (wX G ad ho rn ln dr ro lt (rfU rf (0 : Int32)) th sb ++ wR G (ad 1) kd r ++ wR G (ad 2) k1 r1 ++ wR G (ad 3) k2 r2 ++ wK (ad 4) ++ [(q9, .inr (11, [e1, e2, e3, .null, .null, .int 0, .int (0 : Int32)]))])) ⟨C0, hK, hP, hD, hS, hA⟩ 0 rfl (ci := 0) rfl rfl ((m_refuse l G ad kd k1 k2 r r1 r2 ho rn ln dr ro lt rf th sb hr hp hk (0 : Int32) rfOk_0)) (cwV 1 hts (lw_V q999 q1001 qs62 q86 q1002) rfl rfl rfl (by decide +kernel) ⟨Nat.le_of_ble_eq_true rfl, Nat.le_of_ble_eq_true rfl⟩) [0, 1, 2, 3, 4, 5, 6, 7, 8, 9, 10, 11, 12, 13, 14, 15, 16, 17, 18, 19, 20, 21, 22, 23, 24, 25, 26, 27, 28, 29, 30] [1, 3, 5, 7, 9, 11, 13, 15, 17, 19, 21, 23, 25, 27, 29, 31, 33, 35, 37, 39, 41, 43, 45, 47, 49, 51, 53, 55, 57, 59, 61, 62] rfl (fun _ => rfl) rfl rfl hl.1 rfl (Nat.le_of_ble_eq_true rfl) dX0_act_58 ⟨(Nat.le_of_ble_eq_true rfl), (Nat.le_of_ble_eq_true rfl)⟩ (fun r_7 u_7 H locs hw_7 hP hD hS => ?_)
          have hw_7 : ((0 : Int32) : Int32) = r_7 := hw_7.symm
          subst hw_7
          have hP : va_P G.1 vwCl (wX G ad ho rn ln dr ro lt (rfU rf (0 : Int32)) th sb ++ wR G (ad 1) kd r ++ wR G (ad 2) k1 r1 ++ wR G (ad 3) k2 r2 ++ wK (ad 4) ++ [(q9, .inr (11, [e1, e2, e3, .null, .null, .int 0, .int (0 : Int32)]))]) H := hP
          have hD : va_D A (wX G ad ho rn ln dr ro lt (rfU rf (0 : Int32)) th sb ++ wR G (ad 1) kd r ++ wR G (ad 2) k1 r1 ++ wR G (ad 3) k2 r2 ++ wK (ad 4) ++ [(q9, .inr (11, [e1, e2, e3, .null, .null, .int 0, .int (0 : Int32)]))]) := hD
          have hP := x_dropP hP
          have hD := x_dropD hD
          have hP : va_P G.1 vwCl (wX G ad ho (sel (0 : Int32) 0 rn) ln dr ro lt (sel (0 : Int32) rf (rfU rf (0 : Int32))) th sb ++ wR G (ad 1) kd r ++ wR G (ad 2) k1 r1 ++ wR G (ad 3) k2 r2 ++ wK (ad 4)) H := by simp only [sel_n hne]; exact hP
          have hD : va_D A (wX G ad ho (sel (0 : Int32) 0 rn) ln dr ro lt (sel (0 : Int32) rf (rfU rf (0 : Int32))) th sb ++ wR G (ad 1) kd r ++ wR G (ad 2) k1 r1 ++ wR G (ad 3) k2 r2 ++ wK (ad 4)) := by simp only [sel_n hne]; exact hD
          refine hret _ _ _ _ _ _ (0 : Int32) () dX0_act_61 ?_ hP hD hS (Nat.le_of_ble_eq_true rfl) (Nat.le_of_ble_eq_true rfl)
          exact (sel_n hne).symm
      · skip
        obtain ⟨hz_3, hw_3⟩ := hw_3
        have hw_3 : (rn : Int32) = r_3 := hw_3.symm
        subst hw_3
        have hP : va_P G.1 vwCl (wX G ad ho 0 ln dr ro lt rf th sb ++ wR G (ad 1) kd r ++ wR G (ad 2) k1 r1 ++ wR G (ad 3) k2 r2 ++ wK (ad 4)) H := hP
        have hD : va_D A (wX G ad ho 0 ln dr ro lt rf th sb ++ wR G (ad 1) kd r ++ wR G (ad 2) k1 r1 ++ wR G (ad 3) k2 r2 ++ wK (ad 4)) := hD
        have hP : va_P G.1 vwCl (wX G ad ho (sel (0 : Int32) 0 rn) ln dr ro lt (sel (0 : Int32) rf (rfU rf (0 : Int32))) th sb ++ wR G (ad 1) kd r ++ wR G (ad 2) k1 r1 ++ wR G (ad 3) k2 r2 ++ wK (ad 4)) H := by simp only [sel_0 hz_3]; exact hP
        have hD : va_D A (wX G ad ho (sel (0 : Int32) 0 rn) ln dr ro lt (sel (0 : Int32) rf (rfU rf (0 : Int32))) th sb ++ wR G (ad 1) kd r ++ wR G (ad 2) k1 r1 ++ wR G (ad 3) k2 r2 ++ wK (ad 4)) := by simp only [sel_0 hz_3]; exact hD
        refine hret _ _ _ _ _ _ rn () dX0_act_49 ?_ hP hD hS (Nat.le_of_ble_eq_true rfl) (Nat.le_of_ble_eq_true rfl)
        exact (sel_0 hz_3).symm
    · skip
      exact absurd c_2 (by decide)
  · skip
    exact absurd c_1 (by decide)
set_option maxHeartbeats 4000000 in
set_option maxRecDepth 100000 in
theorem m_act_29 (l : Launch) (hl0 : l.stackTraces = false) (G : xG) (ad : Nat → Nat → Nat) (kd k1 k2 : Nat → Option Nat) (r r1 r2 : Rw) (ho rn ln dr : Int32) (ro lt rf th sb : Nat → Int32) (hr : Ok r) (hp : r 5 3 = 0) (hk : kOk (ad 4) kd r) (cnt z w z10 z11 : Int32) : zCi l G yX0_act (wsW_ yX0_act cX0_act 8 (some .int) [(0, 49, 50, 239)]) ({ frames := 12, cells := 4, slots := 28, locals := 233 } : Room) [.ref (ad 0 0), .int 29, .int cnt, .int z, .int w, .int z10, .int z11] (wX G ad ho rn ln dr ro lt rf th sb ++ wR G (ad 1) kd r ++ wR G (ad 2) k1 r1 ++ wR G (ad 3) k2 r2 ++ wK (ad 4)) (S := (((Nat → Option Nat) × Rw) × Int32)) (fun v _ => v = sel (eW (wBy cnt.toInt 1 20) (eS (inR w 0 1) (-2) (eS (decide (0 < nI (mny r))) (-3) 0))) ((lSum r w z (ix cnt)).2) (eW (wBy cnt.toInt 1 20) (eS (inR w 0 1) (-2) (eS (decide (0 < nI (mny r))) (-3) 0)))) (fun u => (wX G ad ho rn ln u.2 ro lt (sel (eW (wBy cnt.toInt 1 20) (eS (inR w 0 1) (-2) (eS (decide (0 < nI (mny r))) (-3) 0))) rf (rfU rf (eW (wBy cnt.toInt 1 20) (eS (inR w 0 1) (-2) (eS (decide (0 < nI (mny r))) (-3) 0))))) th sb ++ wR G (ad 1) kd r ++ wR G (ad 2) u.1.1 u.1.2 ++ wR G (ad 3) k2 r2 ++ wK (ad 4))) := by
  refine z_openiW (hh := [(0, 49, 50, 239)]) (by decide) (Nat.le_of_ble_eq_true rfl) (fun _ _ _ => rfl) ?_
  intro p e s m args below meth c A Q ls C0 hK hZ hP hD hA hl htb hret
  obtain ⟨hx, hb, hml, hown, hts⟩ := id C0
  have hS : va_S A s.heap s.heap [] := va_S.rf
  have hP : va_P G.1 vwCl (wX G ad ho rn ln dr ro lt rf th sb ++ wR G (ad 1) kd r ++ wR G (ad 2) k1 r1 ++ wR G (ad 3) k2 r2 ++ wK (ad 4)) s.heap := hP
  have hD : va_D A (wX G ad ho rn ln dr ro lt rf th sb ++ wR G (ad 1) kd r ++ wR G (ad 2) k1 r1 ++ wR G (ad 3) k2 r2 ++ wK (ad 4)) := hD
  have hl : lv_has ls 8 [(0, .ref (ad 0 0)), (1, .int 29), (2, .int cnt), (3, .int z), (4, .int w), (5, .int z10), (6, .int z11)] := hl
  have hr0 := hr.n
  have hN := hr.le
  refine lv_iload_n hx hb dX0_act_0 rfl (lv_at hl 1 rfl) ?_
  refine lv_bipush (v := 9) hx hb dX0_act_1 (by decide) ?_
  refine lv_icmp_ge (tgt := 18) hx hb dX0_act_3 (by decide) (fun c_1 => ?_) (fun c_1 => ?_)
  · skip
    refine lv_iload_n hx hb dX0_act_18 rfl (lv_at hl 1 rfl) ?_
    refine lv_bipush (v := 18) hx hb dX0_act_19 (by decide) ?_
    refine lv_icmp_ge (tgt := 36) hx hb dX0_act_21 (by decide) (fun c_2 => ?_) (fun c_2 => ?_)
    · skip
      refine lv_aload_n hx hb dX0_act_36 rfl (lv_at hl 0 rfl) ?_
      refine lv_iload_n hx hb dX0_act_37 rfl (lv_at hl 1 rfl) ?_
      refine lv_iload_n hx hb dX0_act_38 rfl (lv_at hl 2 rfl) ?_
      refine lv_iload_n hx hb dX0_act_39 rfl (lv_at hl 3 rfl) ?_
      refine lv_iload hx hb dX0_act_40 (lv_at hl 4 rfl) ?_
      refine lv_iload hx hb dX0_act_42 (lv_at hl 5 rfl) ?_
      refine lv_iload hx hb dX0_act_44 (lv_at hl 6 rfl) ?_
      refine y_Vi (wN := fun u_3 => (wX G ad ho rn ln u_3.2 ro lt rf th sb ++ wR G (ad 1) kd r ++ wR G (ad 2) u_3.1.1 u_3.1.2 ++ wR G (ad 3) k2 r2 ++ wK (ad 4))) (wNx := fun u9 => (wX G ad ho rn ln dr ro lt rf th sb ++ wR G (ad 1) kd r ++ wR G (ad 2) k1 r1 ++ wR G (ad 3) k2 r2 ++ wK (ad 4))) ⟨C0, hK, hP, hD, hS, hA⟩ hZ 0 rfl (ci := 0) rfl rfl ((m_rest_29 l hl0 G ad kd k1 k2 r r1 r2 ho rn ln dr ro lt rf th sb hr hp hk cnt z w z10 z11)) (cwV 6 hts (lw_V q875 q877 qs40 q86 q878) rfl rfl rfl (by decide +kernel) ⟨Nat.le_of_ble_eq_true rfl, Nat.le_of_ble_eq_true rfl⟩) [0, 1, 2, 3, 4, 5, 6, 7, 8, 9, 10, 11, 12, 13, 14, 15, 16, 17, 18, 19, 20, 21, 22, 23, 24, 25, 26, 27, 28, 29, 30] [1, 3, 5, 7, 9, 11, 13, 15, 17, 19, 21, 23, 25, 27, 29, 31, 33, 35, 37, 39, 41, 43, 45, 47, 49, 51, 53, 55, 57, 59, 61] [1, 3, 5, 7, 9, 11, 13, 15, 17, 19, 21, 23, 25, 27, 29, 31, 33, 35, 37, 39, 41, 43, 45, 47, 49, 51, 53, 55, 57, 59, 61, 63] rfl (fun _ => rfl) (fun _ _ _ => rfl) rfl rfl rfl hl.1 rfl (Nat.le_of_ble_eq_true rfl) dX0_act_46 ⟨(Nat.le_of_ble_eq_true rfl), (Nat.le_of_ble_eq_true rfl)⟩ (fun q9 u9 ee H locs hw_3 hP hD hS => ?_) (fun r_3 u_3 H locs hw_3 hP hD hS => ?_)
      · skip
        refine z_catch ⟨0, 49, 50, 239⟩ hown hK htb rfl (by decide) (by decide) (hts _ q273) hP ?_
        have hthr9 : ee.2.1 = eW (wBy cnt.toInt 1 20) (eS (inR w 0 1) (-2) (eS (decide (0 < nI (mny r))) (-3) 0)) ∧ eW (wBy cnt.toInt 1 20) (eS (inR w 0 1) (-2) (eS (decide (0 < nI (mny r))) (-3) 0)) ≠ 0 := hw_3
        refine lv_astore (lv' := [(7, .ref q9), (0, .ref (ad 0 0)), (1, .int 29), (2, .int cnt), (3, .int z), (4, .int w), (5, .int z10), (6, .int z11)]) hx hb dX0_act_50 hl (by decide) rfl (fun ls hl => ?_)
        refine lv_aload_n hx hb dX0_act_52 rfl (lv_at hl 1 rfl) ?_
        refine lv_aload hx hb dX0_act_53 (lv_at hl 0 rfl) ?_
        obtain ⟨ek, en, e1, e2, e3⟩ := ee
        cases ek
        · skip
          have hP : va_P G.1 vwCl (wX G ad ho rn ln dr ro lt rf th sb ++ wR G (ad 1) kd r ++ wR G (ad 2) k1 r1 ++ wR G (ad 3) k2 r2 ++ wK (ad 4) ++ [(q9, .inr (9, [e1, e2, e3, .null, .null, .int 0, .int en]))]) H := hP
          have hD : va_D A (wX G ad ho rn ln dr ro lt rf th sb ++ wR G (ad 1) kd r ++ wR G (ad 2) k1 r1 ++ wR G (ad 3) k2 r2 ++ wK (ad 4) ++ [(q9, .inr (9, [e1, e2, e3, .null, .null, .int 0, .int en]))]) := hD
          obtain ⟨een, hne⟩ := hthr9
          have een : en = eW (wBy cnt.toInt 1 20) (eS (inR w 0 1) (-2) (eS (decide (0 < nI (mny r))) (-3) 0)) := een
          subst een
          have hP : va_P G.1 vwCl (wX G ad ho rn ln dr ro lt rf th sb ++ wR G (ad 1) kd r ++ wR G (ad 2) k1 r1 ++ wR G (ad 3) k2 r2 ++ wK (ad 4) ++ [(q9, .inr (9, [e1, e2, e3, .null, .null, .int 0, .int (eW (wBy cnt.toInt 1 20) (eS (inR w 0 1) (-2) (eS (decide (0 < nI (mny r))) (-3) 0)))]))]) H := hP
          have hD : va_D A (wX G ad ho rn ln dr ro lt rf th sb ++ wR G (ad 1) kd r ++ wR G (ad 2) k1 r1 ++ wR G (ad 3) k2 r2 ++ wK (ad 4) ++ [(q9, .inr (9, [e1, e2, e3, .null, .null, .int 0, .int (eW (wBy cnt.toInt 1 20) (eS (inR w 0 1) (-2) (eS (decide (0 < nI (mny r))) (-3) 0)))]))]) := hD
          refine x_Ui (wN := fun _ => (wX G ad ho rn ln dr ro lt rf th sb ++ wR G (ad 1) kd r ++ wR G (ad 2) k1 r1 ++ wR G (ad 3) k2 r2 ++ wK (ad 4) ++ [(q9, .inr (9, [e1, e2, e3, .null, .null, .int 0, .int (eW (wBy cnt.toInt 1 20) (eS (inR w 0 1) (-2) (eS (decide (0 < nI (mny r))) (-3) 0)))]))])) ⟨C0, hK, hP, hD, hS, hA⟩ 31 rfl (ci := 9) rfl rfl ((m_X11_number l G q9 e1 e2 e3 (eW (wBy cnt.toInt 1 20) (eS (inR w 0 1) (-2) (eS (decide (0 < nI (mny r))) (-3) 0))))) (va_cwA (owner := "PulledFromUnder$Refusal") 0 hts (lw_U q990 q992 q996 q997 q100 q998) rfl rfl rfl (hK.2.D 13 rfl) (by decide +kernel) ⟨Nat.le_of_ble_eq_true rfl, Nat.le_of_ble_eq_true rfl⟩) [31] [0, 2, 4, 6, 8, 10, 12, 14, 16, 18, 20, 22, 24, 26, 28, 30, 32, 34, 36, 38, 40, 42, 44, 46, 48, 50, 52, 54, 56, 58, 60, 1] rfl (fun _ => rfl) rfl rfl hl.1 rfl (Nat.le_of_ble_eq_true rfl) dX0_act_55 ⟨(Nat.le_of_ble_eq_true rfl), (Nat.le_of_ble_eq_true rfl)⟩ (fun r_4 u_4 H locs hw_4 hP hD hS => ?_)
          have hw_4 : (eW (wBy cnt.toInt 1 20) (eS (inR w 0 1) (-2) (eS (decide (0 < nI (mny r))) (-3) 0)) : Int32) = r_4 := hw_4.symm
          subst hw_4
          refine x_Vi (wN := fun _ => (wX G ad ho rn ln dr ro lt (rfU rf (eW (wBy cnt.toInt 1 20) (eS (inR w 0 1) (-2) (eS (decide (0 < nI (mny r))) (-3) 0)))) th sb ++ wR G (ad 1) kd r ++ wR G (ad 2) k1 r1 ++ wR G (ad 3) k2 r2 ++ wK (ad 4) ++ [(q9, .inr (9, [e1, e2, e3, .null, .null, .int 0, .int (eW (wBy cnt.toInt 1 20) (eS (inR w 0 1) (-2) (eS (decide (0 < nI (mny r))) (-3) 0)))]))])) ⟨C0, hK, hP, hD, hS, hA⟩ 0 rfl (ci := 0) rfl rfl ((m_refuse l G ad kd k1 k2 r r1 r2 ho rn ln dr ro lt rf th sb hr hp hk (eW (wBy cnt.toInt 1 20) (eS (inR w 0 1) (-2) (eS (decide (0 < nI (mny r))) (-3) 0))) (rfOk_W (rfOk_S rfOk_k.2.1 (rfOk_S rfOk_k.2.2.1 rfOk_0))))) (cwV 1 hts (lw_V q999 q1001 qs62 q86 q1002) rfl rfl rfl (by decide +kernel) ⟨Nat.le_of_ble_eq_true rfl, Nat.le_of_ble_eq_true rfl⟩) [0, 1, 2, 3, 4, 5, 6, 7, 8, 9, 10, 11, 12, 13, 14, 15, 16, 17, 18, 19, 20, 21, 22, 23, 24, 25, 26, 27, 28, 29, 30] [1, 3, 5, 7, 9, 11, 13, 15, 17, 19, 21, 23, 25, 27, 29, 31, 33, 35, 37, 39, 41, 43, 45, 47, 49, 51, 53, 55, 57, 59, 61, 62] rfl (fun _ => rfl) rfl rfl hl.1 rfl (Nat.le_of_ble_eq_true rfl) dX0_act_58 ⟨(Nat.le_of_ble_eq_true rfl), (Nat.le_of_ble_eq_true rfl)⟩ (fun r_5 u_5 H locs hw_5 hP hD hS => ?_)
          have hw_5 : (eW (wBy cnt.toInt 1 20) (eS (inR w 0 1) (-2) (eS (decide (0 < nI (mny r))) (-3) 0)) : Int32) = r_5 := hw_5.symm
          subst hw_5
          have hP : va_P G.1 vwCl (wX G ad ho rn ln dr ro lt (rfU rf (eW (wBy cnt.toInt 1 20) (eS (inR w 0 1) (-2) (eS (decide (0 < nI (mny r))) (-3) 0)))) th sb ++ wR G (ad 1) kd r ++ wR G (ad 2) k1 r1 ++ wR G (ad 3) k2 r2 ++ wK (ad 4) ++ [(q9, .inr (9, [e1, e2, e3, .null, .null, .int 0, .int (eW (wBy cnt.toInt 1 20) (eS (inR w 0 1) (-2) (eS (decide (0 < nI (mny r))) (-3) 0)))]))]) H := hP
          have hD : va_D A (wX G ad ho rn ln dr ro lt (rfU rf (eW (wBy cnt.toInt 1 20) (eS (inR w 0 1) (-2) (eS (decide (0 < nI (mny r))) (-3) 0)))) th sb ++ wR G (ad 1) kd r ++ wR G (ad 2) k1 r1 ++ wR G (ad 3) k2 r2 ++ wK (ad 4) ++ [(q9, .inr (9, [e1, e2, e3, .null, .null, .int 0, .int (eW (wBy cnt.toInt 1 20) (eS (inR w 0 1) (-2) (eS (decide (0 < nI (mny r))) (-3) 0)))]))]) := hD
          have hP := x_dropP hP
          have hD := x_dropD hD
          have hP : va_P G.1 vwCl (wX G ad ho rn ln (((k1, r1), dr).2) ro lt (sel (eW (wBy cnt.toInt 1 20) (eS (inR w 0 1) (-2) (eS (decide (0 < nI (mny r))) (-3) 0))) rf (rfU rf (eW (wBy cnt.toInt 1 20) (eS (inR w 0 1) (-2) (eS (decide (0 < nI (mny r))) (-3) 0))))) th sb ++ wR G (ad 1) kd r ++ wR G (ad 2) (((k1, r1), dr).1.1) (((k1, r1), dr).1.2) ++ wR G (ad 3) k2 r2 ++ wK (ad 4)) H := by simp only [sel_n hne]; exact hP
          have hD : va_D A (wX G ad ho rn ln (((k1, r1), dr).2) ro lt (sel (eW (wBy cnt.toInt 1 20) (eS (inR w 0 1) (-2) (eS (decide (0 < nI (mny r))) (-3) 0))) rf (rfU rf (eW (wBy cnt.toInt 1 20) (eS (inR w 0 1) (-2) (eS (decide (0 < nI (mny r))) (-3) 0))))) th sb ++ wR G (ad 1) kd r ++ wR G (ad 2) (((k1, r1), dr).1.1) (((k1, r1), dr).1.2) ++ wR G (ad 3) k2 r2 ++ wK (ad 4)) := by simp only [sel_n hne]; exact hD
          refine hret _ _ _ _ _ _ (eW (wBy cnt.toInt 1 20) (eS (inR w 0 1) (-2) (eS (decide (0 < nI (mny r))) (-3) 0))) ((k1, r1), dr) dX0_act_61 ?_ hP hD hS (Nat.le_of_ble_eq_true rfl) (Nat.le_of_ble_eq_true rfl)
          exact (sel_n hne).symm
        · skip
          have hP : va_P G.1 vwCl (wX G ad ho rn ln dr ro lt rf th sb ++ wR G (ad 1) kd r ++ wR G (ad 2) k1 r1 ++ wR G (ad 3) k2 r2 ++ wK (ad 4) ++ [(q9, .inr (11, [e1, e2, e3, .null, .null, .int 0, .int en]))]) H := hP
          have hD : va_D A (wX G ad ho rn ln dr ro lt rf th sb ++ wR G (ad 1) kd r ++ wR G (ad 2) k1 r1 ++ wR G (ad 3) k2 r2 ++ wK (ad 4) ++ [(q9, .inr (11, [e1, e2, e3, .null, .null, .int 0, .int en]))]) := hD
          obtain ⟨een, hne⟩ := hthr9
          have een : en = eW (wBy cnt.toInt 1 20) (eS (inR w 0 1) (-2) (eS (decide (0 < nI (mny r))) (-3) 0)) := een
          subst een
          have hP : va_P G.1 vwCl (wX G ad ho rn ln dr ro lt rf th sb ++ wR G (ad 1) kd r ++ wR G (ad 2) k1 r1 ++ wR G (ad 3) k2 r2 ++ wK (ad 4) ++ [(q9, .inr (11, [e1, e2, e3, .null, .null, .int 0, .int (eW (wBy cnt.toInt 1 20) (eS (inR w 0 1) (-2) (eS (decide (0 < nI (mny r))) (-3) 0)))]))]) H := hP
          have hD : va_D A (wX G ad ho rn ln dr ro lt rf th sb ++ wR G (ad 1) kd r ++ wR G (ad 2) k1 r1 ++ wR G (ad 3) k2 r2 ++ wK (ad 4) ++ [(q9, .inr (11, [e1, e2, e3, .null, .null, .int 0, .int (eW (wBy cnt.toInt 1 20) (eS (inR w 0 1) (-2) (eS (decide (0 < nI (mny r))) (-3) 0)))]))]) := hD
          refine x_Ui (wN := fun _ => (wX G ad ho rn ln dr ro lt rf th sb ++ wR G (ad 1) kd r ++ wR G (ad 2) k1 r1 ++ wR G (ad 3) k2 r2 ++ wK (ad 4) ++ [(q9, .inr (11, [e1, e2, e3, .null, .null, .int 0, .int (eW (wBy cnt.toInt 1 20) (eS (inR w 0 1) (-2) (eS (decide (0 < nI (mny r))) (-3) 0)))]))])) ⟨C0, hK, hP, hD, hS, hA⟩ 31 rfl (ci := 11) rfl rfl ((m_X13_number l G q9 e1 e2 e3 (eW (wBy cnt.toInt 1 20) (eS (inR w 0 1) (-2) (eS (decide (0 < nI (mny r))) (-3) 0))))) (va_cwA (owner := "PulledFromUnder$Refusal") 0 hts (lw_U q990 q992 q993 q994 q102 q995) rfl rfl rfl (hK.2.D 13 rfl) (by decide +kernel) ⟨Nat.le_of_ble_eq_true rfl, Nat.le_of_ble_eq_true rfl⟩) [31] [0, 2, 4, 6, 8, 10, 12, 14, 16, 18, 20, 22, 24, 26, 28, 30, 32, 34, 36, 38, 40, 42, 44, 46, 48, 50, 52, 54, 56, 58, 60, 1] rfl (fun _ => rfl) rfl rfl hl.1 rfl (Nat.le_of_ble_eq_true rfl) dX0_act_55 ⟨(Nat.le_of_ble_eq_true rfl), (Nat.le_of_ble_eq_true rfl)⟩ (fun r_6 u_6 H locs hw_6 hP hD hS => ?_)
          have hw_6 : (eW (wBy cnt.toInt 1 20) (eS (inR w 0 1) (-2) (eS (decide (0 < nI (mny r))) (-3) 0)) : Int32) = r_6 := hw_6.symm
          subst hw_6
          refine x_Vi (wN := fun _ => (wX G ad ho rn ln dr ro lt (rfU rf (eW (wBy cnt.toInt 1 20) (eS (inR w 0 1) (-2) (eS (decide (0 < nI (mny r))) (-3) 0)))) th sb ++ wR G (ad 1) kd r ++ wR G (ad 2) k1 r1 ++ wR G (ad 3) k2 r2 ++ wK (ad 4) ++ [(q9, .inr (11, [e1, e2, e3, .null, .null, .int 0, .int (eW (wBy cnt.toInt 1 20) (eS (inR w 0 1) (-2) (eS (decide (0 < nI (mny r))) (-3) 0)))]))])) ⟨C0, hK, hP, hD, hS, hA⟩ 0 rfl (ci := 0) rfl rfl ((m_refuse l G ad kd k1 k2 r r1 r2 ho rn ln dr ro lt rf th sb hr hp hk (eW (wBy cnt.toInt 1 20) (eS (inR w 0 1) (-2) (eS (decide (0 < nI (mny r))) (-3) 0))) (rfOk_W (rfOk_S rfOk_k.2.1 (rfOk_S rfOk_k.2.2.1 rfOk_0))))) (cwV 1 hts (lw_V q999 q1001 qs62 q86 q1002) rfl rfl rfl (by decide +kernel) ⟨Nat.le_of_ble_eq_true rfl, Nat.le_of_ble_eq_true rfl⟩) [0, 1, 2, 3, 4, 5, 6, 7, 8, 9, 10, 11, 12, 13, 14, 15, 16, 17, 18, 19, 20, 21, 22, 23, 24, 25, 26, 27, 28, 29, 30] [1, 3, 5, 7, 9, 11, 13, 15, 17, 19, 21, 23, 25, 27, 29, 31, 33, 35, 37, 39, 41, 43, 45, 47, 49, 51, 53, 55, 57, 59, 61, 62] rfl (fun _ => rfl) rfl rfl hl.1 rfl (Nat.le_of_ble_eq_true rfl) dX0_act_58 ⟨(Nat.le_of_ble_eq_true rfl), (Nat.le_of_ble_eq_true rfl)⟩ (fun r_7 u_7 H locs hw_7 hP hD hS => ?_)
          have hw_7 : (eW (wBy cnt.toInt 1 20) (eS (inR w 0 1) (-2) (eS (decide (0 < nI (mny r))) (-3) 0)) : Int32) = r_7 := hw_7.symm
          subst hw_7
          have hP : va_P G.1 vwCl (wX G ad ho rn ln dr ro lt (rfU rf (eW (wBy cnt.toInt 1 20) (eS (inR w 0 1) (-2) (eS (decide (0 < nI (mny r))) (-3) 0)))) th sb ++ wR G (ad 1) kd r ++ wR G (ad 2) k1 r1 ++ wR G (ad 3) k2 r2 ++ wK (ad 4) ++ [(q9, .inr (11, [e1, e2, e3, .null, .null, .int 0, .int (eW (wBy cnt.toInt 1 20) (eS (inR w 0 1) (-2) (eS (decide (0 < nI (mny r))) (-3) 0)))]))]) H := hP
          have hD : va_D A (wX G ad ho rn ln dr ro lt (rfU rf (eW (wBy cnt.toInt 1 20) (eS (inR w 0 1) (-2) (eS (decide (0 < nI (mny r))) (-3) 0)))) th sb ++ wR G (ad 1) kd r ++ wR G (ad 2) k1 r1 ++ wR G (ad 3) k2 r2 ++ wK (ad 4) ++ [(q9, .inr (11, [e1, e2, e3, .null, .null, .int 0, .int (eW (wBy cnt.toInt 1 20) (eS (inR w 0 1) (-2) (eS (decide (0 < nI (mny r))) (-3) 0)))]))]) := hD
          have hP := x_dropP hP
          have hD := x_dropD hD
          have hP : va_P G.1 vwCl (wX G ad ho rn ln (((k1, r1), dr).2) ro lt (sel (eW (wBy cnt.toInt 1 20) (eS (inR w 0 1) (-2) (eS (decide (0 < nI (mny r))) (-3) 0))) rf (rfU rf (eW (wBy cnt.toInt 1 20) (eS (inR w 0 1) (-2) (eS (decide (0 < nI (mny r))) (-3) 0))))) th sb ++ wR G (ad 1) kd r ++ wR G (ad 2) (((k1, r1), dr).1.1) (((k1, r1), dr).1.2) ++ wR G (ad 3) k2 r2 ++ wK (ad 4)) H := by simp only [sel_n hne]; exact hP
          have hD : va_D A (wX G ad ho rn ln (((k1, r1), dr).2) ro lt (sel (eW (wBy cnt.toInt 1 20) (eS (inR w 0 1) (-2) (eS (decide (0 < nI (mny r))) (-3) 0))) rf (rfU rf (eW (wBy cnt.toInt 1 20) (eS (inR w 0 1) (-2) (eS (decide (0 < nI (mny r))) (-3) 0))))) th sb ++ wR G (ad 1) kd r ++ wR G (ad 2) (((k1, r1), dr).1.1) (((k1, r1), dr).1.2) ++ wR G (ad 3) k2 r2 ++ wK (ad 4)) := by simp only [sel_n hne]; exact hD
          refine hret _ _ _ _ _ _ (eW (wBy cnt.toInt 1 20) (eS (inR w 0 1) (-2) (eS (decide (0 < nI (mny r))) (-3) 0))) ((k1, r1), dr) dX0_act_61 ?_ hP hD hS (Nat.le_of_ble_eq_true rfl) (Nat.le_of_ble_eq_true rfl)
          exact (sel_n hne).symm
      · skip
        obtain ⟨hz_3, hw_3⟩ := hw_3
        have hw_3 : ((lSum r w z (ix cnt)).2 : Int32) = r_3 := hw_3.symm
        subst hw_3
        have hP : va_P G.1 vwCl (wX G ad ho rn ln u_3.2 ro lt rf th sb ++ wR G (ad 1) kd r ++ wR G (ad 2) u_3.1.1 u_3.1.2 ++ wR G (ad 3) k2 r2 ++ wK (ad 4)) H := hP
        have hD : va_D A (wX G ad ho rn ln u_3.2 ro lt rf th sb ++ wR G (ad 1) kd r ++ wR G (ad 2) u_3.1.1 u_3.1.2 ++ wR G (ad 3) k2 r2 ++ wK (ad 4)) := hD
        refine W.widen (k := 4) (n := 28) (Nat.le_of_ble_eq_true rfl) (Nat.le_of_ble_eq_true rfl) ?_
        have hP : va_P G.1 vwCl (wX G ad ho rn ln u_3.2 ro lt (sel (eW (wBy cnt.toInt 1 20) (eS (inR w 0 1) (-2) (eS (decide (0 < nI (mny r))) (-3) 0))) rf (rfU rf (eW (wBy cnt.toInt 1 20) (eS (inR w 0 1) (-2) (eS (decide (0 < nI (mny r))) (-3) 0))))) th sb ++ wR G (ad 1) kd r ++ wR G (ad 2) u_3.1.1 u_3.1.2 ++ wR G (ad 3) k2 r2 ++ wK (ad 4)) H := by simp only [sel_0 hz_3]; exact hP
        have hD : va_D A (wX G ad ho rn ln u_3.2 ro lt (sel (eW (wBy cnt.toInt 1 20) (eS (inR w 0 1) (-2) (eS (decide (0 < nI (mny r))) (-3) 0))) rf (rfU rf (eW (wBy cnt.toInt 1 20) (eS (inR w 0 1) (-2) (eS (decide (0 < nI (mny r))) (-3) 0))))) th sb ++ wR G (ad 1) kd r ++ wR G (ad 2) u_3.1.1 u_3.1.2 ++ wR G (ad 3) k2 r2 ++ wK (ad 4)) := by simp only [sel_0 hz_3]; exact hD
        refine hret _ _ _ _ _ _ ((lSum r w z (ix cnt)).2) u_3 dX0_act_49 ?_ hP hD hS (Nat.le_of_ble_eq_true rfl) (Nat.le_of_ble_eq_true rfl)
        exact (sel_0 hz_3).symm
    · skip
      exact absurd c_2 (by decide)
  · skip
    exact absurd c_1 (by decide)
set_option maxHeartbeats 4000000 in
set_option maxRecDepth 100000 in
theorem m_act_30 (l : Launch) (hl0 : l.stackTraces = false) (G : xG) (ad : Nat → Nat → Nat) (kd k1 k2 : Nat → Option Nat) (r r1 r2 : Rw) (ho rn ln dr : Int32) (ro lt rf th sb : Nat → Int32) (hr : Ok r) (hp : r 5 3 = 0) (hk : kOk (ad 4) kd r) (z10 z11 z12 z13 z14 : Int32) : zCi l G yX0_act (wsW_ yX0_act cX0_act 8 (some .int) [(0, 49, 50, 239)]) ({ frames := 4, cells := 0, slots := 0, locals := 152 } : Room) [.ref (ad 0 0), .int 30, .int z10, .int z11, .int z12, .int z13, .int z14] (wX G ad ho rn ln dr ro lt rf th sb ++ wR G (ad 1) kd r ++ wR G (ad 2) k1 r1 ++ wR G (ad 3) k2 r2 ++ wK (ad 4)) (S := Unit) (fun v _ => v = sel ((0 : Int32)) (r 5 1) ((0 : Int32))) (fun _ => (wX G ad (sel (0 : Int32) 1 ho) rn ln dr ro lt (sel (0 : Int32) rf (rfU rf (0 : Int32))) th sb ++ wR G (ad 1) kd r ++ wR G (ad 2) k1 r1 ++ wR G (ad 3) (sel (0 : Int32) kd k2) (sel (0 : Int32) r r2) ++ wK (ad 4))) := by
  refine z_openiW (hh := [(0, 49, 50, 239)]) (by decide) (Nat.le_of_ble_eq_true rfl) (fun _ _ _ => rfl) ?_
  intro p e s m args below meth c A Q ls C0 hK hZ hP hD hA hl htb hret
  obtain ⟨hx, hb, hml, hown, hts⟩ := id C0
  have hS : va_S A s.heap s.heap [] := va_S.rf
  have hP : va_P G.1 vwCl (wX G ad ho rn ln dr ro lt rf th sb ++ wR G (ad 1) kd r ++ wR G (ad 2) k1 r1 ++ wR G (ad 3) k2 r2 ++ wK (ad 4)) s.heap := hP
  have hD : va_D A (wX G ad ho rn ln dr ro lt rf th sb ++ wR G (ad 1) kd r ++ wR G (ad 2) k1 r1 ++ wR G (ad 3) k2 r2 ++ wK (ad 4)) := hD
  have hl : lv_has ls 8 [(0, .ref (ad 0 0)), (1, .int 30), (2, .int z10), (3, .int z11), (4, .int z12), (5, .int z13), (6, .int z14)] := hl
  have hr0 := hr.n
  have hN := hr.le
  refine lv_iload_n hx hb dX0_act_0 rfl (lv_at hl 1 rfl) ?_
  refine lv_bipush (v := 9) hx hb dX0_act_1 (by decide) ?_
  refine lv_icmp_ge (tgt := 18) hx hb dX0_act_3 (by decide) (fun c_1 => ?_) (fun c_1 => ?_)
  · skip
    refine lv_iload_n hx hb dX0_act_18 rfl (lv_at hl 1 rfl) ?_
    refine lv_bipush (v := 18) hx hb dX0_act_19 (by decide) ?_
    refine lv_icmp_ge (tgt := 36) hx hb dX0_act_21 (by decide) (fun c_2 => ?_) (fun c_2 => ?_)
    · skip
      refine lv_aload_n hx hb dX0_act_36 rfl (lv_at hl 0 rfl) ?_
      refine lv_iload_n hx hb dX0_act_37 rfl (lv_at hl 1 rfl) ?_
      refine lv_iload_n hx hb dX0_act_38 rfl (lv_at hl 2 rfl) ?_
      refine lv_iload_n hx hb dX0_act_39 rfl (lv_at hl 3 rfl) ?_
      refine lv_iload hx hb dX0_act_40 (lv_at hl 4 rfl) ?_
      refine lv_iload hx hb dX0_act_42 (lv_at hl 5 rfl) ?_
      refine lv_iload hx hb dX0_act_44 (lv_at hl 6 rfl) ?_
      refine y_Vi (wN := fun u_3 => (wX G ad 1 rn ln dr ro lt rf th sb ++ wR G (ad 1) kd r ++ wR G (ad 2) k1 r1 ++ wR G (ad 3) kd r ++ wK (ad 4))) (wNx := fun u9 => (wX G ad ho rn ln dr ro lt rf th sb ++ wR G (ad 1) kd r ++ wR G (ad 2) k1 r1 ++ wR G (ad 3) k2 r2 ++ wK (ad 4))) ⟨C0, hK, hP, hD, hS, hA⟩ hZ 0 rfl (ci := 0) rfl rfl ((m_rest_30 l hl0 G ad kd k1 k2 r r1 r2 ho rn ln dr ro lt rf th sb hr hp hk z10 z11 z12 z13 z14)) (cwV 6 hts (lw_V q875 q877 qs40 q86 q878) rfl rfl rfl (by decide +kernel) ⟨Nat.le_of_ble_eq_true rfl, Nat.le_of_ble_eq_true rfl⟩) [0, 1, 2, 3, 4, 5, 6, 7, 8, 9, 10, 11, 12, 13, 14, 15, 16, 17, 18, 19, 20, 21, 22, 23, 24, 25, 26, 27, 28, 29, 30] [1, 3, 5, 7, 9, 11, 13, 15, 17, 19, 21, 23, 25, 27, 29, 31, 33, 35, 37, 39, 41, 43, 45, 47, 49, 51, 53, 55, 57, 59, 61] [1, 3, 5, 7, 9, 11, 13, 15, 17, 19, 21, 23, 25, 27, 29, 31, 33, 35, 37, 39, 41, 43, 45, 47, 49, 51, 53, 55, 57, 59, 61, 63] rfl (fun _ => rfl) (fun _ _ _ => rfl) rfl rfl rfl hl.1 rfl (Nat.le_of_ble_eq_true rfl) dX0_act_46 ⟨(Nat.le_of_ble_eq_true rfl), (Nat.le_of_ble_eq_true rfl)⟩ (fun q9 u9 ee H locs hw_3 hP hD hS => ?_) (fun r_3 u_3 H locs hw_3 hP hD hS => ?_)
      · skip
        refine z_catch ⟨0, 49, 50, 239⟩ hown hK htb rfl (by decide) (by decide) (hts _ q273) hP ?_
        have hthr9 : ee.2.1 = (0 : Int32) ∧ (0 : Int32) ≠ 0 := hw_3
        refine lv_astore (lv' := [(7, .ref q9), (0, .ref (ad 0 0)), (1, .int 30), (2, .int z10), (3, .int z11), (4, .int z12), (5, .int z13), (6, .int z14)]) hx hb dX0_act_50 hl (by decide) rfl (fun ls hl => ?_)
        refine lv_aload_n hx hb dX0_act_52 rfl (lv_at hl 1 rfl) ?_
        refine lv_aload hx hb dX0_act_53 (lv_at hl 0 rfl) ?_
        obtain ⟨ek, en, e1, e2, e3⟩ := ee
        cases ek
        · skip
          have hP : va_P G.1 vwCl (wX G ad ho rn ln dr ro lt rf th sb ++ wR G (ad 1) kd r ++ wR G (ad 2) k1 r1 ++ wR G (ad 3) k2 r2 ++ wK (ad 4) ++ [(q9, .inr (9, [e1, e2, e3, .null, .null, .int 0, .int en]))]) H := hP
          have hD : va_D A (wX G ad ho rn ln dr ro lt rf th sb ++ wR G (ad 1) kd r ++ wR G (ad 2) k1 r1 ++ wR G (ad 3) k2 r2 ++ wK (ad 4) ++ [(q9, .inr (9, [e1, e2, e3, .null, .null, .int 0, .int en]))]) := hD
          obtain ⟨een, hne⟩ := hthr9
          have een : en = (0 : Int32) := een
          subst een
          have hP : va_P G.1 vwCl (wX G ad ho rn ln dr ro lt rf th sb ++ wR G (ad 1) kd r ++ wR G (ad 2) k1 r1 ++ wR G (ad 3) k2 r2 ++ wK (ad 4) ++ [(q9, .inr (9, [e1, e2, e3, .null, .null, .int 0, .int (0 : Int32)]))]) H := hP
          have hD : va_D A (wX G ad ho rn ln dr ro lt rf th sb ++ wR G (ad 1) kd r ++ wR G (ad 2) k1 r1 ++ wR G (ad 3) k2 r2 ++ wK (ad 4) ++ [(q9, .inr (9, [e1, e2, e3, .null, .null, .int 0, .int (0 : Int32)]))]) := hD
          refine x_Ui (wN := fun _ => (wX G ad ho rn ln dr ro lt rf th sb ++ wR G (ad 1) kd r ++ wR G (ad 2) k1 r1 ++ wR G (ad 3) k2 r2 ++ wK (ad 4) ++ [(q9, .inr (9, [e1, e2, e3, .null, .null, .int 0, .int (0 : Int32)]))])) ⟨C0, hK, hP, hD, hS, hA⟩ 31 rfl (ci := 9) rfl rfl ((m_X11_number l G q9 e1 e2 e3 (0 : Int32))) (va_cwA (owner := "PulledFromUnder$Refusal") 0 hts (lw_U q990 q992 q996 q997 q100 q998) rfl rfl rfl (hK.2.D 13 rfl) (by decide +kernel) ⟨Nat.le_of_ble_eq_true rfl, Nat.le_of_ble_eq_true rfl⟩) [31] [0, 2, 4, 6, 8, 10, 12, 14, 16, 18, 20, 22, 24, 26, 28, 30, 32, 34, 36, 38, 40, 42, 44, 46, 48, 50, 52, 54, 56, 58, 60, 1] rfl (fun _ => rfl) rfl rfl hl.1 rfl (Nat.le_of_ble_eq_true rfl) dX0_act_55 ⟨(Nat.le_of_ble_eq_true rfl), (Nat.le_of_ble_eq_true rfl)⟩ (fun r_4 u_4 H locs hw_4 hP hD hS => ?_)
          have hw_4 : ((0 : Int32) : Int32) = r_4 := hw_4.symm
          subst hw_4
          refine x_Vi (wN := fun _ => (wX G ad ho rn ln dr ro lt (rfU rf (0 : Int32)) th sb ++ wR G (ad 1) kd r ++ wR G (ad 2) k1 r1 ++ wR G (ad 3) k2 r2 ++ wK (ad 4) ++ [(q9, .inr (9, [e1, e2, e3, .null, .null, .int 0, .int (0 : Int32)]))])) ⟨C0, hK, hP, hD, hS, hA⟩ 0 rfl (ci := 0) rfl rfl ((m_refuse l G ad kd k1 k2 r r1 r2 ho rn ln dr ro lt rf th sb hr hp hk (0 : Int32) rfOk_0)) (cwV 1 hts (lw_V q999 q1001 qs62 q86 q1002) rfl rfl rfl (by decide +kernel) ⟨Nat.le_of_ble_eq_true rfl, Nat.le_of_ble_eq_true rfl⟩) [0, 1, 2, 3, 4, 5, 6, 7, 8, 9, 10, 11, 12, 13, 14, 15, 16, 17, 18, 19, 20, 21, 22, 23, 24, 25, 26, 27, 28, 29, 30] [1, 3, 5, 7, 9, 11, 13, 15, 17, 19, 21, 23, 25, 27, 29, 31, 33, 35, 37, 39, 41, 43, 45, 47, 49, 51, 53, 55, 57, 59, 61, 62] rfl (fun _ => rfl) rfl rfl hl.1 rfl (Nat.le_of_ble_eq_true rfl) dX0_act_58 ⟨(Nat.le_of_ble_eq_true rfl), (Nat.le_of_ble_eq_true rfl)⟩ (fun r_5 u_5 H locs hw_5 hP hD hS => ?_)
          have hw_5 : ((0 : Int32) : Int32) = r_5 := hw_5.symm
          subst hw_5
          have hP : va_P G.1 vwCl (wX G ad ho rn ln dr ro lt (rfU rf (0 : Int32)) th sb ++ wR G (ad 1) kd r ++ wR G (ad 2) k1 r1 ++ wR G (ad 3) k2 r2 ++ wK (ad 4) ++ [(q9, .inr (9, [e1, e2, e3, .null, .null, .int 0, .int (0 : Int32)]))]) H := hP
          have hD : va_D A (wX G ad ho rn ln dr ro lt (rfU rf (0 : Int32)) th sb ++ wR G (ad 1) kd r ++ wR G (ad 2) k1 r1 ++ wR G (ad 3) k2 r2 ++ wK (ad 4) ++ [(q9, .inr (9, [e1, e2, e3, .null, .null, .int 0, .int (0 : Int32)]))]) := hD
          have hP := x_dropP hP
          have hD := x_dropD hD
          have hP : va_P G.1 vwCl (wX G ad (sel (0 : Int32) 1 ho) rn ln dr ro lt (sel (0 : Int32) rf (rfU rf (0 : Int32))) th sb ++ wR G (ad 1) kd r ++ wR G (ad 2) k1 r1 ++ wR G (ad 3) (sel (0 : Int32) kd k2) (sel (0 : Int32) r r2) ++ wK (ad 4)) H := by simp only [sel_n hne]; exact hP
          have hD : va_D A (wX G ad (sel (0 : Int32) 1 ho) rn ln dr ro lt (sel (0 : Int32) rf (rfU rf (0 : Int32))) th sb ++ wR G (ad 1) kd r ++ wR G (ad 2) k1 r1 ++ wR G (ad 3) (sel (0 : Int32) kd k2) (sel (0 : Int32) r r2) ++ wK (ad 4)) := by simp only [sel_n hne]; exact hD
          refine hret _ _ _ _ _ _ (0 : Int32) () dX0_act_61 ?_ hP hD hS (Nat.le_of_ble_eq_true rfl) (Nat.le_of_ble_eq_true rfl)
          exact (sel_n hne).symm
        · skip
          have hP : va_P G.1 vwCl (wX G ad ho rn ln dr ro lt rf th sb ++ wR G (ad 1) kd r ++ wR G (ad 2) k1 r1 ++ wR G (ad 3) k2 r2 ++ wK (ad 4) ++ [(q9, .inr (11, [e1, e2, e3, .null, .null, .int 0, .int en]))]) H := hP
          have hD : va_D A (wX G ad ho rn ln dr ro lt rf th sb ++ wR G (ad 1) kd r ++ wR G (ad 2) k1 r1 ++ wR G (ad 3) k2 r2 ++ wK (ad 4) ++ [(q9, .inr (11, [e1, e2, e3, .null, .null, .int 0, .int en]))]) := hD
          obtain ⟨een, hne⟩ := hthr9
          have een : en = (0 : Int32) := een
          subst een
          have hP : va_P G.1 vwCl (wX G ad ho rn ln dr ro lt rf th sb ++ wR G (ad 1) kd r ++ wR G (ad 2) k1 r1 ++ wR G (ad 3) k2 r2 ++ wK (ad 4) ++ [(q9, .inr (11, [e1, e2, e3, .null, .null, .int 0, .int (0 : Int32)]))]) H := hP
          have hD : va_D A (wX G ad ho rn ln dr ro lt rf th sb ++ wR G (ad 1) kd r ++ wR G (ad 2) k1 r1 ++ wR G (ad 3) k2 r2 ++ wK (ad 4) ++ [(q9, .inr (11, [e1, e2, e3, .null, .null, .int 0, .int (0 : Int32)]))]) := hD
          refine x_Ui (wN := fun _ => (wX G ad ho rn ln dr ro lt rf th sb ++ wR G (ad 1) kd r ++ wR G (ad 2) k1 r1 ++ wR G (ad 3) k2 r2 ++ wK (ad 4) ++ [(q9, .inr (11, [e1, e2, e3, .null, .null, .int 0, .int (0 : Int32)]))])) ⟨C0, hK, hP, hD, hS, hA⟩ 31 rfl (ci := 11) rfl rfl ((m_X13_number l G q9 e1 e2 e3 (0 : Int32))) (va_cwA (owner := "PulledFromUnder$Refusal") 0 hts (lw_U q990 q992 q993 q994 q102 q995) rfl rfl rfl (hK.2.D 13 rfl) (by decide +kernel) ⟨Nat.le_of_ble_eq_true rfl, Nat.le_of_ble_eq_true rfl⟩) [31] [0, 2, 4, 6, 8, 10, 12, 14, 16, 18, 20, 22, 24, 26, 28, 30, 32, 34, 36, 38, 40, 42, 44, 46, 48, 50, 52, 54, 56, 58, 60, 1] rfl (fun _ => rfl) rfl rfl hl.1 rfl (Nat.le_of_ble_eq_true rfl) dX0_act_55 ⟨(Nat.le_of_ble_eq_true rfl), (Nat.le_of_ble_eq_true rfl)⟩ (fun r_6 u_6 H locs hw_6 hP hD hS => ?_)
          have hw_6 : ((0 : Int32) : Int32) = r_6 := hw_6.symm
          subst hw_6
          refine x_Vi (wN := fun _ => (wX G ad ho rn ln dr ro lt (rfU rf (0 : Int32)) th sb ++ wR G (ad 1) kd r ++ wR G (ad 2) k1 r1 ++ wR G (ad 3) k2 r2 ++ wK (ad 4) ++ [(q9, .inr (11, [e1, e2, e3, .null, .null, .int 0, .int (0 : Int32)]))])) ⟨C0, hK, hP, hD, hS, hA⟩ 0 rfl (ci := 0) rfl rfl ((m_refuse l G ad kd k1 k2 r r1 r2 ho rn ln dr ro lt rf th sb hr hp hk (0 : Int32) rfOk_0)) (cwV 1 hts (lw_V q999 q1001 qs62 q86 q1002) rfl rfl rfl (by decide +kernel) ⟨Nat.le_of_ble_eq_true rfl, Nat.le_of_ble_eq_true rfl⟩) [0, 1, 2, 3, 4, 5, 6, 7, 8, 9, 10, 11, 12, 13, 14, 15, 16, 17, 18, 19, 20, 21, 22, 23, 24, 25, 26, 27, 28, 29, 30] [1, 3, 5, 7, 9, 11, 13, 15, 17, 19, 21, 23, 25, 27, 29, 31, 33, 35, 37, 39, 41, 43, 45, 47, 49, 51, 53, 55, 57, 59, 61, 62] rfl (fun _ => rfl) rfl rfl hl.1 rfl (Nat.le_of_ble_eq_true rfl) dX0_act_58 ⟨(Nat.le_of_ble_eq_true rfl), (Nat.le_of_ble_eq_true rfl)⟩ (fun r_7 u_7 H locs hw_7 hP hD hS => ?_)
          have hw_7 : ((0 : Int32) : Int32) = r_7 := hw_7.symm
          subst hw_7
          have hP : va_P G.1 vwCl (wX G ad ho rn ln dr ro lt (rfU rf (0 : Int32)) th sb ++ wR G (ad 1) kd r ++ wR G (ad 2) k1 r1 ++ wR G (ad 3) k2 r2 ++ wK (ad 4) ++ [(q9, .inr (11, [e1, e2, e3, .null, .null, .int 0, .int (0 : Int32)]))]) H := hP
          have hD : va_D A (wX G ad ho rn ln dr ro lt (rfU rf (0 : Int32)) th sb ++ wR G (ad 1) kd r ++ wR G (ad 2) k1 r1 ++ wR G (ad 3) k2 r2 ++ wK (ad 4) ++ [(q9, .inr (11, [e1, e2, e3, .null, .null, .int 0, .int (0 : Int32)]))]) := hD
          have hP := x_dropP hP
          have hD := x_dropD hD
          have hP : va_P G.1 vwCl (wX G ad (sel (0 : Int32) 1 ho) rn ln dr ro lt (sel (0 : Int32) rf (rfU rf (0 : Int32))) th sb ++ wR G (ad 1) kd r ++ wR G (ad 2) k1 r1 ++ wR G (ad 3) (sel (0 : Int32) kd k2) (sel (0 : Int32) r r2) ++ wK (ad 4)) H := by simp only [sel_n hne]; exact hP
          have hD : va_D A (wX G ad (sel (0 : Int32) 1 ho) rn ln dr ro lt (sel (0 : Int32) rf (rfU rf (0 : Int32))) th sb ++ wR G (ad 1) kd r ++ wR G (ad 2) k1 r1 ++ wR G (ad 3) (sel (0 : Int32) kd k2) (sel (0 : Int32) r r2) ++ wK (ad 4)) := by simp only [sel_n hne]; exact hD
          refine hret _ _ _ _ _ _ (0 : Int32) () dX0_act_61 ?_ hP hD hS (Nat.le_of_ble_eq_true rfl) (Nat.le_of_ble_eq_true rfl)
          exact (sel_n hne).symm
      · skip
        obtain ⟨hz_3, hw_3⟩ := hw_3
        have hw_3 : (r 5 1 : Int32) = r_3 := hw_3.symm
        subst hw_3
        have hP : va_P G.1 vwCl (wX G ad 1 rn ln dr ro lt rf th sb ++ wR G (ad 1) kd r ++ wR G (ad 2) k1 r1 ++ wR G (ad 3) kd r ++ wK (ad 4)) H := hP
        have hD : va_D A (wX G ad 1 rn ln dr ro lt rf th sb ++ wR G (ad 1) kd r ++ wR G (ad 2) k1 r1 ++ wR G (ad 3) kd r ++ wK (ad 4)) := hD
        have hP : va_P G.1 vwCl (wX G ad (sel (0 : Int32) 1 ho) rn ln dr ro lt (sel (0 : Int32) rf (rfU rf (0 : Int32))) th sb ++ wR G (ad 1) kd r ++ wR G (ad 2) k1 r1 ++ wR G (ad 3) (sel (0 : Int32) kd k2) (sel (0 : Int32) r r2) ++ wK (ad 4)) H := by simp only [sel_0 hz_3]; exact hP
        have hD : va_D A (wX G ad (sel (0 : Int32) 1 ho) rn ln dr ro lt (sel (0 : Int32) rf (rfU rf (0 : Int32))) th sb ++ wR G (ad 1) kd r ++ wR G (ad 2) k1 r1 ++ wR G (ad 3) (sel (0 : Int32) kd k2) (sel (0 : Int32) r r2) ++ wK (ad 4)) := by simp only [sel_0 hz_3]; exact hD
        refine hret _ _ _ _ _ _ (r 5 1) () dX0_act_49 ?_ hP hD hS (Nat.le_of_ble_eq_true rfl) (Nat.le_of_ble_eq_true rfl)
        exact (sel_0 hz_3).symm
    · skip
      exact absurd c_2 (by decide)
  · skip
    exact absurd c_1 (by decide)
set_option maxHeartbeats 4000000 in
set_option maxRecDepth 100000 in
theorem m_act_31 (l : Launch) (hl0 : l.stackTraces = false) (G : xG) (ad : Nat → Nat → Nat) (kd k1 k2 : Nat → Option Nat) (r r1 r2 : Rw) (ho rn ln dr : Int32) (ro lt rf th sb : Nat → Int32) (hr : Ok r) (hp : r 5 3 = 0) (hk : kOk (ad 4) kd r) (z10 z11 z12 z13 z14 : Int32) (hB : Bool) (hho : ho = bI hB) (h2 : hB = true → Ok r2 ∧ kOk (ad 4) k2 r2 ∧ r2 5 3 = 0) : zCi l G yX0_act (wsW_ yX0_act cX0_act 8 (some .int) [(0, 49, 50, 239)]) ({ frames := 10, cells := 1, slots := 7, locals := 180 } : Room) [.ref (ad 0 0), .int 31, .int z10, .int z11, .int z12, .int z13, .int z14] (wX G ad ho rn ln dr ro lt rf th sb ++ wR G (ad 1) kd r ++ wR G (ad 2) k1 r1 ++ wR G (ad 3) k2 r2 ++ wK (ad 4)) (S := Unit) (fun v _ => v = sel (eS hB (-3) 0) (r2 5 1) (eS hB (-3) 0)) (fun _ => (wX G ad ho rn ln dr ro lt (sel (eS hB (-3) 0) rf (rfU rf (eS hB (-3) 0))) th sb ++ wR G (ad 1) (sel (eS hB (-3) 0) k2 kd) (sel (eS hB (-3) 0) r2 r) ++ wR G (ad 2) k1 r1 ++ wR G (ad 3) k2 r2 ++ wK (ad 4))) := by
  refine z_openiW (hh := [(0, 49, 50, 239)]) (by decide) (Nat.le_of_ble_eq_true rfl) (fun _ _ _ => rfl) ?_
  intro p e s m args below meth c A Q ls C0 hK hZ hP hD hA hl htb hret
  obtain ⟨hx, hb, hml, hown, hts⟩ := id C0
  have hS : va_S A s.heap s.heap [] := va_S.rf
  have hP : va_P G.1 vwCl (wX G ad ho rn ln dr ro lt rf th sb ++ wR G (ad 1) kd r ++ wR G (ad 2) k1 r1 ++ wR G (ad 3) k2 r2 ++ wK (ad 4)) s.heap := hP
  have hD : va_D A (wX G ad ho rn ln dr ro lt rf th sb ++ wR G (ad 1) kd r ++ wR G (ad 2) k1 r1 ++ wR G (ad 3) k2 r2 ++ wK (ad 4)) := hD
  have hl : lv_has ls 8 [(0, .ref (ad 0 0)), (1, .int 31), (2, .int z10), (3, .int z11), (4, .int z12), (5, .int z13), (6, .int z14)] := hl
  have hr0 := hr.n
  have hN := hr.le
  refine lv_iload_n hx hb dX0_act_0 rfl (lv_at hl 1 rfl) ?_
  refine lv_bipush (v := 9) hx hb dX0_act_1 (by decide) ?_
  refine lv_icmp_ge (tgt := 18) hx hb dX0_act_3 (by decide) (fun c_1 => ?_) (fun c_1 => ?_)
  · skip
    refine lv_iload_n hx hb dX0_act_18 rfl (lv_at hl 1 rfl) ?_
    refine lv_bipush (v := 18) hx hb dX0_act_19 (by decide) ?_
    refine lv_icmp_ge (tgt := 36) hx hb dX0_act_21 (by decide) (fun c_2 => ?_) (fun c_2 => ?_)
    · skip
      refine lv_aload_n hx hb dX0_act_36 rfl (lv_at hl 0 rfl) ?_
      refine lv_iload_n hx hb dX0_act_37 rfl (lv_at hl 1 rfl) ?_
      refine lv_iload_n hx hb dX0_act_38 rfl (lv_at hl 2 rfl) ?_
      refine lv_iload_n hx hb dX0_act_39 rfl (lv_at hl 3 rfl) ?_
      refine lv_iload hx hb dX0_act_40 (lv_at hl 4 rfl) ?_
      refine lv_iload hx hb dX0_act_42 (lv_at hl 5 rfl) ?_
      refine lv_iload hx hb dX0_act_44 (lv_at hl 6 rfl) ?_
      refine y_Vi (wN := fun u_3 => (wX G ad ho rn ln dr ro lt rf th sb ++ wR G (ad 1) k2 r2 ++ wR G (ad 2) k1 r1 ++ wR G (ad 3) k2 r2 ++ wK (ad 4))) (wNx := fun u9 => (wX G ad ho rn ln dr ro lt rf th sb ++ wR G (ad 1) kd r ++ wR G (ad 2) k1 r1 ++ wR G (ad 3) k2 r2 ++ wK (ad 4))) ⟨C0, hK, hP, hD, hS, hA⟩ hZ 0 rfl (ci := 0) rfl rfl ((m_rest_31 l hl0 G ad kd k1 k2 r r1 r2 ho rn ln dr ro lt rf th sb hr hp hk z10 z11 z12 z13 z14 hB hho h2)) (cwV 6 hts (lw_V q875 q877 qs40 q86 q878) rfl rfl rfl (by decide +kernel) ⟨Nat.le_of_ble_eq_true rfl, Nat.le_of_ble_eq_true rfl⟩) [0, 1, 2, 3, 4, 5, 6, 7, 8, 9, 10, 11, 12, 13, 14, 15, 16, 17, 18, 19, 20, 21, 22, 23, 24, 25, 26, 27, 28, 29, 30] [1, 3, 5, 7, 9, 11, 13, 15, 17, 19, 21, 23, 25, 27, 29, 31, 33, 35, 37, 39, 41, 43, 45, 47, 49, 51, 53, 55, 57, 59, 61] [1, 3, 5, 7, 9, 11, 13, 15, 17, 19, 21, 23, 25, 27, 29, 31, 33, 35, 37, 39, 41, 43, 45, 47, 49, 51, 53, 55, 57, 59, 61, 63] rfl (fun _ => rfl) (fun _ _ _ => rfl) rfl rfl rfl hl.1 rfl (Nat.le_of_ble_eq_true rfl) dX0_act_46 ⟨(Nat.le_of_ble_eq_true rfl), (Nat.le_of_ble_eq_true rfl)⟩ (fun q9 u9 ee H locs hw_3 hP hD hS => ?_) (fun r_3 u_3 H locs hw_3 hP hD hS => ?_)
      · skip
        refine z_catch ⟨0, 49, 50, 239⟩ hown hK htb rfl (by decide) (by decide) (hts _ q273) hP ?_
        have hthr9 : ee.2.1 = eS hB (-3) 0 ∧ eS hB (-3) 0 ≠ 0 := hw_3
        refine lv_astore (lv' := [(7, .ref q9), (0, .ref (ad 0 0)), (1, .int 31), (2, .int z10), (3, .int z11), (4, .int z12), (5, .int z13), (6, .int z14)]) hx hb dX0_act_50 hl (by decide) rfl (fun ls hl => ?_)
        refine lv_aload_n hx hb dX0_act_52 rfl (lv_at hl 1 rfl) ?_
        refine lv_aload hx hb dX0_act_53 (lv_at hl 0 rfl) ?_
        obtain ⟨ek, en, e1, e2, e3⟩ := ee
        cases ek
        · skip
          have hP : va_P G.1 vwCl (wX G ad ho rn ln dr ro lt rf th sb ++ wR G (ad 1) kd r ++ wR G (ad 2) k1 r1 ++ wR G (ad 3) k2 r2 ++ wK (ad 4) ++ [(q9, .inr (9, [e1, e2, e3, .null, .null, .int 0, .int en]))]) H := hP
          have hD : va_D A (wX G ad ho rn ln dr ro lt rf th sb ++ wR G (ad 1) kd r ++ wR G (ad 2) k1 r1 ++ wR G (ad 3) k2 r2 ++ wK (ad 4) ++ [(q9, .inr (9, [e1, e2, e3, .null, .null, .int 0, .int en]))]) := hD
          obtain ⟨een, hne⟩ := hthr9
          have een : en = eS hB (-3) 0 := een
          subst een
          have hP : va_P G.1 vwCl (wX G ad ho rn ln dr ro lt rf th sb ++ wR G (ad 1) kd r ++ wR G (ad 2) k1 r1 ++ wR G (ad 3) k2 r2 ++ wK (ad 4) ++ [(q9, .inr (9, [e1, e2, e3, .null, .null, .int 0, .int (eS hB (-3) 0)]))]) H := hP
          have hD : va_D A (wX G ad ho rn ln dr ro lt rf th sb ++ wR G (ad 1) kd r ++ wR G (ad 2) k1 r1 ++ wR G (ad 3) k2 r2 ++ wK (ad 4) ++ [(q9, .inr (9, [e1, e2, e3, .null, .null, .int 0, .int (eS hB (-3) 0)]))]) := hD
          refine x_Ui (wN := fun _ => (wX G ad ho rn ln dr ro lt rf th sb ++ wR G (ad 1) kd r ++ wR G (ad 2) k1 r1 ++ wR G (ad 3) k2 r2 ++ wK (ad 4) ++ [(q9, .inr (9, [e1, e2, e3, .null, .null, .int 0, .int (eS hB (-3) 0)]))])) ⟨C0, hK, hP, hD, hS, hA⟩ 31 rfl (ci := 9) rfl rfl ((m_X11_number l G q9 e1 e2 e3 (eS hB (-3) 0))) (va_cwA (owner := "PulledFromUnder$Refusal") 0 hts (lw_U q990 q992 q996 q997 q100 q998) rfl rfl rfl (hK.2.D 13 rfl) (by decide +kernel) ⟨Nat.le_of_ble_eq_true rfl, Nat.le_of_ble_eq_true rfl⟩) [31] [0, 2, 4, 6, 8, 10, 12, 14, 16, 18, 20, 22, 24, 26, 28, 30, 32, 34, 36, 38, 40, 42, 44, 46, 48, 50, 52, 54, 56, 58, 60, 1] rfl (fun _ => rfl) rfl rfl hl.1 rfl (Nat.le_of_ble_eq_true rfl) dX0_act_55 ⟨(Nat.le_of_ble_eq_true rfl), (Nat.le_of_ble_eq_true rfl)⟩ (fun r_4 u_4 H locs hw_4 hP hD hS => ?_)
          have hw_4 : (eS hB (-3) 0 : Int32) = r_4 := hw_4.symm
          subst hw_4
          refine x_Vi (wN := fun _ => (wX G ad ho rn ln dr ro lt (rfU rf (eS hB (-3) 0)) th sb ++ wR G (ad 1) kd r ++ wR G (ad 2) k1 r1 ++ wR G (ad 3) k2 r2 ++ wK (ad 4) ++ [(q9, .inr (9, [e1, e2, e3, .null, .null, .int 0, .int (eS hB (-3) 0)]))])) ⟨C0, hK, hP, hD, hS, hA⟩ 0 rfl (ci := 0) rfl rfl ((m_refuse l G ad kd k1 k2 r r1 r2 ho rn ln dr ro lt rf th sb hr hp hk (eS hB (-3) 0) (rfOk_S rfOk_k.2.2.1 rfOk_0))) (cwV 1 hts (lw_V q999 q1001 qs62 q86 q1002) rfl rfl rfl (by decide +kernel) ⟨Nat.le_of_ble_eq_true rfl, Nat.le_of_ble_eq_true rfl⟩) [0, 1, 2, 3, 4, 5, 6, 7, 8, 9, 10, 11, 12, 13, 14, 15, 16, 17, 18, 19, 20, 21, 22, 23, 24, 25, 26, 27, 28, 29, 30] [1, 3, 5, 7, 9, 11, 13, 15, 17, 19, 21, 23, 25, 27, 29, 31, 33, 35, 37, 39, 41, 43, 45, 47, 49, 51, 53, 55, 57, 59, 61, 62] rfl (fun _ => rfl) rfl rfl hl.1 rfl (Nat.le_of_ble_eq_true rfl) dX0_act_58 ⟨(Nat.le_of_ble_eq_true rfl), (Nat.le_of_ble_eq_true rfl)⟩ (fun r_5 u_5 H locs hw_5 hP hD hS => ?_)
          have hw_5 : (eS hB (-3) 0 : Int32) = r_5 := hw_5.symm
          subst hw_5
          have hP : va_P G.1 vwCl (wX G ad ho rn ln dr ro lt (rfU rf (eS hB (-3) 0)) th sb ++ wR G (ad 1) kd r ++ wR G (ad 2) k1 r1 ++ wR G (ad 3) k2 r2 ++ wK (ad 4) ++ [(q9, .inr (9, [e1, e2, e3, .null, .null, .int 0, .int (eS hB (-3) 0)]))]) H := hP
          have hD : va_D A (wX G ad ho rn ln dr ro lt (rfU rf (eS hB (-3) 0)) th sb ++ wR G (ad 1) kd r ++ wR G (ad 2) k1 r1 ++ wR G (ad 3) k2 r2 ++ wK (ad 4) ++ [(q9, .inr (9, [e1, e2, e3, .null, .null, .int 0, .int (eS hB (-3) 0)]))]) := hD
          have hP := x_dropP hP
          have hD := x_dropD hD
          have hP : va_P G.1 vwCl (wX G ad ho rn ln dr ro lt (sel (eS hB (-3) 0) rf (rfU rf (eS hB (-3) 0))) th sb ++ wR G (ad 1) (sel (eS hB (-3) 0) k2 kd) (sel (eS hB (-3) 0) r2 r) ++ wR G (ad 2) k1 r1 ++ wR G (ad 3) k2 r2 ++ wK (ad 4)) H := by simp only [sel_n hne]; exact hP
          have hD : va_D A (wX G ad ho rn ln dr ro lt (sel (eS hB (-3) 0) rf (rfU rf (eS hB (-3) 0))) th sb ++ wR G (ad 1) (sel (eS hB (-3) 0) k2 kd) (sel (eS hB (-3) 0) r2 r) ++ wR G (ad 2) k1 r1 ++ wR G (ad 3) k2 r2 ++ wK (ad 4)) := by simp only [sel_n hne]; exact hD
          refine hret _ _ _ _ _ _ (eS hB (-3) 0) () dX0_act_61 ?_ hP hD hS (Nat.le_of_ble_eq_true rfl) (Nat.le_of_ble_eq_true rfl)
          exact (sel_n hne).symm
        · skip
          have hP : va_P G.1 vwCl (wX G ad ho rn ln dr ro lt rf th sb ++ wR G (ad 1) kd r ++ wR G (ad 2) k1 r1 ++ wR G (ad 3) k2 r2 ++ wK (ad 4) ++ [(q9, .inr (11, [e1, e2, e3, .null, .null, .int 0, .int en]))]) H := hP
          have hD : va_D A (wX G ad ho rn ln dr ro lt rf th sb ++ wR G (ad 1) kd r ++ wR G (ad 2) k1 r1 ++ wR G (ad 3) k2 r2 ++ wK (ad 4) ++ [(q9, .inr (11, [e1, e2, e3, .null, .null, .int 0, .int en]))]) := hD
          obtain ⟨een, hne⟩ := hthr9
          have een : en = eS hB (-3) 0 := een
          subst een
          have hP : va_P G.1 vwCl (wX G ad ho rn ln dr ro lt rf th sb ++ wR G (ad 1) kd r ++ wR G (ad 2) k1 r1 ++ wR G (ad 3) k2 r2 ++ wK (ad 4) ++ [(q9, .inr (11, [e1, e2, e3, .null, .null, .int 0, .int (eS hB (-3) 0)]))]) H := hP
          have hD : va_D A (wX G ad ho rn ln dr ro lt rf th sb ++ wR G (ad 1) kd r ++ wR G (ad 2) k1 r1 ++ wR G (ad 3) k2 r2 ++ wK (ad 4) ++ [(q9, .inr (11, [e1, e2, e3, .null, .null, .int 0, .int (eS hB (-3) 0)]))]) := hD
          refine x_Ui (wN := fun _ => (wX G ad ho rn ln dr ro lt rf th sb ++ wR G (ad 1) kd r ++ wR G (ad 2) k1 r1 ++ wR G (ad 3) k2 r2 ++ wK (ad 4) ++ [(q9, .inr (11, [e1, e2, e3, .null, .null, .int 0, .int (eS hB (-3) 0)]))])) ⟨C0, hK, hP, hD, hS, hA⟩ 31 rfl (ci := 11) rfl rfl ((m_X13_number l G q9 e1 e2 e3 (eS hB (-3) 0))) (va_cwA (owner := "PulledFromUnder$Refusal") 0 hts (lw_U q990 q992 q993 q994 q102 q995) rfl rfl rfl (hK.2.D 13 rfl) (by decide +kernel) ⟨Nat.le_of_ble_eq_true rfl, Nat.le_of_ble_eq_true rfl⟩) [31] [0, 2, 4, 6, 8, 10, 12, 14, 16, 18, 20, 22, 24, 26, 28, 30, 32, 34, 36, 38, 40, 42, 44, 46, 48, 50, 52, 54, 56, 58, 60, 1] rfl (fun _ => rfl) rfl rfl hl.1 rfl (Nat.le_of_ble_eq_true rfl) dX0_act_55 ⟨(Nat.le_of_ble_eq_true rfl), (Nat.le_of_ble_eq_true rfl)⟩ (fun r_6 u_6 H locs hw_6 hP hD hS => ?_)
          have hw_6 : (eS hB (-3) 0 : Int32) = r_6 := hw_6.symm
          subst hw_6
          refine x_Vi (wN := fun _ => (wX G ad ho rn ln dr ro lt (rfU rf (eS hB (-3) 0)) th sb ++ wR G (ad 1) kd r ++ wR G (ad 2) k1 r1 ++ wR G (ad 3) k2 r2 ++ wK (ad 4) ++ [(q9, .inr (11, [e1, e2, e3, .null, .null, .int 0, .int (eS hB (-3) 0)]))])) ⟨C0, hK, hP, hD, hS, hA⟩ 0 rfl (ci := 0) rfl rfl ((m_refuse l G ad kd k1 k2 r r1 r2 ho rn ln dr ro lt rf th sb hr hp hk (eS hB (-3) 0) (rfOk_S rfOk_k.2.2.1 rfOk_0))) (cwV 1 hts (lw_V q999 q1001 qs62 q86 q1002) rfl rfl rfl (by decide +kernel) ⟨Nat.le_of_ble_eq_true rfl, Nat.le_of_ble_eq_true rfl⟩) [0, 1, 2, 3, 4, 5, 6, 7, 8, 9, 10, 11, 12, 13, 14, 15, 16, 17, 18, 19, 20, 21, 22, 23, 24, 25, 26, 27, 28, 29, 30] [1, 3, 5, 7, 9, 11, 13, 15, 17, 19, 21, 23, 25, 27, 29, 31, 33, 35, 37, 39, 41, 43, 45, 47, 49, 51, 53, 55, 57, 59, 61, 62] rfl (fun _ => rfl) rfl rfl hl.1 rfl (Nat.le_of_ble_eq_true rfl) dX0_act_58 ⟨(Nat.le_of_ble_eq_true rfl), (Nat.le_of_ble_eq_true rfl)⟩ (fun r_7 u_7 H locs hw_7 hP hD hS => ?_)
          have hw_7 : (eS hB (-3) 0 : Int32) = r_7 := hw_7.symm
          subst hw_7
          have hP : va_P G.1 vwCl (wX G ad ho rn ln dr ro lt (rfU rf (eS hB (-3) 0)) th sb ++ wR G (ad 1) kd r ++ wR G (ad 2) k1 r1 ++ wR G (ad 3) k2 r2 ++ wK (ad 4) ++ [(q9, .inr (11, [e1, e2, e3, .null, .null, .int 0, .int (eS hB (-3) 0)]))]) H := hP
          have hD : va_D A (wX G ad ho rn ln dr ro lt (rfU rf (eS hB (-3) 0)) th sb ++ wR G (ad 1) kd r ++ wR G (ad 2) k1 r1 ++ wR G (ad 3) k2 r2 ++ wK (ad 4) ++ [(q9, .inr (11, [e1, e2, e3, .null, .null, .int 0, .int (eS hB (-3) 0)]))]) := hD
          have hP := x_dropP hP
          have hD := x_dropD hD
          have hP : va_P G.1 vwCl (wX G ad ho rn ln dr ro lt (sel (eS hB (-3) 0) rf (rfU rf (eS hB (-3) 0))) th sb ++ wR G (ad 1) (sel (eS hB (-3) 0) k2 kd) (sel (eS hB (-3) 0) r2 r) ++ wR G (ad 2) k1 r1 ++ wR G (ad 3) k2 r2 ++ wK (ad 4)) H := by simp only [sel_n hne]; exact hP
          have hD : va_D A (wX G ad ho rn ln dr ro lt (sel (eS hB (-3) 0) rf (rfU rf (eS hB (-3) 0))) th sb ++ wR G (ad 1) (sel (eS hB (-3) 0) k2 kd) (sel (eS hB (-3) 0) r2 r) ++ wR G (ad 2) k1 r1 ++ wR G (ad 3) k2 r2 ++ wK (ad 4)) := by simp only [sel_n hne]; exact hD
          refine hret _ _ _ _ _ _ (eS hB (-3) 0) () dX0_act_61 ?_ hP hD hS (Nat.le_of_ble_eq_true rfl) (Nat.le_of_ble_eq_true rfl)
          exact (sel_n hne).symm
      · skip
        obtain ⟨hz_3, hw_3⟩ := hw_3
        have hw_3 : (r2 5 1 : Int32) = r_3 := hw_3.symm
        subst hw_3
        have hP : va_P G.1 vwCl (wX G ad ho rn ln dr ro lt rf th sb ++ wR G (ad 1) k2 r2 ++ wR G (ad 2) k1 r1 ++ wR G (ad 3) k2 r2 ++ wK (ad 4)) H := hP
        have hD : va_D A (wX G ad ho rn ln dr ro lt rf th sb ++ wR G (ad 1) k2 r2 ++ wR G (ad 2) k1 r1 ++ wR G (ad 3) k2 r2 ++ wK (ad 4)) := hD
        refine W.widen (k := 1) (n := 7) (Nat.le_of_ble_eq_true rfl) (Nat.le_of_ble_eq_true rfl) ?_
        have hP : va_P G.1 vwCl (wX G ad ho rn ln dr ro lt (sel (eS hB (-3) 0) rf (rfU rf (eS hB (-3) 0))) th sb ++ wR G (ad 1) (sel (eS hB (-3) 0) k2 kd) (sel (eS hB (-3) 0) r2 r) ++ wR G (ad 2) k1 r1 ++ wR G (ad 3) k2 r2 ++ wK (ad 4)) H := by simp only [sel_0 hz_3]; exact hP
        have hD : va_D A (wX G ad ho rn ln dr ro lt (sel (eS hB (-3) 0) rf (rfU rf (eS hB (-3) 0))) th sb ++ wR G (ad 1) (sel (eS hB (-3) 0) k2 kd) (sel (eS hB (-3) 0) r2 r) ++ wR G (ad 2) k1 r1 ++ wR G (ad 3) k2 r2 ++ wK (ad 4)) := by simp only [sel_0 hz_3]; exact hD
        refine hret _ _ _ _ _ _ (r2 5 1) () dX0_act_49 ?_ hP hD hS (Nat.le_of_ble_eq_true rfl) (Nat.le_of_ble_eq_true rfl)
        exact (sel_0 hz_3).symm
    · skip
      exact absurd c_2 (by decide)
  · skip
    exact absurd c_1 (by decide)

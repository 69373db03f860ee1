/-! methods in mind, 3 (printed by tools/mind3.py) -/
set_option maxHeartbeats 4000000 in
set_option maxRecDepth 100000 in
theorem m_isOrder (l : Launch) (G : xG) (k : Nat) (hk1 : k < 1000) : xCi l G yX0_isOrder cX0_isOrder 4 (some .boolean) ({ frames := 0, cells := 0, slots := 0, locals := 0 } : Room) [.int (nI k)] ([] : va_W) (S := Unit) (fun v _ => v = bI (isOrd k)) (fun _ => []) := by
  refine x_openi (by decide) (Nat.le_of_ble_eq_true rfl) (fun _ _ h => by rw [h]; exact bI_z _) ?_
  intro p e s m args below meth c A Q ls C0 hK hP hD hA hl hret
  obtain ⟨hx, hb, hml, hown, hts⟩ := id C0
  have hS : va_S A s.heap s.heap [] := va_S.rf
  have hP : va_P G.1 vwCl ([] : va_W) s.heap := hP
  have hD : va_D A ([] : va_W) := hD
  have hl : lv_has ls 4 [(0, .int (nI k))] := hl
  refine lv_iload_n hx hb dX0_isOrder_0 rfl (lv_at hl 0 rfl) ?_
  refine lv_bipush (v := 100) hx hb dX0_isOrder_1 (by decide) ?_
  refine x_idiv hx hb dX0_isOrder_3 (by decide) (v := nI (k / 100)) (pk_div (d := 100) (by omega) (by omega) (by omega)) ?_
  refine lv_istore_n (lv' := [(1, .int (nI (k / 100))), (0, .int (nI k))]) hx hb dX0_isOrder_4 rfl hl (by decide) rfl (fun ls hl => ?_)
  refine lv_iload_n hx hb dX0_isOrder_5 rfl (lv_at hl 1 rfl) ?_
  refine lv_bipush (v := 10) hx hb dX0_isOrder_6 (by decide) ?_
  refine x_idiv hx hb dX0_isOrder_8 (by decide) (v := nI (k / 10)) (pk_div (d := 10) (by omega) (by omega) (by omega)) ?_
  refine lv_bipush (v := 10) hx hb dX0_isOrder_9 (by decide) ?_
  refine x_irem hx hb dX0_isOrder_11 (by decide) (v := nI (k / 10 % 10)) (pk_rem (d := 10) (by omega) (by omega) (by omega)) ?_
  refine lv_istore_n (lv' := [(2, .int (nI (k / 10 % 10))), (1, .int (nI (k / 100))), (0, .int (nI k))]) hx hb dX0_isOrder_12 rfl hl (by decide) rfl (fun ls hl => ?_)
  refine lv_iload_n hx hb dX0_isOrder_13 rfl (lv_at hl 2 rfl) ?_
  refine lv_bipush (v := 10) hx hb dX0_isOrder_14 (by decide) ?_
  refine x_irem hx hb dX0_isOrder_16 (by decide) (v := nI (k % 10)) (pk_rem (d := 10) (by omega) (by omega) (by omega)) ?_
  refine lv_istore_n (lv' := [(3, .int (nI (k % 10))), (2, .int (nI (k / 10 % 10))), (1, .int (nI (k / 100))), (0, .int (nI k))]) hx hb dX0_isOrder_17 rfl hl (by decide) rfl (fun ls hl => ?_)
  refine lv_iload_n hx hb dX0_isOrder_18 rfl (lv_at hl 2 rfl) ?_
  refine lv_iconst (v := 3) hx hb dX0_isOrder_19 (by decide) ?_
  refine lv_icmp_ge (tgt := 52) hx hb dX0_isOrder_20 (by decide) (fun c_1 => ?_) (fun c_1 => ?_)
  · skip
    have g_1 := (nI_leI (by omega) (by omega)).mp (show nI (k / 100) ≥ nI 3 from c_1)
    refine lv_iconst (v := 0) hx hb dX0_isOrder_52 (by decide) ?_
    refine hret _ _ _ _ _ _ 0 () dX0_isOrder_53 ?_ hP hD hS (Nat.le_of_ble_eq_true rfl) (Nat.le_of_ble_eq_true rfl)
    unfold isOrd
    exact bI_F (decide_eq_false (by omega))
  · skip
    have g_1 := mt (nI_leI (by omega) (by omega)).mpr (show ¬ (nI (k / 100) ≥ nI 3) from c_1)
    refine lv_iload_n hx hb dX0_isOrder_23 rfl (lv_at hl 1 rfl) ?_
    refine lv_iconst (v := 3) hx hb dX0_isOrder_24 (by decide) ?_
    refine lv_icmp_ge (tgt := 52) hx hb dX0_isOrder_25 (by decide) (fun c_2 => ?_) (fun c_2 => ?_)
    · skip
      have g_2 := (nI_leI (by omega) (by omega)).mp (show nI (k / 10 % 10) ≥ nI 3 from c_2)
      refine lv_iconst (v := 0) hx hb dX0_isOrder_52 (by decide) ?_
      refine hret _ _ _ _ _ _ 0 () dX0_isOrder_53 ?_ hP hD hS (Nat.le_of_ble_eq_true rfl) (Nat.le_of_ble_eq_true rfl)
      unfold isOrd
      exact bI_F (decide_eq_false (by omega))
    · skip
      have g_2 := mt (nI_leI (by omega) (by omega)).mpr (show ¬ (nI (k / 10 % 10) ≥ nI 3) from c_2)
      refine lv_iload_n hx hb dX0_isOrder_28 rfl (lv_at hl 0 rfl) ?_
      refine lv_iconst (v := 3) hx hb dX0_isOrder_29 (by decide) ?_
      refine lv_icmp_ge (tgt := 52) hx hb dX0_isOrder_30 (by decide) (fun c_3 => ?_) (fun c_3 => ?_)
      · skip
        have g_3 := (nI_leI (by omega) (by omega)).mp (show nI (k % 10) ≥ nI 3 from c_3)
        refine lv_iconst (v := 0) hx hb dX0_isOrder_52 (by decide) ?_
        refine hret _ _ _ _ _ _ 0 () dX0_isOrder_53 ?_ hP hD hS (Nat.le_of_ble_eq_true rfl) (Nat.le_of_ble_eq_true rfl)
        unfold isOrd
        exact bI_F (decide_eq_false (by omega))
      · skip
        have g_3 := mt (nI_leI (by omega) (by omega)).mpr (show ¬ (nI (k % 10) ≥ nI 3) from c_3)
        refine lv_iload_n hx hb dX0_isOrder_33 rfl (lv_at hl 2 rfl) ?_
        refine lv_iload_n hx hb dX0_isOrder_34 rfl (lv_at hl 1 rfl) ?_
        refine lv_icmp_eq (tgt := 52) hx hb dX0_isOrder_35 (by decide) (fun c_4 => ?_) (fun c_4 => ?_)
        · skip
          have g_4 := (nI_eq (by omega) (by omega)).mp c_4
          refine lv_iconst (v := 0) hx hb dX0_isOrder_52 (by decide) ?_
          refine hret _ _ _ _ _ _ 0 () dX0_isOrder_53 ?_ hP hD hS (Nat.le_of_ble_eq_true rfl) (Nat.le_of_ble_eq_true rfl)
          unfold isOrd
          exact bI_F (decide_eq_false (by omega))
        · skip
          have g_4 := mt (nI_eq (by omega) (by omega)).mpr c_4
          refine lv_iload_n hx hb dX0_isOrder_38 rfl (lv_at hl 2 rfl) ?_
          refine lv_iload_n hx hb dX0_isOrder_39 rfl (lv_at hl 0 rfl) ?_
          refine lv_icmp_eq (tgt := 52) hx hb dX0_isOrder_40 (by decide) (fun c_5 => ?_) (fun c_5 => ?_)
          · skip
            have g_5 := (nI_eq (by omega) (by omega)).mp c_5
            refine lv_iconst (v := 0) hx hb dX0_isOrder_52 (by decide) ?_
            refine hret _ _ _ _ _ _ 0 () dX0_isOrder_53 ?_ hP hD hS (Nat.le_of_ble_eq_true rfl) (Nat.le_of_ble_eq_true rfl)
            unfold isOrd
            exact bI_F (decide_eq_false (by omega))
          · skip
            have g_5 := mt (nI_eq (by omega) (by omega)).mpr c_5
            refine lv_iload_n hx hb dX0_isOrder_43 rfl (lv_at hl 1 rfl) ?_
            refine lv_iload_n hx hb dX0_isOrder_44 rfl (lv_at hl 0 rfl) ?_
            refine lv_icmp_eq (tgt := 52) hx hb dX0_isOrder_45 (by decide) (fun c_6 => ?_) (fun c_6 => ?_)
            · skip
              have g_6 := (nI_eq (by omega) (by omega)).mp c_6
              refine lv_iconst (v := 0) hx hb dX0_isOrder_52 (by decide) ?_
              refine hret _ _ _ _ _ _ 0 () dX0_isOrder_53 ?_ hP hD hS (Nat.le_of_ble_eq_true rfl) (Nat.le_of_ble_eq_true rfl)
              unfold isOrd
              exact bI_F (decide_eq_false (by omega))
            · skip
              have g_6 := mt (nI_eq (by omega) (by omega)).mpr c_6
              refine lv_iconst (v := 1) hx hb dX0_isOrder_48 (by decide) ?_
              refine lv_goto (tgt := 53) hx hb dX0_isOrder_49 (by decide) ?_
              refine hret _ _ _ _ _ _ 1 () dX0_isOrder_53 ?_ hP hD hS (Nat.le_of_ble_eq_true rfl) (Nat.le_of_ble_eq_true rfl)
              unfold isOrd
              exact bI_T (decide_eq_true (by omega))
set_option maxHeartbeats 4000000 in
set_option maxRecDepth 100000 in
theorem m_standingBy (l : Launch) (G : xG) (ad : Nat → Nat → Nat) (kd k1 k2 : Nat → Option Nat) (r r1 r2 : Rw) (ho rn ln dr : Int32) (ro lt rf th sb : Nat → Int32) (hr : Ok r) (hp : r 5 3 = 0) (hk : kOk (ad 4) kd r) (k : Nat) (hkk : k < 1000) (sp : Int32) (ix : Nat → Nat) (hth : ∀ j, j < 3 → th j = nI (ix j) ∧ ix j < mny r) (hd3 : k / 100 < 3 ∧ k / 10 % 10 < 3 ∧ k % 10 < 3) : xCi l G yX0_standingBy cX0_standingBy 8 (some .int) ({ frames := 6, cells := 0, slots := 0, locals := 130 } : Room) [.ref (ad 0 0), .int (nI k), .int sp] (wX G ad ho rn ln dr ro lt rf th sb ++ wR G (ad 1) kd r ++ wR G (ad 2) k1 r1 ++ wR G (ad 3) k2 r2 ++ wK (ad 4)) (S := ((Nat → Option Nat) × Rw)) (fun v _ => v = pOV r ix sp k) (fun u => (wX G ad ho rn ln dr ro lt rf th sb ++ wR G (ad 1) kd r ++ wR G (ad 2) u.1 u.2 ++ wR G (ad 3) k2 r2 ++ wK (ad 4))) := by
  refine x_openi (by decide) (Nat.le_of_ble_eq_true rfl) (fun _ _ _ => rfl) ?_
  intro p e s m args below meth c A Q ls C0 hK hP hD hA hl hret
  obtain ⟨hx, hb, hml, hown, hts⟩ := id C0
  have hS : va_S A s.heap s.heap [] := va_S.rf
  have hP : va_P G.1 vwCl (wX G ad ho rn ln dr ro lt rf th sb ++ wR G (ad 1) kd r ++ wR G (ad 2) k1 r1 ++ wR G (ad 3) k2 r2 ++ wK (ad 4)) s.heap := hP
  have hD : va_D A (wX G ad ho rn ln dr ro lt rf th sb ++ wR G (ad 1) kd r ++ wR G (ad 2) k1 r1 ++ wR G (ad 3) k2 r2 ++ wK (ad 4)) := hD
  have hl : lv_has ls 8 [(0, .ref (ad 0 0)), (1, .int (nI k)), (2, .int sp)] := hl
  have hr0 := hr.n
  have hN := hr.le
  refine lv_aload_n hx hb dX0_standingBy_0 rfl (lv_at hl 0 rfl) ?_
  refine x_Vr (wN := fun _ => (wX G ad ho rn ln dr ro lt rf th sb ++ wR G (ad 1) kd r ++ wR G (ad 2) kd r ++ wR G (ad 3) k2 r2 ++ wK (ad 4))) ⟨C0, hK, hP, hD, hS, hA⟩ 0 rfl (ci := 0) rfl rfl ((m_openMind l G ad kd k1 k2 r r1 r2 ho rn ln dr ro lt rf th sb hr hp hk )) (cwV 0 hts (lw_V q795 q797 qs25 q86 q798) rfl rfl rfl (by decide +kernel) ⟨Nat.le_of_ble_eq_true rfl, Nat.le_of_ble_eq_true rfl⟩) [0, 1, 2, 3, 4, 5, 6, 7, 8, 9, 10, 11, 12, 13, 14, 15, 16, 17, 18, 19, 20, 21, 22, 23, 24, 25, 26, 27, 28, 29, 30] [1, 3, 5, 7, 9, 11, 13, 15, 17, 19, 21, 23, 25, 27, 29, 31, 33, 35, 37, 39, 41, 43, 45, 47, 49, 51, 53, 55, 57, 59, 61] rfl (fun _ => rfl) rfl rfl hl.1 rfl (Nat.le_of_ble_eq_true rfl) dX0_standingBy_1 ⟨Nat.le_of_ble_eq_true rfl, Nat.le_of_ble_eq_true rfl⟩ (fun u_1 H locs hw_1 hP hD hS => ?_)
  have hP : va_P G.1 vwCl (wX G ad ho rn ln dr ro lt rf th sb ++ wR G (ad 1) kd r ++ wR G (ad 2) kd r ++ wR G (ad 3) k2 r2 ++ wK (ad 4)) H := hP
  have hD : va_D A (wX G ad ho rn ln dr ro lt rf th sb ++ wR G (ad 1) kd r ++ wR G (ad 2) kd r ++ wR G (ad 3) k2 r2 ++ wK (ad 4)) := hD
  refine lv_astore_n (lv' := [(3, .ref ((ad 2) 0)), (0, .ref (ad 0 0)), (1, .int (nI k)), (2, .int sp)]) hx hb dX0_standingBy_4 rfl hl (by decide) rfl (fun ls hl => ?_)
  refine lv_iload_n hx hb dX0_standingBy_5 rfl (lv_at hl 2 rfl) ?_
  refine lv_istore (lv' := [(4, .int (nI k)), (3, .ref ((ad 2) 0)), (0, .ref (ad 0 0)), (1, .int (nI k)), (2, .int sp)]) hx hb dX0_standingBy_6 hl (by decide) rfl (fun ls hl => ?_)
  refine lv_iconst (v := 0) hx hb dX0_standingBy_8 (by decide) ?_
  refine lv_istore (lv' := [(5, .int 0), (4, .int (nI k)), (3, .ref ((ad 2) 0)), (0, .ref (ad 0 0)), (1, .int (nI k)), (2, .int sp)]) hx hb dX0_standingBy_9 hl (by decide) rfl (fun ls hl => ?_)
  have loop_11 : ∀ (n : Nat) (i : Nat) (q : Rw), (i ≤ 10) → (10 < i + n) → (Ok q) → (kOk (ad 4) kd q) → (q 5 3 = 0) → (mny q = mny r) → (pOR r (fun j => ix (dig k j)) sp i = q) → ∀ (H : Heap) (locs : List Loc) (ls : Array Slot), va_P G.1 vwCl (wX G ad ho rn ln dr ro lt rf th sb ++ wR G (ad 1) kd r ++ wR G (ad 2) kd q ++ wR G (ad 3) k2 r2 ++ wK (ad 4)) H → va_D A (wX G ad ho rn ln dr ro lt rf th sb ++ wR G (ad 1) kd r ++ wR G (ad 2) kd q ++ wR G (ad 3) k2 r2 ++ wK (ad 4)) → va_S A s.heap H locs → lv_has ls 8 [(5, .int (nI i)), (4, .int (nI k)), (3, .ref ((ad 2) 0)), (0, .ref (ad 0 0)), (1, .int (nI k)), (2, .int sp)] → W p l e ({ frames := 6, cells := 0, slots := 0, locals := 130 } : Room) s m args below meth c H locs 0 0 Q (F0 m 11 ls []) := by
    intro n
    induction n with
    | zero => intro i q hi11_0 hi11_1 hi11_2 hi11_3 hi11_4 hi11_5 hi11_6; exact absurd hi11_1 (by omega)
    | succ n ih_11 =>
      intro i q hi11_0 hi11_1 hi11_2 hi11_3 hi11_4 hi11_5 hi11_6 H locs ls hP hD hS hl
      refine lv_iload hx hb dX0_standingBy_11 (lv_at hl 0 rfl) ?_
      refine lv_bipush (v := 10) hx hb dX0_standingBy_13 (by decide) ?_
      refine lv_icmp_ge (tgt := 112) hx hb dX0_standingBy_15 (by decide) (fun c_2 => ?_) (fun c_2 => ?_)
      · skip
        have g_2 := (nI_leI (by omega) (by omega)).mp (show nI i ≥ nI 10 from c_2)
        refine lv_aload_n hx hb dX0_standingBy_112 rfl (lv_at hl 2 rfl) ?_
        refine x_Vi (wN := fun _ => (wX G ad ho rn ln dr ro lt rf th sb ++ wR G (ad 1) kd r ++ wR G (ad 2) kd q ++ wR G (ad 3) k2 r2 ++ wK (ad 4))) ⟨C0, hK, hP, hD, hS, hA⟩ 13 rfl (ci := 7) rfl rfl ((m_standing l G (ad 2) (ad 4) kd q hi11_2 hi11_3)) (cwV 0 hts (lw_V q771 q772 q773 q94 q774) rfl rfl rfl (by decide +kernel) ⟨Nat.le_of_ble_eq_true rfl, Nat.le_of_ble_eq_true rfl⟩) [13, 14, 15, 16, 17, 18, 25, 26, 27, 28, 29, 30] [0, 2, 4, 6, 8, 10, 12, 14, 16, 18, 20, 22, 24, 1, 3, 5, 7, 9, 11, 38, 40, 42, 44, 46, 48, 13, 15, 17, 19, 21, 23] rfl (fun _ => rfl) rfl rfl hl.1 rfl (Nat.le_of_ble_eq_true rfl) dX0_standingBy_113 ⟨Nat.le_of_ble_eq_true rfl, Nat.le_of_ble_eq_true rfl⟩ (fun r_3 u_3 H locs hw_3 hP hD hS => ?_)
        have hw_3 : (pStN q : Int32) = r_3 := hw_3.symm
        subst hw_3
        refine hret _ _ _ _ _ _ (pStN q) (kd, q) dX0_standingBy_116 ?_ hP hD hS (Nat.le_of_ble_eq_true rfl) (Nat.le_of_ble_eq_true rfl)
        obtain rfl : i = 10 := by omega
        rw [← hi11_6]
        rfl
      · skip
        have g_2 := mt (nI_leI (by omega) (by omega)).mpr (show ¬ (nI i ≥ nI 10) from c_2)
        rcases (show i = 0 ∨ i = 1 ∨ i = 2 ∨ 3 ≤ i by omega) with rfl | rfl | rfl | h3
        · skip
          have hix := (hth (k / 100) (by omega)).2
          refine lv_iconst (v := 2) hx hb dX0_standingBy_18 (by decide) ?_
          refine lv_iload hx hb dX0_standingBy_19 (lv_at hl 0 rfl) ?_
          refine x_isub hx hb dX0_standingBy_21 (v := 2) (by decide) ?_
          refine lv_istore (lv' := [(6, .int 2), (5, .int (nI 0)), (4, .int (nI k)), (3, .ref ((ad 2) 0)), (0, .ref (ad 0 0)), (1, .int (nI k)), (2, .int sp)]) hx hb dX0_standingBy_22 hl (by decide) rfl (fun ls hl => ?_)
          refine lv_iload hx hb dX0_standingBy_24 (lv_at hl 0 rfl) ?_
          refine lv_if_ge (tgt := 34) hx hb dX0_standingBy_26 (by decide) (fun c_4 => ?_) (fun c_4 => ?_)
          · skip
            refine lv_aload_n hx hb dX0_standingBy_34 rfl (lv_at hl 4 rfl) ?_
            refine va_get (D := G.1) (ci := 0) (v := .ref (ad 0 5)) (C := RX0) (T := TX0) (N := 13) hx hb hts in_X0 hown hK.1 hP 0 rfl rfl 10 (by decide) (hts _ q233) (fun _ h9 => h9) rfl dX0_standingBy_35 ?_
            refine lv_iload hx hb dX0_standingBy_38 (lv_at hl 0 rfl) ?_
            refine lv_iconst (v := 2) hx hb dX0_standingBy_40 (by decide) ?_
            refine lv_icmp_ne (tgt := 52) hx hb dX0_standingBy_41 (by decide) (fun c_5 => ?_) (fun c_5 => ?_)
            · skip
              exact absurd c_5 (by decide)
            · skip
              refine lv_iload hx hb dX0_standingBy_44 (lv_at hl 2 rfl) ?_
              refine lv_bipush (v := 100) hx hb dX0_standingBy_46 (by decide) ?_
              refine x_idiv hx hb dX0_standingBy_48 (by decide) (v := nI (k / 100)) (pk_div (d := 100) (by omega) (by omega) (by omega)) ?_
              refine lv_goto (tgt := 74) hx hb dX0_standingBy_49 (by decide) ?_
              refine x_ialdn (k := (k / 100)) hx hb hK.1 hP 5 0 rfl rfl (by omega) (by decide) (v := nI (ix (k / 100))) (hth _ (by omega)).1 dX0_standingBy_74 ?_
              refine lv_istore (lv' := [(7, .int (nI (ix (k / 100)))), (6, .int 2), (5, .int (nI 0)), (4, .int (nI k)), (3, .ref ((ad 2) 0)), (0, .ref (ad 0 0)), (1, .int (nI k)), (2, .int sp)]) hx hb dX0_standingBy_75 hl (by decide) rfl (fun ls hl => ?_)
              refine lv_iload hx hb dX0_standingBy_77 (lv_at hl 0 rfl) ?_
              refine lv_bipush (v := (-9)) hx hb dX0_standingBy_79 (by decide) ?_
              refine lv_icmp_eq (tgt := 101) hx hb dX0_standingBy_81 (by decide) (fun c_6 => ?_) (fun c_6 => ?_)
              · skip
                exact absurd c_6 (m9_ne (by omega))
              · skip
                refine lv_aload_n hx hb dX0_standingBy_84 rfl (lv_at hl 4 rfl) ?_
                refine lv_iload hx hb dX0_standingBy_85 (lv_at hl 0 rfl) ?_
                refine x_Vi (wN := fun _ => (wX G ad ho rn ln dr ro lt rf th sb ++ wR G (ad 1) kd r ++ wR G (ad 2) kd q ++ wR G (ad 3) k2 r2 ++ wK (ad 4))) ⟨C0, hK, hP, hD, hS, hA⟩ 13 rfl (ci := 7) rfl rfl ((m_isStanding l G (ad 2) (ad 4) kd q hi11_2 hi11_3 (ix (k / 100)) (by omega))) (cwV 1 hts (lw_V q744 q558 q559 q94 q560) rfl rfl rfl (by decide +kernel) ⟨Nat.le_of_ble_eq_true rfl, Nat.le_of_ble_eq_true rfl⟩) [13, 14, 15, 16, 17, 18, 25, 26, 27, 28, 29, 30] [0, 2, 4, 6, 8, 10, 12, 14, 16, 18, 20, 22, 24, 1, 3, 5, 7, 9, 11, 38, 40, 42, 44, 46, 48, 13, 15, 17, 19, 21, 23] rfl (fun _ => rfl) rfl rfl hl.1 rfl (Nat.le_of_ble_eq_true rfl) dX0_standingBy_87 ⟨Nat.le_of_ble_eq_true rfl, Nat.le_of_ble_eq_true rfl⟩ (fun r_7 u_7 H locs hw_7 hP hD hS => ?_)
                have hw_7 : (bI (pSt q (ix (k / 100))) : Int32) = r_7 := hw_7.symm
                subst hw_7
                refine lv_if_eq (tgt := 101) hx hb dX0_standingBy_90 (by decide) (fun c_8 => ?_) (fun c_8 => ?_)
                · skip
                  refine lv_aload_n hx hb dX0_standingBy_101 rfl (lv_at hl 4 rfl) ?_
                  refine lv_iconst (v := 0) hx hb dX0_standingBy_102 (by decide) ?_
                  refine x_Vv (wN := fun _ => (wX G ad ho rn ln dr ro lt rf th sb ++ wR G (ad 1) kd r ++ wR G (ad 2) kd (pMin q 0) ++ wR G (ad 3) k2 r2 ++ wK (ad 4))) ⟨C0, hK, hP, hD, hS, hA⟩ 13 rfl (ci := 7) rfl rfl ((m_minuteOn l G (ad 2) (ad 4) kd q hi11_2 hi11_3 0)) (cwV 1 hts (lw_V q807 q627 q628 q94 q629) rfl rfl rfl (by decide +kernel) ⟨Nat.le_of_ble_eq_true rfl, Nat.le_of_ble_eq_true rfl⟩) [13, 14, 15, 16, 17, 18, 25, 26, 27, 28, 29, 30] [0, 2, 4, 6, 8, 10, 12, 14, 16, 18, 20, 22, 24, 1, 3, 5, 7, 9, 11, 38, 40, 42, 44, 46, 48, 13, 15, 17, 19, 21, 23] rfl (fun _ => rfl) rfl rfl hl.1 rfl (Nat.le_of_ble_eq_true rfl) dX0_standingBy_103 ⟨Nat.le_of_ble_eq_true rfl, Nat.le_of_ble_eq_true rfl⟩ (fun u_9 H locs hw_9 hP hD hS => ?_)
                  have hP : va_P G.1 vwCl (wX G ad ho rn ln dr ro lt rf th sb ++ wR G (ad 1) kd r ++ wR G (ad 2) kd (pMin q 0) ++ wR G (ad 3) k2 r2 ++ wK (ad 4)) H := hP
                  have hD : va_D A (wX G ad ho rn ln dr ro lt rf th sb ++ wR G (ad 1) kd r ++ wR G (ad 2) kd (pMin q 0) ++ wR G (ad 3) k2 r2 ++ wK (ad 4)) := hD
                  refine lv_iinc (v := nI (0 + 1)) (lv' := [(5, .int (nI (0 + 1))), (7, .int (nI (ix (k / 100)))), (6, .int 2), (4, .int (nI k)), (3, .ref ((ad 2) 0)), (0, .ref (ad 0 0)), (1, .int (nI k)), (2, .int sp)]) hx hb dX0_standingBy_106 hl (k := 2) rfl (x_inc1 _) (by decide) rfl (fun ls hl => ?_)
                  refine lv_goto (tgt := 11) hx hb dX0_standingBy_109 (by decide) ?_
                  exact ih_11 (0 + 1) (pMin q 0) (by omega) (by omega) (Ok.min hi11_2) (kOk.min hi11_3) hi11_4 hi11_5 (by show pOS (pOR r (fun j => ix (dig k j)) sp 0) _ sp 0 = _; rw [hi11_6]; exact pOS_n (fun _ => show pSt q (ix (k / 100)) = false from (by have h9 := c_8; simpa [bI_0] using h9))) _ _ _ hP hD hS (lv_sub hl [0, 3, 4, 5, 6, 7] rfl)
                · skip
                  refine lv_aload_n hx hb dX0_standingBy_93 rfl (lv_at hl 4 rfl) ?_
                  refine lv_iload hx hb dX0_standingBy_94 (lv_at hl 0 rfl) ?_
                  refine lv_iload_n hx hb dX0_standingBy_96 rfl (lv_at hl 7 rfl) ?_
                  refine x_Vi (wN := fun _ => (wX G ad ho rn ln dr ro lt rf th sb ++ wR G (ad 1) kd r ++ wR G (ad 2) kd (pPull q (ix (k / 100)) sp) ++ wR G (ad 3) k2 r2 ++ wK (ad 4))) ⟨C0, hK, hP, hD, hS, hA⟩ 13 rfl (ci := 7) rfl rfl ((m_pull l G (ad 2) (ad 4) kd q hi11_2 hi11_3 (ix (k / 100)) sp (by omega) hi11_4)) (cwV 2 hts (lw_V q745 q683 q684 q94 q685) rfl rfl rfl (by decide +kernel) ⟨Nat.le_of_ble_eq_true rfl, Nat.le_of_ble_eq_true rfl⟩) [13, 14, 15, 16, 17, 18, 25, 26, 27, 28, 29, 30] [0, 2, 4, 6, 8, 10, 12, 14, 16, 18, 20, 22, 24, 1, 3, 5, 7, 9, 11, 38, 40, 42, 44, 46, 48, 13, 15, 17, 19, 21, 23] rfl (fun _ => rfl) rfl rfl hl.1 rfl (Nat.le_of_ble_eq_true rfl) dX0_standingBy_97 ⟨Nat.le_of_ble_eq_true rfl, Nat.le_of_ble_eq_true rfl⟩ (fun r_10 u_10 H locs hw_10 hP hD hS => ?_)
                  have hw_10 : (pPullN q (ix (k / 100)) sp : Int32) = r_10 := hw_10.symm
                  subst hw_10
                  have hP : va_P G.1 vwCl (wX G ad ho rn ln dr ro lt rf th sb ++ wR G (ad 1) kd r ++ wR G (ad 2) kd (pPull q (ix (k / 100)) sp) ++ wR G (ad 3) k2 r2 ++ wK (ad 4)) H := hP
                  have hD : va_D A (wX G ad ho rn ln dr ro lt rf th sb ++ wR G (ad 1) kd r ++ wR G (ad 2) kd (pPull q (ix (k / 100)) sp) ++ wR G (ad 3) k2 r2 ++ wK (ad 4)) := hD
                  refine lv_pop hx hb dX0_standingBy_100 rfl ?_
                  refine lv_aload_n hx hb dX0_standingBy_101 rfl (lv_at hl 4 rfl) ?_
                  refine lv_iconst (v := 0) hx hb dX0_standingBy_102 (by decide) ?_
                  refine x_Vv (wN := fun _ => (wX G ad ho rn ln dr ro lt rf th sb ++ wR G (ad 1) kd r ++ wR G (ad 2) kd (pMin (pPull q (ix (k / 100)) sp) 0) ++ wR G (ad 3) k2 r2 ++ wK (ad 4))) ⟨C0, hK, hP, hD, hS, hA⟩ 13 rfl (ci := 7) rfl rfl ((m_minuteOn l G (ad 2) (ad 4) kd (pPull q (ix (k / 100)) sp) (Ok.pull hi11_2) (kOk.pull hi11_3) 0)) (cwV 1 hts (lw_V q807 q627 q628 q94 q629) rfl rfl rfl (by decide +kernel) ⟨Nat.le_of_ble_eq_true rfl, Nat.le_of_ble_eq_true rfl⟩) [13, 14, 15, 16, 17, 18, 25, 26, 27, 28, 29, 30] [0, 2, 4, 6, 8, 10, 12, 14, 16, 18, 20, 22, 24, 1, 3, 5, 7, 9, 11, 38, 40, 42, 44, 46, 48, 13, 15, 17, 19, 21, 23] rfl (fun _ => rfl) rfl rfl hl.1 rfl (Nat.le_of_ble_eq_true rfl) dX0_standingBy_103 ⟨Nat.le_of_ble_eq_true rfl, Nat.le_of_ble_eq_true rfl⟩ (fun u_11 H locs hw_11 hP hD hS => ?_)
                  have hP : va_P G.1 vwCl (wX G ad ho rn ln dr ro lt rf th sb ++ wR G (ad 1) kd r ++ wR G (ad 2) kd (pMin (pPull q (ix (k / 100)) sp) 0) ++ wR G (ad 3) k2 r2 ++ wK (ad 4)) H := hP
                  have hD : va_D A (wX G ad ho rn ln dr ro lt rf th sb ++ wR G (ad 1) kd r ++ wR G (ad 2) kd (pMin (pPull q (ix (k / 100)) sp) 0) ++ wR G (ad 3) k2 r2 ++ wK (ad 4)) := hD
                  refine lv_iinc (v := nI (0 + 1)) (lv' := [(5, .int (nI (0 + 1))), (7, .int (nI (ix (k / 100)))), (6, .int 2), (4, .int (nI k)), (3, .ref ((ad 2) 0)), (0, .ref (ad 0 0)), (1, .int (nI k)), (2, .int sp)]) hx hb dX0_standingBy_106 hl (k := 2) rfl (x_inc1 _) (by decide) rfl (fun ls hl => ?_)
                  refine lv_goto (tgt := 11) hx hb dX0_standingBy_109 (by decide) ?_
                  exact ih_11 (0 + 1) (pMin (pPull q (ix (k / 100)) sp) 0) (by omega) (by omega) (Ok.min (Ok.pull hi11_2)) (kOk.min (kOk.pull hi11_3)) hi11_4 hi11_5 (by show pOS (pOR r (fun j => ix (dig k j)) sp 0) _ sp 0 = _; rw [hi11_6]; exact pOS_y (by omega) (show pSt q (ix (k / 100)) = true from (by have h9 := c_8; simpa [bI_0] using h9))) _ _ _ hP hD hS (lv_sub hl [0, 3, 4, 5, 6, 7] rfl)
          · skip
            exact absurd c_4 (by decide)
        · skip
          have hix := (hth (k / 10 % 10) (by omega)).2
          refine lv_iconst (v := 2) hx hb dX0_standingBy_18 (by decide) ?_
          refine lv_iload hx hb dX0_standingBy_19 (lv_at hl 0 rfl) ?_
          refine x_isub hx hb dX0_standingBy_21 (v := 1) (by decide) ?_
          refine lv_istore (lv' := [(6, .int 1), (5, .int (nI 1)), (4, .int (nI k)), (3, .ref ((ad 2) 0)), (0, .ref (ad 0 0)), (1, .int (nI k)), (2, .int sp)]) hx hb dX0_standingBy_22 hl (by decide) rfl (fun ls hl => ?_)
          refine lv_iload hx hb dX0_standingBy_24 (lv_at hl 0 rfl) ?_
          refine lv_if_ge (tgt := 34) hx hb dX0_standingBy_26 (by decide) (fun c_12 => ?_) (fun c_12 => ?_)
          · skip
            refine lv_aload_n hx hb dX0_standingBy_34 rfl (lv_at hl 4 rfl) ?_
            refine va_get (D := G.1) (ci := 0) (v := .ref (ad 0 5)) (C := RX0) (T := TX0) (N := 13) hx hb hts in_X0 hown hK.1 hP 0 rfl rfl 10 (by decide) (hts _ q233) (fun _ h9 => h9) rfl dX0_standingBy_35 ?_
            refine lv_iload hx hb dX0_standingBy_38 (lv_at hl 0 rfl) ?_
            refine lv_iconst (v := 2) hx hb dX0_standingBy_40 (by decide) ?_
            refine lv_icmp_ne (tgt := 52) hx hb dX0_standingBy_41 (by decide) (fun c_13 => ?_) (fun c_13 => ?_)
            · skip
              refine lv_iload hx hb dX0_standingBy_52 (lv_at hl 0 rfl) ?_
              refine lv_iconst (v := 1) hx hb dX0_standingBy_54 (by decide) ?_
              refine lv_icmp_ne (tgt := 69) hx hb dX0_standingBy_55 (by decide) (fun c_14 => ?_) (fun c_14 => ?_)
              · skip
                exact absurd c_14 (by decide)
              · skip
                refine lv_iload hx hb dX0_standingBy_58 (lv_at hl 2 rfl) ?_
                refine lv_bipush (v := 10) hx hb dX0_standingBy_60 (by decide) ?_
                refine x_idiv hx hb dX0_standingBy_62 (by decide) (v := nI (k / 10)) (pk_div (d := 10) (by omega) (by omega) (by omega)) ?_
                refine lv_bipush (v := 10) hx hb dX0_standingBy_63 (by decide) ?_
                refine x_irem hx hb dX0_standingBy_65 (by decide) (v := nI (k / 10 % 10)) (pk_rem (d := 10) (by omega) (by omega) (by omega)) ?_
                refine lv_goto (tgt := 74) hx hb dX0_standingBy_66 (by decide) ?_
                refine x_ialdn (k := (k / 10 % 10)) hx hb hK.1 hP 5 0 rfl rfl (by omega) (by decide) (v := nI (ix (k / 10 % 10))) (hth _ (by omega)).1 dX0_standingBy_74 ?_
                refine lv_istore (lv' := [(7, .int (nI (ix (k / 10 % 10)))), (6, .int 1), (5, .int (nI 1)), (4, .int (nI k)), (3, .ref ((ad 2) 0)), (0, .ref (ad 0 0)), (1, .int (nI k)), (2, .int sp)]) hx hb dX0_standingBy_75 hl (by decide) rfl (fun ls hl => ?_)
                refine lv_iload hx hb dX0_standingBy_77 (lv_at hl 0 rfl) ?_
                refine lv_bipush (v := (-9)) hx hb dX0_standingBy_79 (by decide) ?_
                refine lv_icmp_eq (tgt := 101) hx hb dX0_standingBy_81 (by decide) (fun c_15 => ?_) (fun c_15 => ?_)
                · skip
                  exact absurd c_15 (m9_ne (by omega))
                · skip
                  refine lv_aload_n hx hb dX0_standingBy_84 rfl (lv_at hl 4 rfl) ?_
                  refine lv_iload hx hb dX0_standingBy_85 (lv_at hl 0 rfl) ?_
                  refine x_Vi (wN := fun _ => (wX G ad ho rn ln dr ro lt rf th sb ++ wR G (ad 1) kd r ++ wR G (ad 2) kd q ++ wR G (ad 3) k2 r2 ++ wK (ad 4))) ⟨C0, hK, hP, hD, hS, hA⟩ 13 rfl (ci := 7) rfl rfl ((m_isStanding l G (ad 2) (ad 4) kd q hi11_2 hi11_3 (ix (k / 10 % 10)) (by omega))) (cwV 1 hts (lw_V q744 q558 q559 q94 q560) rfl rfl rfl (by decide +kernel) ⟨Nat.le_of_ble_eq_true rfl, Nat.le_of_ble_eq_true rfl⟩) [13, 14, 15, 16, 17, 18, 25, 26, 27, 28, 29, 30] [0, 2, 4, 6, 8, 10, 12, 14, 16, 18, 20, 22, 24, 1, 3, 5, 7, 9, 11, 38, 40, 42, 44, 46, 48, 13, 15, 17, 19, 21, 23] rfl (fun _ => rfl) rfl rfl hl.1 rfl (Nat.le_of_ble_eq_true rfl) dX0_standingBy_87 ⟨Nat.le_of_ble_eq_true rfl, Nat.le_of_ble_eq_true rfl⟩ (fun r_16 u_16 H locs hw_16 hP hD hS => ?_)
                  have hw_16 : (bI (pSt q (ix (k / 10 % 10))) : Int32) = r_16 := hw_16.symm
                  subst hw_16
                  refine lv_if_eq (tgt := 101) hx hb dX0_standingBy_90 (by decide) (fun c_17 => ?_) (fun c_17 => ?_)
                  · skip
                    refine lv_aload_n hx hb dX0_standingBy_101 rfl (lv_at hl 4 rfl) ?_
                    refine lv_iconst (v := 0) hx hb dX0_standingBy_102 (by decide) ?_
                    refine x_Vv (wN := fun _ => (wX G ad ho rn ln dr ro lt rf th sb ++ wR G (ad 1) kd r ++ wR G (ad 2) kd (pMin q 0) ++ wR G (ad 3) k2 r2 ++ wK (ad 4))) ⟨C0, hK, hP, hD, hS, hA⟩ 13 rfl (ci := 7) rfl rfl ((m_minuteOn l G (ad 2) (ad 4) kd q hi11_2 hi11_3 0)) (cwV 1 hts (lw_V q807 q627 q628 q94 q629) rfl rfl rfl (by decide +kernel) ⟨Nat.le_of_ble_eq_true rfl, Nat.le_of_ble_eq_true rfl⟩) [13, 14, 15, 16, 17, 18, 25, 26, 27, 28, 29, 30] [0, 2, 4, 6, 8, 10, 12, 14, 16, 18, 20, 22, 24, 1, 3, 5, 7, 9, 11, 38, 40, 42, 44, 46, 48, 13, 15, 17, 19, 21, 23] rfl (fun _ => rfl) rfl rfl hl.1 rfl (Nat.le_of_ble_eq_true rfl) dX0_standingBy_103 ⟨Nat.le_of_ble_eq_true rfl, Nat.le_of_ble_eq_true rfl⟩ (fun u_18 H locs hw_18 hP hD hS => ?_)
                    have hP : va_P G.1 vwCl (wX G ad ho rn ln dr ro lt rf th sb ++ wR G (ad 1) kd r ++ wR G (ad 2) kd (pMin q 0) ++ wR G (ad 3) k2 r2 ++ wK (ad 4)) H := hP
                    have hD : va_D A (wX G ad ho rn ln dr ro lt rf th sb ++ wR G (ad 1) kd r ++ wR G (ad 2) kd (pMin q 0) ++ wR G (ad 3) k2 r2 ++ wK (ad 4)) := hD
                    refine lv_iinc (v := nI (1 + 1)) (lv' := [(5, .int (nI (1 + 1))), (7, .int (nI (ix (k / 10 % 10)))), (6, .int 1), (4, .int (nI k)), (3, .ref ((ad 2) 0)), (0, .ref (ad 0 0)), (1, .int (nI k)), (2, .int sp)]) hx hb dX0_standingBy_106 hl (k := 2) rfl (x_inc1 _) (by decide) rfl (fun ls hl => ?_)
                    refine lv_goto (tgt := 11) hx hb dX0_standingBy_109 (by decide) ?_
                    exact ih_11 (1 + 1) (pMin q 0) (by omega) (by omega) (Ok.min hi11_2) (kOk.min hi11_3) hi11_4 hi11_5 (by show pOS (pOR r (fun j => ix (dig k j)) sp 1) _ sp 1 = _; rw [hi11_6]; exact pOS_n (fun _ => show pSt q (ix (k / 10 % 10)) = false from (by have h9 := c_17; simpa [bI_0] using h9))) _ _ _ hP hD hS (lv_sub hl [0, 3, 4, 5, 6, 7] rfl)
                  · skip
                    refine lv_aload_n hx hb dX0_standingBy_93 rfl (lv_at hl 4 rfl) ?_
                    refine lv_iload hx hb dX0_standingBy_94 (lv_at hl 0 rfl) ?_
                    refine lv_iload_n hx hb dX0_standingBy_96 rfl (lv_at hl 7 rfl) ?_
                    refine x_Vi (wN := fun _ => (wX G ad ho rn ln dr ro lt rf th sb ++ wR G (ad 1) kd r ++ wR G (ad 2) kd (pPull q (ix (k / 10 % 10)) sp) ++ wR G (ad 3) k2 r2 ++ wK (ad 4))) ⟨C0, hK, hP, hD, hS, hA⟩ 13 rfl (ci := 7) rfl rfl ((m_pull l G (ad 2) (ad 4) kd q hi11_2 hi11_3 (ix (k / 10 % 10)) sp (by omega) hi11_4)) (cwV 2 hts (lw_V q745 q683 q684 q94 q685) rfl rfl rfl (by decide +kernel) ⟨Nat.le_of_ble_eq_true rfl, Nat.le_of_ble_eq_true rfl⟩) [13, 14, 15, 16, 17, 18, 25, 26, 27, 28, 29, 30] [0, 2, 4, 6, 8, 10, 12, 14, 16, 18, 20, 22, 24, 1, 3, 5, 7, 9, 11, 38, 40, 42, 44, 46, 48, 13, 15, 17, 19, 21, 23] rfl (fun _ => rfl) rfl rfl hl.1 rfl (Nat.le_of_ble_eq_true rfl) dX0_standingBy_97 ⟨Nat.le_of_ble_eq_true rfl, Nat.le_of_ble_eq_true rfl⟩ (fun r_19 u_19 H locs hw_19 hP hD hS => ?_)
                    have hw_19 : (pPullN q (ix (k / 10 % 10)) sp : Int32) = r_19 := hw_19.symm
                    subst hw_19
                    have hP : va_P G.1 vwCl (wX G ad ho rn ln dr ro lt rf th sb ++ wR G (ad 1) kd r ++ wR G (ad 2) kd (pPull q (ix (k / 10 % 10)) sp) ++ wR G (ad 3) k2 r2 ++ wK (ad 4)) H := hP
                    have hD : va_D A (wX G ad ho rn ln dr ro lt rf th sb ++ wR G (ad 1) kd r ++ wR G (ad 2) kd (pPull q (ix (k / 10 % 10)) sp) ++ wR G (ad 3) k2 r2 ++ wK (ad 4)) := hD
                    refine lv_pop hx hb dX0_standingBy_100 rfl ?_
                    refine lv_aload_n hx hb dX0_standingBy_101 rfl (lv_at hl 4 rfl) ?_
                    refine lv_iconst (v := 0) hx hb dX0_standingBy_102 (by decide) ?_
                    refine x_Vv (wN := fun _ => (wX G ad ho rn ln dr ro lt rf th sb ++ wR G (ad 1) kd r ++ wR G (ad 2) kd (pMin (pPull q (ix (k / 10 % 10)) sp) 0) ++ wR G (ad 3) k2 r2 ++ wK (ad 4))) ⟨C0, hK, hP, hD, hS, hA⟩ 13 rfl (ci := 7) rfl rfl ((m_minuteOn l G (ad 2) (ad 4) kd (pPull q (ix (k / 10 % 10)) sp) (Ok.pull hi11_2) (kOk.pull hi11_3) 0)) (cwV 1 hts (lw_V q807 q627 q628 q94 q629) rfl rfl rfl (by decide +kernel) ⟨Nat.le_of_ble_eq_true rfl, Nat.le_of_ble_eq_true rfl⟩) [13, 14, 15, 16, 17, 18, 25, 26, 27, 28, 29, 30] [0, 2, 4, 6, 8, 10, 12, 14, 16, 18, 20, 22, 24, 1, 3, 5, 7, 9, 11, 38, 40, 42, 44, 46, 48, 13, 15, 17, 19, 21, 23] rfl (fun _ => rfl) rfl rfl hl.1 rfl (Nat.le_of_ble_eq_true rfl) dX0_standingBy_103 ⟨Nat.le_of_ble_eq_true rfl, Nat.le_of_ble_eq_true rfl⟩ (fun u_20 H locs hw_20 hP hD hS => ?_)
                    have hP : va_P G.1 vwCl (wX G ad ho rn ln dr ro lt rf th sb ++ wR G (ad 1) kd r ++ wR G (ad 2) kd (pMin (pPull q (ix (k / 10 % 10)) sp) 0) ++ wR G (ad 3) k2 r2 ++ wK (ad 4)) H := hP
                    have hD : va_D A (wX G ad ho rn ln dr ro lt rf th sb ++ wR G (ad 1) kd r ++ wR G (ad 2) kd (pMin (pPull q (ix (k / 10 % 10)) sp) 0) ++ wR G (ad 3) k2 r2 ++ wK (ad 4)) := hD
                    refine lv_iinc (v := nI (1 + 1)) (lv' := [(5, .int (nI (1 + 1))), (7, .int (nI (ix (k / 10 % 10)))), (6, .int 1), (4, .int (nI k)), (3, .ref ((ad 2) 0)), (0, .ref (ad 0 0)), (1, .int (nI k)), (2, .int sp)]) hx hb dX0_standingBy_106 hl (k := 2) rfl (x_inc1 _) (by decide) rfl (fun ls hl => ?_)
                    refine lv_goto (tgt := 11) hx hb dX0_standingBy_109 (by decide) ?_
                    exact ih_11 (1 + 1) (pMin (pPull q (ix (k / 10 % 10)) sp) 0) (by omega) (by omega) (Ok.min (Ok.pull hi11_2)) (kOk.min (kOk.pull hi11_3)) hi11_4 hi11_5 (by show pOS (pOR r (fun j => ix (dig k j)) sp 1) _ sp 1 = _; rw [hi11_6]; exact pOS_y (by omega) (show pSt q (ix (k / 10 % 10)) = true from (by have h9 := c_17; simpa [bI_0] using h9))) _ _ _ hP hD hS (lv_sub hl [0, 3, 4, 5, 6, 7] rfl)
            · skip
              exact absurd c_13 (by decide)
          · skip
            exact absurd c_12 (by decide)
        · skip
          have hix := (hth (k % 10) (by omega)).2
          refine lv_iconst (v := 2) hx hb dX0_standingBy_18 (by decide) ?_
          refine lv_iload hx hb dX0_standingBy_19 (lv_at hl 0 rfl) ?_
          refine x_isub hx hb dX0_standingBy_21 (v := 0) (by decide) ?_
          refine lv_istore (lv' := [(6, .int 0), (5, .int (nI 2)), (4, .int (nI k)), (3, .ref ((ad 2) 0)), (0, .ref (ad 0 0)), (1, .int (nI k)), (2, .int sp)]) hx hb dX0_standingBy_22 hl (by decide) rfl (fun ls hl => ?_)
          refine lv_iload hx hb dX0_standingBy_24 (lv_at hl 0 rfl) ?_
          refine lv_if_ge (tgt := 34) hx hb dX0_standingBy_26 (by decide) (fun c_21 => ?_) (fun c_21 => ?_)
          · skip
            refine lv_aload_n hx hb dX0_standingBy_34 rfl (lv_at hl 4 rfl) ?_
            refine va_get (D := G.1) (ci := 0) (v := .ref (ad 0 5)) (C := RX0) (T := TX0) (N := 13) hx hb hts in_X0 hown hK.1 hP 0 rfl rfl 10 (by decide) (hts _ q233) (fun _ h9 => h9) rfl dX0_standingBy_35 ?_
            refine lv_iload hx hb dX0_standingBy_38 (lv_at hl 0 rfl) ?_
            refine lv_iconst (v := 2) hx hb dX0_standingBy_40 (by decide) ?_
            refine lv_icmp_ne (tgt := 52) hx hb dX0_standingBy_41 (by decide) (fun c_22 => ?_) (fun c_22 => ?_)
            · skip
              refine lv_iload hx hb dX0_standingBy_52 (lv_at hl 0 rfl) ?_
              refine lv_iconst (v := 1) hx hb dX0_standingBy_54 (by decide) ?_
              refine lv_icmp_ne (tgt := 69) hx hb dX0_standingBy_55 (by decide) (fun c_23 => ?_) (fun c_23 => ?_)
              · skip
                refine lv_iload hx hb dX0_standingBy_69 (lv_at hl 2 rfl) ?_
                refine lv_bipush (v := 10) hx hb dX0_standingBy_71 (by decide) ?_
                refine x_irem hx hb dX0_standingBy_73 (by decide) (v := nI (k % 10)) (pk_rem (d := 10) (by omega) (by omega) (by omega)) ?_
                refine x_ialdn (k := (k % 10)) hx hb hK.1 hP 5 0 rfl rfl (by omega) (by decide) (v := nI (ix (k % 10))) (hth _ (by omega)).1 dX0_standingBy_74 ?_
                refine lv_istore (lv' := [(7, .int (nI (ix (k % 10)))), (6, .int 0), (5, .int (nI 2)), (4, .int (nI k)), (3, .ref ((ad 2) 0)), (0, .ref (ad 0 0)), (1, .int (nI k)), (2, .int sp)]) hx hb dX0_standingBy_75 hl (by decide) rfl (fun ls hl => ?_)
                refine lv_iload hx hb dX0_standingBy_77 (lv_at hl 0 rfl) ?_
                refine lv_bipush (v := (-9)) hx hb dX0_standingBy_79 (by decide) ?_
                refine lv_icmp_eq (tgt := 101) hx hb dX0_standingBy_81 (by decide) (fun c_24 => ?_) (fun c_24 => ?_)
                · skip
                  exact absurd c_24 (m9_ne (by omega))
                · skip
                  refine lv_aload_n hx hb dX0_standingBy_84 rfl (lv_at hl 4 rfl) ?_
                  refine lv_iload hx hb dX0_standingBy_85 (lv_at hl 0 rfl) ?_
                  refine x_Vi (wN := fun _ => (wX G ad ho rn ln dr ro lt rf th sb ++ wR G (ad 1) kd r ++ wR G (ad 2) kd q ++ wR G (ad 3) k2 r2 ++ wK (ad 4))) ⟨C0, hK, hP, hD, hS, hA⟩ 13 rfl (ci := 7) rfl rfl ((m_isStanding l G (ad 2) (ad 4) kd q hi11_2 hi11_3 (ix (k % 10)) (by omega))) (cwV 1 hts (lw_V q744 q558 q559 q94 q560) rfl rfl rfl (by decide +kernel) ⟨Nat.le_of_ble_eq_true rfl, Nat.le_of_ble_eq_true rfl⟩) [13, 14, 15, 16, 17, 18, 25, 26, 27, 28, 29, 30] [0, 2, 4, 6, 8, 10, 12, 14, 16, 18, 20, 22, 24, 1, 3, 5, 7, 9, 11, 38, 40, 42, 44, 46, 48, 13, 15, 17, 19, 21, 23] rfl (fun _ => rfl) rfl rfl hl.1 rfl (Nat.le_of_ble_eq_true rfl) dX0_standingBy_87 ⟨Nat.le_of_ble_eq_true rfl, Nat.le_of_ble_eq_true rfl⟩ (fun r_25 u_25 H locs hw_25 hP hD hS => ?_)
                  have hw_25 : (bI (pSt q (ix (k % 10))) : Int32) = r_25 := hw_25.symm
                  subst hw_25
                  refine lv_if_eq (tgt := 101) hx hb dX0_standingBy_90 (by decide) (fun c_26 => ?_) (fun c_26 => ?_)
                  · skip
                    refine lv_aload_n hx hb dX0_standingBy_101 rfl (lv_at hl 4 rfl) ?_
                    refine lv_iconst (v := 0) hx hb dX0_standingBy_102 (by decide) ?_
                    refine x_Vv (wN := fun _ => (wX G ad ho rn ln dr ro lt rf th sb ++ wR G (ad 1) kd r ++ wR G (ad 2) kd (pMin q 0) ++ wR G (ad 3) k2 r2 ++ wK (ad 4))) ⟨C0, hK, hP, hD, hS, hA⟩ 13 rfl (ci := 7) rfl rfl ((m_minuteOn l G (ad 2) (ad 4) kd q hi11_2 hi11_3 0)) (cwV 1 hts (lw_V q807 q627 q628 q94 q629) rfl rfl rfl (by decide +kernel) ⟨Nat.le_of_ble_eq_true rfl, Nat.le_of_ble_eq_true rfl⟩) [13, 14, 15, 16, 17, 18, 25, 26, 27, 28, 29, 30] [0, 2, 4, 6, 8, 10, 12, 14, 16, 18, 20, 22, 24, 1, 3, 5, 7, 9, 11, 38, 40, 42, 44, 46, 48, 13, 15, 17, 19, 21, 23] rfl (fun _ => rfl) rfl rfl hl.1 rfl (Nat.le_of_ble_eq_true rfl) dX0_standingBy_103 ⟨Nat.le_of_ble_eq_true rfl, Nat.le_of_ble_eq_true rfl⟩ (fun u_27 H locs hw_27 hP hD hS => ?_)
                    have hP : va_P G.1 vwCl (wX G ad ho rn ln dr ro lt rf th sb ++ wR G (ad 1) kd r ++ wR G (ad 2) kd (pMin q 0) ++ wR G (ad 3) k2 r2 ++ wK (ad 4)) H := hP
                    have hD : va_D A (wX G ad ho rn ln dr ro lt rf th sb ++ wR G (ad 1) kd r ++ wR G (ad 2) kd (pMin q 0) ++ wR G (ad 3) k2 r2 ++ wK (ad 4)) := hD
                    refine lv_iinc (v := nI (2 + 1)) (lv' := [(5, .int (nI (2 + 1))), (7, .int (nI (ix (k % 10)))), (6, .int 0), (4, .int (nI k)), (3, .ref ((ad 2) 0)), (0, .ref (ad 0 0)), (1, .int (nI k)), (2, .int sp)]) hx hb dX0_standingBy_106 hl (k := 2) rfl (x_inc1 _) (by decide) rfl (fun ls hl => ?_)
                    refine lv_goto (tgt := 11) hx hb dX0_standingBy_109 (by decide) ?_
                    exact ih_11 (2 + 1) (pMin q 0) (by omega) (by omega) (Ok.min hi11_2) (kOk.min hi11_3) hi11_4 hi11_5 (by show pOS (pOR r (fun j => ix (dig k j)) sp 2) _ sp 2 = _; rw [hi11_6]; exact pOS_n (fun _ => show pSt q (ix (k % 10)) = false from (by have h9 := c_26; simpa [bI_0] using h9))) _ _ _ hP hD hS (lv_sub hl [0, 3, 4, 5, 6, 7] rfl)
                  · skip
                    refine lv_aload_n hx hb dX0_standingBy_93 rfl (lv_at hl 4 rfl) ?_
                    refine lv_iload hx hb dX0_standingBy_94 (lv_at hl 0 rfl) ?_
                    refine lv_iload_n hx hb dX0_standingBy_96 rfl (lv_at hl 7 rfl) ?_
                    refine x_Vi (wN := fun _ => (wX G ad ho rn ln dr ro lt rf th sb ++ wR G (ad 1) kd r ++ wR G (ad 2) kd (pPull q (ix (k % 10)) sp) ++ wR G (ad 3) k2 r2 ++ wK (ad 4))) ⟨C0, hK, hP, hD, hS, hA⟩ 13 rfl (ci := 7) rfl rfl ((m_pull l G (ad 2) (ad 4) kd q hi11_2 hi11_3 (ix (k % 10)) sp (by omega) hi11_4)) (cwV 2 hts (lw_V q745 q683 q684 q94 q685) rfl rfl rfl (by decide +kernel) ⟨Nat.le_of_ble_eq_true rfl, Nat.le_of_ble_eq_true rfl⟩) [13, 14, 15, 16, 17, 18, 25, 26, 27, 28, 29, 30] [0, 2, 4, 6, 8, 10, 12, 14, 16, 18, 20, 22, 24, 1, 3, 5, 7, 9, 11, 38, 40, 42, 44, 46, 48, 13, 15, 17, 19, 21, 23] rfl (fun _ => rfl) rfl rfl hl.1 rfl (Nat.le_of_ble_eq_true rfl) dX0_standingBy_97 ⟨Nat.le_of_ble_eq_true rfl, Nat.le_of_ble_eq_true rfl⟩ (fun r_28 u_28 H locs hw_28 hP hD hS => ?_)
                    have hw_28 : (pPullN q (ix (k % 10)) sp : Int32) = r_28 := hw_28.symm
                    subst hw_28
                    have hP : va_P G.1 vwCl (wX G ad ho rn ln dr ro lt rf th sb ++ wR G (ad 1) kd r ++ wR G (ad 2) kd (pPull q (ix (k % 10)) sp) ++ wR G (ad 3) k2 r2 ++ wK (ad 4)) H := hP
                    have hD : va_D A (wX G ad ho rn ln dr ro lt rf th sb ++ wR G (ad 1) kd r ++ wR G (ad 2) kd (pPull q (ix (k % 10)) sp) ++ wR G (ad 3) k2 r2 ++ wK (ad 4)) := hD
                    refine lv_pop hx hb dX0_standingBy_100 rfl ?_
                    refine lv_aload_n hx hb dX0_standingBy_101 rfl (lv_at hl 4 rfl) ?_
                    refine lv_iconst (v := 0) hx hb dX0_standingBy_102 (by decide) ?_
                    refine x_Vv (wN := fun _ => (wX G ad ho rn ln dr ro lt rf th sb ++ wR G (ad 1) kd r ++ wR G (ad 2) kd (pMin (pPull q (ix (k % 10)) sp) 0) ++ wR G (ad 3) k2 r2 ++ wK (ad 4))) ⟨C0, hK, hP, hD, hS, hA⟩ 13 rfl (ci := 7) rfl rfl ((m_minuteOn l G (ad 2) (ad 4) kd (pPull q (ix (k % 10)) sp) (Ok.pull hi11_2) (kOk.pull hi11_3) 0)) (cwV 1 hts (lw_V q807 q627 q628 q94 q629) rfl rfl rfl (by decide +kernel) ⟨Nat.le_of_ble_eq_true rfl, Nat.le_of_ble_eq_true rfl⟩) [13, 14, 15, 16, 17, 18, 25, 26, 27, 28, 29, 30] [0, 2, 4, 6, 8, 10, 12, 14, 16, 18, 20, 22, 24, 1, 3, 5, 7, 9, 11, 38, 40, 42, 44, 46, 48, 13, 15, 17, 19, 21, 23] rfl (fun _ => rfl) rfl rfl hl.1 rfl (Nat.le_of_ble_eq_true rfl) dX0_standingBy_103 ⟨Nat.le_of_ble_eq_true rfl, Nat.le_of_ble_eq_true rfl⟩ (fun u_29 H locs hw_29 hP hD hS => ?_)
                    have hP : va_P G.1 vwCl (wX G ad ho rn ln dr ro lt rf th sb ++ wR G (ad 1) kd r ++ wR G (ad 2) kd (pMin (pPull q (ix (k % 10)) sp) 0) ++ wR G (ad 3) k2 r2 ++ wK (ad 4)) H := hP
                    have hD : va_D A (wX G ad ho rn ln dr ro lt rf th sb ++ wR G (ad 1) kd r ++ wR G (ad 2) kd (pMin (pPull q (ix (k % 10)) sp) 0) ++ wR G (ad 3) k2 r2 ++ wK (ad 4)) := hD
                    refine lv_iinc (v := nI (2 + 1)) (lv' := [(5, .int (nI (2 + 1))), (7, .int (nI (ix (k % 10)))), (6, .int 0), (4, .int (nI k)), (3, .ref ((ad 2) 0)), (0, .ref (ad 0 0)), (1, .int (nI k)), (2, .int sp)]) hx hb dX0_standingBy_106 hl (k := 2) rfl (x_inc1 _) (by decide) rfl (fun ls hl => ?_)
                    refine lv_goto (tgt := 11) hx hb dX0_standingBy_109 (by decide) ?_
                    exact ih_11 (2 + 1) (pMin (pPull q (ix (k % 10)) sp) 0) (by omega) (by omega) (Ok.min (Ok.pull hi11_2)) (kOk.min (kOk.pull hi11_3)) hi11_4 hi11_5 (by show pOS (pOR r (fun j => ix (dig k j)) sp 2) _ sp 2 = _; rw [hi11_6]; exact pOS_y (by omega) (show pSt q (ix (k % 10)) = true from (by have h9 := c_26; simpa [bI_0] using h9))) _ _ _ hP hD hS (lv_sub hl [0, 3, 4, 5, 6, 7] rfl)
              · skip
                exact absurd c_23 (by decide)
            · skip
              exact absurd c_22 (by decide)
          · skip
            exact absurd c_21 (by decide)
        · skip
          refine lv_iconst (v := 2) hx hb dX0_standingBy_18 (by decide) ?_
          refine lv_iload hx hb dX0_standingBy_19 (lv_at hl 0 rfl) ?_
          refine x_isub hx hb dX0_standingBy_21 (v := 2 - (nI i)) rfl ?_
          refine lv_istore (lv' := [(6, .int (2 - (nI i))), (5, .int (nI i)), (4, .int (nI k)), (3, .ref ((ad 2) 0)), (0, .ref (ad 0 0)), (1, .int (nI k)), (2, .int sp)]) hx hb dX0_standingBy_22 hl (by decide) rfl (fun ls hl => ?_)
          refine lv_iload hx hb dX0_standingBy_24 (lv_at hl 0 rfl) ?_
          refine lv_if_ge (tgt := 34) hx hb dX0_standingBy_26 (by decide) (fun c_30 => ?_) (fun c_30 => ?_)
          · skip
            exact absurd (pl_neg i (by omega) h3) (Int32.not_lt.mpr c_30)
          · skip
            refine lv_bipush (v := (-9)) hx hb dX0_standingBy_29 (by decide) ?_
            refine lv_goto (tgt := 75) hx hb dX0_standingBy_31 (by decide) ?_
            refine lv_istore (lv' := [(7, .int (-9)), (6, .int (2 - (nI i))), (5, .int (nI i)), (4, .int (nI k)), (3, .ref ((ad 2) 0)), (0, .ref (ad 0 0)), (1, .int (nI k)), (2, .int sp)]) hx hb dX0_standingBy_75 hl (by decide) rfl (fun ls hl => ?_)
            refine lv_iload hx hb dX0_standingBy_77 (lv_at hl 0 rfl) ?_
            refine lv_bipush (v := (-9)) hx hb dX0_standingBy_79 (by decide) ?_
            refine lv_icmp_eq (tgt := 101) hx hb dX0_standingBy_81 (by decide) (fun c_31 => ?_) (fun c_31 => ?_)
            · skip
              refine lv_aload_n hx hb dX0_standingBy_101 rfl (lv_at hl 4 rfl) ?_
              refine lv_iconst (v := 0) hx hb dX0_standingBy_102 (by decide) ?_
              refine x_Vv (wN := fun _ => (wX G ad ho rn ln dr ro lt rf th sb ++ wR G (ad 1) kd r ++ wR G (ad 2) kd (pMin q 0) ++ wR G (ad 3) k2 r2 ++ wK (ad 4))) ⟨C0, hK, hP, hD, hS, hA⟩ 13 rfl (ci := 7) rfl rfl ((m_minuteOn l G (ad 2) (ad 4) kd q hi11_2 hi11_3 0)) (cwV 1 hts (lw_V q807 q627 q628 q94 q629) rfl rfl rfl (by decide +kernel) ⟨Nat.le_of_ble_eq_true rfl, Nat.le_of_ble_eq_true rfl⟩) [13, 14, 15, 16, 17, 18, 25, 26, 27, 28, 29, 30] [0, 2, 4, 6, 8, 10, 12, 14, 16, 18, 20, 22, 24, 1, 3, 5, 7, 9, 11, 38, 40, 42, 44, 46, 48, 13, 15, 17, 19, 21, 23] rfl (fun _ => rfl) rfl rfl hl.1 rfl (Nat.le_of_ble_eq_true rfl) dX0_standingBy_103 ⟨Nat.le_of_ble_eq_true rfl, Nat.le_of_ble_eq_true rfl⟩ (fun u_32 H locs hw_32 hP hD hS => ?_)
              have hP : va_P G.1 vwCl (wX G ad ho rn ln dr ro lt rf th sb ++ wR G (ad 1) kd r ++ wR G (ad 2) kd (pMin q 0) ++ wR G (ad 3) k2 r2 ++ wK (ad 4)) H := hP
              have hD : va_D A (wX G ad ho rn ln dr ro lt rf th sb ++ wR G (ad 1) kd r ++ wR G (ad 2) kd (pMin q 0) ++ wR G (ad 3) k2 r2 ++ wK (ad 4)) := hD
              refine lv_iinc (v := nI (i + 1)) (lv' := [(5, .int (nI (i + 1))), (7, .int (-9)), (6, .int (2 - (nI i))), (4, .int (nI k)), (3, .ref ((ad 2) 0)), (0, .ref (ad 0 0)), (1, .int (nI k)), (2, .int sp)]) hx hb dX0_standingBy_106 hl (k := 2) rfl (x_inc1 _) (by decide) rfl (fun ls hl => ?_)
              refine lv_goto (tgt := 11) hx hb dX0_standingBy_109 (by decide) ?_
              exact ih_11 (i + 1) (pMin q 0) (by omega) (by omega) (Ok.min hi11_2) (kOk.min hi11_3) hi11_4 hi11_5 (by show pOS (pOR r (fun j => ix (dig k j)) sp i) _ sp i = _; rw [hi11_6]; exact pOS_n (fun z => absurd z (by omega))) _ _ _ hP hD hS (lv_sub hl [0, 3, 4, 5, 6, 7] rfl)
            · skip
              exact absurd c_31 (by decide)
  exact loop_11 11 0 r (by omega) (by omega) hr hk hp rfl rfl _ _ _ hP hD hS (lv_sub hl [0, 1, 2, 3, 4, 5] rfl)
set_option maxHeartbeats 4000000 in
set_option maxRecDepth 100000 in
theorem m_bestOrder (l : Launch) (G : xG) (ad : Nat → Nat → Nat) (kd k1 k2 : Nat → Option Nat) (r r1 r2 : Rw) (ho rn ln dr : Int32) (ro lt rf th sb : Nat → Int32) (hr : Ok r) (hp : r 5 3 = 0) (hk : kOk (ad 4) kd r) (sp w : Int32) (ix : Nat → Nat) (hth : ∀ j, j < 3 → th j = nI (ix j) ∧ ix j < mny r) : xCi l G yX0_bestOrder cX0_bestOrder 7 (some .int) ({ frames := 7, cells := 0, slots := 0, locals := 157 } : Room) [.ref (ad 0 0), .int sp, .int w] (wX G ad ho rn ln dr ro lt rf th sb ++ wR G (ad 1) kd r ++ wR G (ad 2) k1 r1 ++ wR G (ad 3) k2 r2 ++ wK (ad 4)) (S := ((Nat → Option Nat) × Rw)) (fun v _ => v = pOrd r ix sp w) (fun u => (wX G ad ho rn ln dr ro lt rf th sb ++ wR G (ad 1) kd r ++ wR G (ad 2) u.1 u.2 ++ wR G (ad 3) k2 r2 ++ wK (ad 4))) := by
  refine x_openi (by decide) (Nat.le_of_ble_eq_true rfl) (fun _ _ _ => rfl) ?_
  intro p e s m args below meth c A Q ls C0 hK hP hD hA hl hret
  obtain ⟨hx, hb, hml, hown, hts⟩ := id C0
  have hS : va_S A s.heap s.heap [] := va_S.rf
  have hP : va_P G.1 vwCl (wX G ad ho rn ln dr ro lt rf th sb ++ wR G (ad 1) kd r ++ wR G (ad 2) k1 r1 ++ wR G (ad 3) k2 r2 ++ wK (ad 4)) s.heap := hP
  have hD : va_D A (wX G ad ho rn ln dr ro lt rf th sb ++ wR G (ad 1) kd r ++ wR G (ad 2) k1 r1 ++ wR G (ad 3) k2 r2 ++ wK (ad 4)) := hD
  have hl : lv_has ls 7 [(0, .ref (ad 0 0)), (1, .int sp), (2, .int w)] := hl
  have hr0 := hr.n
  have hN := hr.le
  refine lv_bipush (v := (-9)) hx hb dX0_bestOrder_0 (by decide) ?_
  refine lv_istore_n (lv' := [(3, .int (-9)), (0, .ref (ad 0 0)), (1, .int sp), (2, .int w)]) hx hb dX0_bestOrder_2 rfl hl (by decide) rfl (fun ls hl => ?_)
  refine lv_iconst (v := (-1)) hx hb dX0_bestOrder_3 (by decide) ?_
  refine lv_istore (lv' := [(4, .int (-1)), (3, .int (-9)), (0, .ref (ad 0 0)), (1, .int sp), (2, .int w)]) hx hb dX0_bestOrder_4 hl (by decide) rfl (fun ls hl => ?_)
  refine lv_iconst (v := 0) hx hb dX0_bestOrder_6 (by decide) ?_
  refine lv_istore (lv' := [(5, .int 0), (4, .int (-1)), (3, .int (-9)), (0, .ref (ad 0 0)), (1, .int sp), (2, .int w)]) hx hb dX0_bestOrder_7 hl (by decide) rfl (fun ls hl => ?_)
  have loop_9 : ∀ (n : Nat) (i : Nat) (km : Nat → Option Nat) (rm : Rw), (i ≤ 300) → (300 < i + n) → ∀ (H : Heap) (locs : List Loc) (ls : Array Slot), va_P G.1 vwCl (wX G ad ho rn ln dr ro lt rf th sb ++ wR G (ad 1) kd r ++ wR G (ad 2) km rm ++ wR G (ad 3) k2 r2 ++ wK (ad 4)) H → va_D A (wX G ad ho rn ln dr ro lt rf th sb ++ wR G (ad 1) kd r ++ wR G (ad 2) km rm ++ wR G (ad 3) k2 r2 ++ wK (ad 4)) → va_S A s.heap H locs → lv_has ls 7 [(5, .int (nI i)), (4, .int ((pOB r ix sp i).2)), (3, .int ((pOB r ix sp i).1)), (0, .ref (ad 0 0)), (1, .int sp), (2, .int w)] → W p l e ({ frames := 7, cells := 0, slots := 0, locals := 157 } : Room) s m args below meth c H locs 0 0 Q (F0 m 9 ls []) := by
    intro n
    induction n with
    | zero => intro i km rm hi9_0 hi9_1; exact absurd hi9_1 (by omega)
    | succ n ih_9 =>
      intro i km rm hi9_0 hi9_1 H locs ls hP hD hS hl
      refine lv_iload hx hb dX0_bestOrder_9 (lv_at hl 0 rfl) ?_
      refine lv_sipush (v := 300) hx hb dX0_bestOrder_11 (by decide) ?_
      refine lv_icmp_ge (tgt := 63) hx hb dX0_bestOrder_14 (by decide) (fun c_1 => ?_) (fun c_1 => ?_)
      · skip
        have g_1 := (nI_leI (by omega) (by omega)).mp (show nI i ≥ nI 300 from c_1)
        refine lv_iload_n hx hb dX0_bestOrder_63 rfl (lv_at hl 5 rfl) ?_
        refine lv_if_ne (tgt := 71) hx hb dX0_bestOrder_64 (by decide) (fun c_2 => ?_) (fun c_2 => ?_)
        · skip
          refine lv_iload hx hb dX0_bestOrder_71 (lv_at hl 1 rfl) ?_
          refine hret _ _ _ _ _ _ ((pOB r ix sp i).2) (km, rm) dX0_bestOrder_73 ?_ hP hD hS (Nat.le_of_ble_eq_true rfl) (Nat.le_of_ble_eq_true rfl)
          obtain rfl : i = 300 := by omega
          exact (if_neg c_2).symm
        · skip
          refine lv_iload_n hx hb dX0_bestOrder_67 rfl (lv_at hl 2 rfl) ?_
          refine lv_goto (tgt := 73) hx hb dX0_bestOrder_68 (by decide) ?_
          refine hret _ _ _ _ _ _ ((pOB r ix sp i).1) (km, rm) dX0_bestOrder_73 ?_ hP hD hS (Nat.le_of_ble_eq_true rfl) (Nat.le_of_ble_eq_true rfl)
          obtain rfl : i = 300 := by omega
          exact (if_pos c_2).symm
      · skip
        have g_1 := mt (nI_leI (by omega) (by omega)).mpr (show ¬ (nI i ≥ nI 300) from c_1)
        refine lv_iload hx hb dX0_bestOrder_17 (lv_at hl 0 rfl) ?_
        refine x_Si (wN := fun _ => (wX G ad ho rn ln dr ro lt rf th sb ++ wR G (ad 1) kd r ++ wR G (ad 2) km rm ++ wR G (ad 3) k2 r2 ++ wK (ad 4))) ⟨C0, hK, hP, hD, hS, hA⟩ ((m_isOrder l G i (by omega))) (va_cwS 1 hts (lw_S q898 q899 q86 q900) rfl rfl rfl (by decide +kernel) ⟨Nat.le_of_ble_eq_true rfl, Nat.le_of_ble_eq_true rfl⟩) [] [0, 2, 4, 6, 8, 10, 12, 14, 16, 18, 20, 22, 24, 26, 28, 30, 32, 34, 36, 38, 40, 42, 44, 46, 48, 50, 52, 54, 56, 58, 60] rfl (fun _ => rfl) rfl rfl hl.1 rfl (Nat.le_of_ble_eq_true rfl) dX0_bestOrder_19 ⟨Nat.le_of_ble_eq_true rfl, Nat.le_of_ble_eq_true rfl⟩ (fun r_3 u_3 H locs hw_3 hP hD hS => ?_)
        have hw_3 : (bI (isOrd i) : Int32) = r_3 := hw_3.symm
        subst hw_3
        refine lv_if_eq (tgt := 57) hx hb dX0_bestOrder_22 (by decide) (fun c_4 => ?_) (fun c_4 => ?_)
        · skip
          refine lv_iinc (v := nI (i + 1)) (lv' := [(5, .int (nI (i + 1))), (4, .int ((pOB r ix sp i).2)), (3, .int ((pOB r ix sp i).1)), (0, .ref (ad 0 0)), (1, .int sp), (2, .int w)]) hx hb dX0_bestOrder_57 hl (k := 0) rfl (x_inc1 _) (by decide) rfl (fun ls hl => ?_)
          refine lv_goto (tgt := 9) hx hb dX0_bestOrder_60 (by decide) ?_
          rw [← pOB_n (by have h9 := c_4; simpa [bI_0] using h9)] at hl
          exact ih_9 (i + 1) _ _ (by omega) (by omega) _ _ _ hP hD hS (lv_sub hl [0, 1, 2, 3, 4, 5] rfl)
        · skip
          have hod : isOrd i = true := (by have h9 := c_4; simpa [bI_0] using h9)
          refine lv_aload_n hx hb dX0_bestOrder_25 rfl (lv_at hl 3 rfl) ?_
          refine lv_iload hx hb dX0_bestOrder_26 (lv_at hl 0 rfl) ?_
          refine lv_iload_n hx hb dX0_bestOrder_28 rfl (lv_at hl 4 rfl) ?_
          refine x_Vi (wN := fun u_5 => (wX G ad ho rn ln dr ro lt rf th sb ++ wR G (ad 1) kd r ++ wR G (ad 2) u_5.1 u_5.2 ++ wR G (ad 3) k2 r2 ++ wK (ad 4))) ⟨C0, hK, hP, hD, hS, hA⟩ 0 rfl (ci := 0) rfl rfl ((m_standingBy l G ad kd km k2 r rm r2 ho rn ln dr ro lt rf th sb hr hp hk i (by omega) sp ix hth (isOrd_d hod))) (cwV 2 hts (lw_V q901 q903 qs45 q86 q904) rfl rfl rfl (by decide +kernel) ⟨Nat.le_of_ble_eq_true rfl, Nat.le_of_ble_eq_true rfl⟩) [0, 1, 2, 3, 4, 5, 6, 7, 8, 9, 10, 11, 12, 13, 14, 15, 16, 17, 18, 19, 20, 21, 22, 23, 24, 25, 26, 27, 28, 29, 30] [1, 3, 5, 7, 9, 11, 13, 15, 17, 19, 21, 23, 25, 27, 29, 31, 33, 35, 37, 39, 41, 43, 45, 47, 49, 51, 53, 55, 57, 59, 61] rfl (fun _ => rfl) rfl rfl hl.1 rfl (Nat.le_of_ble_eq_true rfl) dX0_bestOrder_29 ⟨Nat.le_of_ble_eq_true rfl, Nat.le_of_ble_eq_true rfl⟩ (fun r_5 u_5 H locs hw_5 hP hD hS => ?_)
          have hw_5 : (pOV r ix sp i : Int32) = r_5 := hw_5.symm
          subst hw_5
          have hP : va_P G.1 vwCl (wX G ad ho rn ln dr ro lt rf th sb ++ wR G (ad 1) kd r ++ wR G (ad 2) u_5.1 u_5.2 ++ wR G (ad 3) k2 r2 ++ wK (ad 4)) H := hP
          have hD : va_D A (wX G ad ho rn ln dr ro lt rf th sb ++ wR G (ad 1) kd r ++ wR G (ad 2) u_5.1 u_5.2 ++ wR G (ad 3) k2 r2 ++ wK (ad 4)) := hD
          refine lv_istore (lv' := [(6, .int (pOV r ix sp i)), (5, .int (nI i)), (4, .int ((pOB r ix sp i).2)), (3, .int ((pOB r ix sp i).1)), (0, .ref (ad 0 0)), (1, .int sp), (2, .int w)]) hx hb dX0_bestOrder_32 hl (by decide) rfl (fun ls hl => ?_)
          refine lv_iload hx hb dX0_bestOrder_34 (lv_at hl 0 rfl) ?_
          refine lv_iload hx hb dX0_bestOrder_36 (lv_at hl 2 rfl) ?_
          refine lv_icmp_le (tgt := 46) hx hb dX0_bestOrder_38 (by decide) (fun c_6 => ?_) (fun c_6 => ?_)
          · skip
            refine lv_iload_n hx hb dX0_bestOrder_46 rfl (lv_at hl 3 rfl) ?_
            rw [show ((pOB r ix sp i).1 : Int32) = (pOB r ix sp (i + 1)).1 from (by rw [pOB_1 hod]; exact (if_neg (Int32.not_lt.mpr c_6)).symm)]
            refine lv_istore_n (lv' := [(3, .int ((pOB r ix sp (i + 1)).1)), (6, .int (pOV r ix sp i)), (5, .int (nI i)), (4, .int ((pOB r ix sp i).2)), (0, .ref (ad 0 0)), (1, .int sp), (2, .int w)]) hx hb dX0_bestOrder_47 rfl hl (by decide) rfl (fun ls hl => ?_)
            refine lv_iload hx hb dX0_bestOrder_48 (lv_at hl 3 rfl) ?_
            refine lv_iload hx hb dX0_bestOrder_50 (lv_at hl 1 rfl) ?_
            refine va_mmax hx hb (by rw [hml]; exact hl.1.symm) hown (hts _ q905) (hts _ q659) (hts _ q111) (hts _ q660) (Nat.le_of_ble_eq_true rfl) (Nat.le_of_ble_eq_true rfl) (Nat.le_of_ble_eq_true rfl) (Nat.le_of_ble_eq_true rfl) dX0_bestOrder_52 ?_
            rw [show (if ((pOB r ix sp i).2) < (pOV r ix sp i) then pOV r ix sp i else (pOB r ix sp i).2 : Int32) = (pOB r ix sp (i + 1)).2 from (pOB_2 hod).symm]
            refine lv_istore (lv' := [(4, .int ((pOB r ix sp (i + 1)).2)), (3, .int ((pOB r ix sp (i + 1)).1)), (6, .int (pOV r ix sp i)), (5, .int (nI i)), (0, .ref (ad 0 0)), (1, .int sp), (2, .int w)]) hx hb dX0_bestOrder_55 hl (by decide) rfl (fun ls hl => ?_)
            refine lv_iinc (v := nI (i + 1)) (lv' := [(5, .int (nI (i + 1))), (4, .int ((pOB r ix sp (i + 1)).2)), (3, .int ((pOB r ix sp (i + 1)).1)), (6, .int (pOV r ix sp i)), (0, .ref (ad 0 0)), (1, .int sp), (2, .int w)]) hx hb dX0_bestOrder_57 hl (k := 3) rfl (x_inc1 _) (by decide) rfl (fun ls hl => ?_)
            refine lv_goto (tgt := 9) hx hb dX0_bestOrder_60 (by decide) ?_
            exact ih_9 (i + 1) _ _ (by omega) (by omega) _ _ _ hP hD hS (lv_sub hl [0, 1, 2, 4, 5, 6] rfl)
          · skip
            refine lv_iload hx hb dX0_bestOrder_41 (lv_at hl 1 rfl) ?_
            refine lv_goto (tgt := 47) hx hb dX0_bestOrder_43 (by decide) ?_
            rw [show (nI i : Int32) = (pOB r ix sp (i + 1)).1 from (by rw [pOB_1 hod]; exact (if_pos (Int32.not_le.mp c_6)).symm)]
            refine lv_istore_n (lv' := [(3, .int ((pOB r ix sp (i + 1)).1)), (6, .int (pOV r ix sp i)), (5, .int (nI i)), (4, .int ((pOB r ix sp i).2)), (0, .ref (ad 0 0)), (1, .int sp), (2, .int w)]) hx hb dX0_bestOrder_47 rfl hl (by decide) rfl (fun ls hl => ?_)
            refine lv_iload hx hb dX0_bestOrder_48 (lv_at hl 3 rfl) ?_
            refine lv_iload hx hb dX0_bestOrder_50 (lv_at hl 1 rfl) ?_
            refine va_mmax hx hb (by rw [hml]; exact hl.1.symm) hown (hts _ q905) (hts _ q659) (hts _ q111) (hts _ q660) (Nat.le_of_ble_eq_true rfl) (Nat.le_of_ble_eq_true rfl) (Nat.le_of_ble_eq_true rfl) (Nat.le_of_ble_eq_true rfl) dX0_bestOrder_52 ?_
            rw [show (if ((pOB r ix sp i).2) < (pOV r ix sp i) then pOV r ix sp i else (pOB r ix sp i).2 : Int32) = (pOB r ix sp (i + 1)).2 from (pOB_2 hod).symm]
            refine lv_istore (lv' := [(4, .int ((pOB r ix sp (i + 1)).2)), (3, .int ((pOB r ix sp (i + 1)).1)), (6, .int (pOV r ix sp i)), (5, .int (nI i)), (0, .ref (ad 0 0)), (1, .int sp), (2, .int w)]) hx hb dX0_bestOrder_55 hl (by decide) rfl (fun ls hl => ?_)
            refine lv_iinc (v := nI (i + 1)) (lv' := [(5, .int (nI (i + 1))), (4, .int ((pOB r ix sp (i + 1)).2)), (3, .int ((pOB r ix sp (i + 1)).1)), (6, .int (pOV r ix sp i)), (0, .ref (ad 0 0)), (1, .int sp), (2, .int w)]) hx hb dX0_bestOrder_57 hl (k := 3) rfl (x_inc1 _) (by decide) rfl (fun ls hl => ?_)
            refine lv_goto (tgt := 9) hx hb dX0_bestOrder_60 (by decide) ?_
            exact ih_9 (i + 1) _ _ (by omega) (by omega) _ _ _ hP hD hS (lv_sub hl [0, 1, 2, 4, 5, 6] rfl)
  exact loop_9 301 0 _ _ (by omega) (by omega) _ _ _ hP hD hS (lv_sub hl [0, 1, 2, 3, 4, 5] rfl)
set_option maxHeartbeats 4000000 in
set_option maxRecDepth 100000 in
theorem m_X1_isWatcher (l : Launch) (G : xG) (o ci : Nat) (q9 : vw_C) (hci : vwCl[ci]? = some q9) : xCi l G yX1_isWatcher cX1_isWatcher 1 (some .boolean) ({ frames := 0, cells := 0, slots := 0, locals := 0 } : Room) [.ref o] ([(o, .inr (ci, []))]) (S := Unit) (fun v _ => v = bI false) (fun _ => [(o, .inr (ci, []))]) := by
  refine x_openi (by decide) (Nat.le_of_ble_eq_true rfl) (fun _ _ h => by rw [h]; exact bI_z _) ?_
  intro p e s m args below meth c A Q ls C0 hK hP hD hA hl hret
  obtain ⟨hx, hb, hml, hown, hts⟩ := id C0
  have hS : va_S A s.heap s.heap [] := va_S.rf
  have hP : va_P G.1 vwCl ([(o, .inr (ci, []))]) s.heap := hP
  have hD : va_D A ([(o, .inr (ci, []))]) := hD
  have hl : lv_has ls 1 [(0, .ref o)] := hl
  refine lv_iconst (v := 0) hx hb dX1_isWatcher_0 (by decide) ?_
  refine hret _ _ _ _ _ _ 0 () dX1_isWatcher_1 ?_ hP hD hS (Nat.le_of_ble_eq_true rfl) (Nat.le_of_ble_eq_true rfl)
  rfl
set_option maxHeartbeats 4000000 in
set_option maxRecDepth 100000 in
theorem m_X6_isWatcher (l : Launch) (G : xG) (o ci : Nat) (q9 : vw_C) (hci : vwCl[ci]? = some q9) : xCi l G yX6_isWatcher cX6_isWatcher 1 (some .boolean) ({ frames := 1, cells := 0, slots := 0, locals := 20 } : Room) [.ref o] ([(o, .inr (ci, []))]) (S := Unit) (fun v _ => v = bI true) (fun _ => [(o, .inr (ci, []))]) := by
  refine x_openi (by decide) (Nat.le_of_ble_eq_true rfl) (fun _ _ h => by rw [h]; exact bI_z _) ?_
  intro p e s m args below meth c A Q ls C0 hK hP hD hA hl hret
  obtain ⟨hx, hb, hml, hown, hts⟩ := id C0
  have hS : va_S A s.heap s.heap [] := va_S.rf
  have hP : va_P G.1 vwCl ([(o, .inr (ci, []))]) s.heap := hP
  have hD : va_D A ([(o, .inr (ci, []))]) := hD
  have hl : lv_has ls 1 [(0, .ref o)] := hl
  refine lv_aload_n hx hb dX6_isWatcher_0 rfl (lv_at hl 0 rfl) ?_
  refine x_SUXi (wN := fun _ => ([(o, .inr (ci, []))])) (x := ⟨"PulledFromUnder$Person", "isWatcher", "()Z"⟩) (mid := "PulledFromUnder$Thing") ⟨C0, hK, hP, hD, hS, hA⟩ 0 rfl (ci := ci) hci rfl ((m_X1_isWatcher l G o ci _ hci)) rfl q929 q930 q159 q145 q131 q919 q87 q932 (by decide +kernel) ⟨Nat.le_of_ble_eq_true rfl, Nat.le_of_ble_eq_true rfl⟩ [0] [1] rfl (fun _ => rfl) rfl rfl hl.1 rfl (Nat.le_of_ble_eq_true rfl) dX6_isWatcher_1 ⟨Nat.le_of_ble_eq_true rfl, Nat.le_of_ble_eq_true rfl⟩ (fun r_1 u_1 H locs hw_1 hP hD hS => ?_)
  have hw_1 : (bI false : Int32) = r_1 := hw_1.symm
  subst hw_1
  refine lv_if_ne (tgt := 11) hx hb dX6_isWatcher_4 (by decide) (fun c_2 => ?_) (fun c_2 => ?_)
  · skip
    exact absurd rfl c_2
  · skip
    refine lv_iconst (v := 1) hx hb dX6_isWatcher_7 (by decide) ?_
    refine lv_goto (tgt := 12) hx hb dX6_isWatcher_8 (by decide) ?_
    refine hret _ _ _ _ _ _ 1 () dX6_isWatcher_12 ?_ hP hD hS (Nat.le_of_ble_eq_true rfl) (Nat.le_of_ble_eq_true rfl)
    rfl
set_option maxHeartbeats 4000000 in
set_option maxRecDepth 100000 in
theorem m_watching (l : Launch) (G : xG) (ad : Nat → Nat → Nat) (kd k1 k2 : Nat → Option Nat) (r r1 r2 : Rw) (ho rn ln dr : Int32) (ro lt rf th sb : Nat → Int32) (hr : Ok r) (hp : r 5 3 = 0) (hk : kOk (ad 4) kd r) : xCi l G yX0_watching cX0_watching 3 (some .int) ({ frames := 2, cells := 0, slots := 0, locals := 40 } : Room) [.ref (ad 0 0)] (wX G ad ho rn ln dr ro lt rf th sb ++ wR G (ad 1) kd r ++ wR G (ad 2) k1 r1 ++ wR G (ad 3) k2 r2 ++ wK (ad 4)) (S := Unit) (fun v _ => v = nI (cn (pWt r) (mny r))) (fun _ => (wX G ad ho rn ln dr ro lt rf th sb ++ wR G (ad 1) kd r ++ wR G (ad 2) k1 r1 ++ wR G (ad 3) k2 r2 ++ wK (ad 4))) := by
  refine x_openi (by decide) (Nat.le_of_ble_eq_true rfl) (fun _ _ _ => rfl) ?_
  intro p e s m args below meth c A Q ls C0 hK hP hD hA hl hret
  obtain ⟨hx, hb, hml, hown, hts⟩ := id C0
  have hS : va_S A s.heap s.heap [] := va_S.rf
  have hP : va_P G.1 vwCl (wX G ad ho rn ln dr ro lt rf th sb ++ wR G (ad 1) kd r ++ wR G (ad 2) k1 r1 ++ wR G (ad 3) k2 r2 ++ wK (ad 4)) s.heap := hP
  have hD : va_D A (wX G ad ho rn ln dr ro lt rf th sb ++ wR G (ad 1) kd r ++ wR G (ad 2) k1 r1 ++ wR G (ad 3) k2 r2 ++ wK (ad 4)) := hD
  have hl : lv_has ls 3 [(0, .ref (ad 0 0))] := hl
  have hr0 := hr.n
  have hN := hr.le
  refine lv_iconst (v := 0) hx hb dX0_watching_0 (by decide) ?_
  refine lv_istore_n (lv' := [(1, .int 0), (0, .ref (ad 0 0))]) hx hb dX0_watching_1 rfl hl (by decide) rfl (fun ls hl => ?_)
  refine lv_iconst (v := 0) hx hb dX0_watching_2 (by decide) ?_
  refine lv_istore_n (lv' := [(2, .int 0), (1, .int 0), (0, .ref (ad 0 0))]) hx hb dX0_watching_3 rfl hl (by decide) rfl (fun ls hl => ?_)
  have loop_4 : ∀ (n : Nat) (i : Nat), (i ≤ mny r) → (mny r < i + n) → ∀ (H : Heap) (locs : List Loc) (ls : Array Slot), va_P G.1 vwCl (wX G ad ho rn ln dr ro lt rf th sb ++ wR G (ad 1) kd r ++ wR G (ad 2) k1 r1 ++ wR G (ad 3) k2 r2 ++ wK (ad 4)) H → va_D A (wX G ad ho rn ln dr ro lt rf th sb ++ wR G (ad 1) kd r ++ wR G (ad 2) k1 r1 ++ wR G (ad 3) k2 r2 ++ wK (ad 4)) → va_S A s.heap H locs → lv_has ls 3 [(2, .int (nI i)), (1, .int (nI (cn (pWt r) i))), (0, .ref (ad 0 0))] → W p l e ({ frames := 2, cells := 0, slots := 0, locals := 40 } : Room) s m args below meth c H locs 0 0 Q (F0 m 4 ls []) := by
    intro n
    induction n with
    | zero => intro i hi4_0 hi4_1; exact absurd hi4_1 (by omega)
    | succ n ih_4 =>
      intro i hi4_0 hi4_1 H locs ls hP hD hS hl
      refine lv_iload_n hx hb dX0_watching_4 rfl (lv_at hl 0 rfl) ?_
      refine lv_aload_n hx hb dX0_watching_5 rfl (lv_at hl 2 rfl) ?_
      refine va_get (D := G.1) (ci := 0) (v := .ref ((ad 1) 0)) (C := RX0) (T := TX0) (N := 13) hx hb hts in_X0 hown hK.1 hP 0 rfl rfl 1 (by decide) (hts _ q222) (fun _ h9 => h9) rfl dX0_watching_6 ?_
      refine va_getN (D := G.1) (ci := 7) (v := .int (nI (mny r))) (C := RX8) (T := TX8) (N := 9) hx hb hts in_X8 hown hK.1 hP 7 rfl rfl 0 (by decide) (va_Nw.use rfl (hK.2.F 4 rfl)) (fun _ h9 => h9) (x_some hr0) dX0_watching_9 ?_
      refine lv_icmp_ge (tgt := 66) hx hb dX0_watching_12 (by decide) (fun c_1 => ?_) (fun c_1 => ?_)
      · skip
        have g_1 := (nI_leI (by omega) (by omega)).mp c_1
        refine lv_iload_n hx hb dX0_watching_66 rfl (lv_at hl 1 rfl) ?_
        refine hret _ _ _ _ _ _ (nI (cn (pWt r) i)) () dX0_watching_67 ?_ hP hD hS (Nat.le_of_ble_eq_true rfl) (Nat.le_of_ble_eq_true rfl)
        rw [show i = mny r by omega]
      · skip
        have g_1 := mt (nI_leI (by omega) (by omega)).mpr c_1
        refine lv_iload_n hx hb dX0_watching_15 rfl (lv_at hl 1 rfl) ?_
        refine lv_aload_n hx hb dX0_watching_16 rfl (lv_at hl 2 rfl) ?_
        refine va_get (D := G.1) (ci := 0) (v := .ref ((ad 1) 0)) (C := RX0) (T := TX0) (N := 13) hx hb hts in_X0 hown hK.1 hP 0 rfl rfl 1 (by decide) (hts _ q222) (fun _ h9 => h9) rfl dX0_watching_17 ?_
        refine lv_iconst (v := 1) hx hb dX0_watching_20 (by decide) ?_
        refine x_Vi (wN := fun _ => (wX G ad ho rn ln dr ro lt rf th sb ++ wR G (ad 1) kd r ++ wR G (ad 2) k1 r1 ++ wR G (ad 3) k2 r2 ++ wK (ad 4))) ⟨C0, hK, hP, hD, hS, hA⟩ 7 rfl (ci := 7) rfl rfl ((m_bits l G (ad 1) (ad 4) kd r hr hk 1)) (cwV 1 hts (lw_V q815 q643 q644 q94 q645) rfl rfl rfl (by decide +kernel) ⟨Nat.le_of_ble_eq_true rfl, Nat.le_of_ble_eq_true rfl⟩) [7, 8, 9, 10, 11, 12, 25, 26, 27, 28, 29, 30] [0, 2, 4, 6, 8, 10, 12, 1, 3, 5, 7, 9, 11, 26, 28, 30, 32, 34, 36, 38, 40, 42, 44, 46, 48, 13, 15, 17, 19, 21, 23] rfl (fun _ => rfl) rfl rfl hl.1 rfl (Nat.le_of_ble_eq_true rfl) dX0_watching_21 ⟨Nat.le_of_ble_eq_true rfl, Nat.le_of_ble_eq_true rfl⟩ (fun r_2 u_2 H locs hw_2 hP hD hS => ?_)
        have hw_2 : (pSet r 1 : Int32) = r_2 := hw_2.symm
        subst hw_2
        refine lv_if_eq (tgt := 57) hx hb dX0_watching_24 (by decide) (fun c_3 => ?_) (fun c_3 => ?_)
        · skip
          refine lv_iconst (v := 0) hx hb dX0_watching_57 (by decide) ?_
          refine x_iadd hx hb dX0_watching_58 (v := nI (cn (pWt r) (i + 1))) (cnI_f (by unfold pWt pLie; simp [c_3])) ?_
          refine lv_istore_n (lv' := [(1, .int (nI (cn (pWt r) (i + 1)))), (2, .int (nI i)), (0, .ref (ad 0 0))]) hx hb dX0_watching_59 rfl hl (by decide) rfl (fun ls hl => ?_)
          refine lv_iinc (v := nI (i + 1)) (lv' := [(2, .int (nI (i + 1))), (1, .int (nI (cn (pWt r) (i + 1)))), (0, .ref (ad 0 0))]) hx hb dX0_watching_60 hl (k := 1) rfl (x_inc1 _) (by decide) rfl (fun ls hl => ?_)
          refine lv_goto (tgt := 4) hx hb dX0_watching_63 (by decide) ?_
          exact ih_4 (i + 1) (by omega) (by omega) _ _ _ hP hD hS (lv_sub hl [0, 1, 2] rfl)
        · skip
          refine lv_aload_n hx hb dX0_watching_27 rfl (lv_at hl 2 rfl) ?_
          refine va_get (D := G.1) (ci := 0) (v := .ref ((ad 1) 0)) (C := RX0) (T := TX0) (N := 13) hx hb hts in_X0 hown hK.1 hP 0 rfl rfl 1 (by decide) (hts _ q222) (fun _ h9 => h9) rfl dX0_watching_28 ?_
          refine lv_iload_n hx hb dX0_watching_31 rfl (lv_at hl 0 rfl) ?_
          refine x_Vi (wN := fun _ => (wX G ad ho rn ln dr ro lt rf th sb ++ wR G (ad 1) kd r ++ wR G (ad 2) k1 r1 ++ wR G (ad 3) k2 r2 ++ wK (ad 4))) ⟨C0, hK, hP, hD, hS, hA⟩ 7 rfl (ci := 7) rfl rfl ((m_isStanding l G (ad 1) (ad 4) kd r hr hk i (by omega))) (cwV 1 hts (lw_V q744 q558 q559 q94 q560) rfl rfl rfl (by decide +kernel) ⟨Nat.le_of_ble_eq_true rfl, Nat.le_of_ble_eq_true rfl⟩) [7, 8, 9, 10, 11, 12, 25, 26, 27, 28, 29, 30] [0, 2, 4, 6, 8, 10, 12, 1, 3, 5, 7, 9, 11, 26, 28, 30, 32, 34, 36, 38, 40, 42, 44, 46, 48, 13, 15, 17, 19, 21, 23] rfl (fun _ => rfl) rfl rfl hl.1 rfl (Nat.le_of_ble_eq_true rfl) dX0_watching_32 ⟨Nat.le_of_ble_eq_true rfl, Nat.le_of_ble_eq_true rfl⟩ (fun r_4 u_4 H locs hw_4 hP hD hS => ?_)
          have hw_4 : (bI (pSt r i) : Int32) = r_4 := hw_4.symm
          subst hw_4
          refine lv_if_eq (tgt := 57) hx hb dX0_watching_35 (by decide) (fun c_5 => ?_) (fun c_5 => ?_)
          · skip
            refine lv_iconst (v := 0) hx hb dX0_watching_57 (by decide) ?_
            refine x_iadd hx hb dX0_watching_58 (v := nI (cn (pWt r) (i + 1))) (cnI_f (by unfold pWt; simp [show pSt r i = false from (by have h9 := c_5; simpa [bI_0] using h9)])) ?_
            refine lv_istore_n (lv' := [(1, .int (nI (cn (pWt r) (i + 1)))), (2, .int (nI i)), (0, .ref (ad 0 0))]) hx hb dX0_watching_59 rfl hl (by decide) rfl (fun ls hl => ?_)
            refine lv_iinc (v := nI (i + 1)) (lv' := [(2, .int (nI (i + 1))), (1, .int (nI (cn (pWt r) (i + 1)))), (0, .ref (ad 0 0))]) hx hb dX0_watching_60 hl (k := 1) rfl (x_inc1 _) (by decide) rfl (fun ls hl => ?_)
            refine lv_goto (tgt := 4) hx hb dX0_watching_63 (by decide) ?_
            exact ih_4 (i + 1) (by omega) (by omega) _ _ _ hP hD hS (lv_sub hl [0, 1, 2] rfl)
          · skip
            refine lv_aload_n hx hb dX0_watching_38 rfl (lv_at hl 2 rfl) ?_
            refine va_get (D := G.1) (ci := 0) (v := .ref ((ad 1) 0)) (C := RX0) (T := TX0) (N := 13) hx hb hts in_X0 hown hK.1 hP 0 rfl rfl 1 (by decide) (hts _ q222) (fun _ h9 => h9) rfl dX0_watching_39 ?_
            refine va_getN (D := G.1) (ci := 7) (v := .ref ((ad 1) 1)) (C := RX8) (T := TX8) (N := 9) hx hb hts in_X8 hown hK.1 hP 7 rfl rfl 1 (by decide) (va_Nw.use rfl (hK.2.F 5 rfl)) (fun _ h9 => h9) rfl dX0_watching_42 ?_
            obtain ⟨c0, hc0, ec0⟩ := hr.kd (show i < mny r by omega)
            refine lv_iload_n hx hb dX0_watching_45 rfl (lv_at hl 0 rfl) ?_
            refine x_aald hx hb hK.1 hP 8 3 rfl rfl (vp_in_nI (by omega) (by decide)) (x := (ad 4) c0) (hk.at (show i < mny r by omega) (by omega) ec0 hc0) dX0_watching_46 ?_
            rcases (show c0 = 0 ∨ c0 = 1 ∨ c0 = 2 ∨ c0 = 3 ∨ c0 = 4 ∨ c0 = 5 by omega) with rfl | rfl | rfl | rfl | rfl | rfl
            · skip
              refine x_Ui (wN := fun _ => (wX G ad ho rn ln dr ro lt rf th sb ++ wR G (ad 1) kd r ++ wR G (ad 2) k1 r1 ++ wR G (ad 3) k2 r2 ++ wK (ad 4))) ⟨C0, hK, hP, hD, hS, hA⟩ 25 rfl (ci := 1) rfl rfl ((m_X1_isWatcher l G ((ad 4) 0) 1 _ rfl)) (va_cwA (owner := "PulledFromUnder$Kind") 0 hts (lw_U q918 q920 q925 q919 q87 q932) rfl rfl rfl (hK.2.D 12 rfl) (by decide +kernel) ⟨Nat.le_of_ble_eq_true rfl, Nat.le_of_ble_eq_true rfl⟩) [25] [0, 2, 4, 6, 8, 10, 12, 14, 16, 18, 20, 22, 24, 26, 28, 30, 32, 34, 36, 38, 40, 42, 44, 46, 48, 1, 52, 54, 56, 58, 60] rfl (fun _ => rfl) rfl rfl hl.1 rfl (Nat.le_of_ble_eq_true rfl) dX0_watching_47 ⟨Nat.le_of_ble_eq_true rfl, Nat.le_of_ble_eq_true rfl⟩ (fun r_6 u_6 H locs hw_6 hP hD hS => ?_)
              have hw_6 : (bI false : Int32) = r_6 := hw_6.symm
              subst hw_6
              refine lv_if_eq (tgt := 57) hx hb dX0_watching_50 (by decide) (fun c_7 => ?_) (fun c_7 => ?_)
              · skip
                refine lv_iconst (v := 0) hx hb dX0_watching_57 (by decide) ?_
                refine x_iadd hx hb dX0_watching_58 (v := nI (cn (pWt r) (i + 1))) (cnI_f (by unfold pWt; rw [decide_eq_false (show ¬ r 0 i = nI 4 by rw [ec0]; decide)]; simp)) ?_
                refine lv_istore_n (lv' := [(1, .int (nI (cn (pWt r) (i + 1)))), (2, .int (nI i)), (0, .ref (ad 0 0))]) hx hb dX0_watching_59 rfl hl (by decide) rfl (fun ls hl => ?_)
                refine lv_iinc (v := nI (i + 1)) (lv' := [(2, .int (nI (i + 1))), (1, .int (nI (cn (pWt r) (i + 1)))), (0, .ref (ad 0 0))]) hx hb dX0_watching_60 hl (k := 1) rfl (x_inc1 _) (by decide) rfl (fun ls hl => ?_)
                refine lv_goto (tgt := 4) hx hb dX0_watching_63 (by decide) ?_
                exact ih_4 (i + 1) (by omega) (by omega) _ _ _ hP hD hS (lv_sub hl [0, 1, 2] rfl)
              · skip
                exact absurd rfl c_7
            · skip
              refine x_Ui (wN := fun _ => (wX G ad ho rn ln dr ro lt rf th sb ++ wR G (ad 1) kd r ++ wR G (ad 2) k1 r1 ++ wR G (ad 3) k2 r2 ++ wK (ad 4))) ⟨C0, hK, hP, hD, hS, hA⟩ 26 rfl (ci := 2) rfl rfl ((m_X1_isWatcher l G ((ad 4) 1) 2 _ rfl)) (va_cwA (owner := "PulledFromUnder$Kind") 0 hts (lw_U q918 q920 q923 q919 q87 q932) rfl rfl rfl (hK.2.D 12 rfl) (by decide +kernel) ⟨Nat.le_of_ble_eq_true rfl, Nat.le_of_ble_eq_true rfl⟩) [26] [0, 2, 4, 6, 8, 10, 12, 14, 16, 18, 20, 22, 24, 26, 28, 30, 32, 34, 36, 38, 40, 42, 44, 46, 48, 50, 1, 54, 56, 58, 60] rfl (fun _ => rfl) rfl rfl hl.1 rfl (Nat.le_of_ble_eq_true rfl) dX0_watching_47 ⟨Nat.le_of_ble_eq_true rfl, Nat.le_of_ble_eq_true rfl⟩ (fun r_8 u_8 H locs hw_8 hP hD hS => ?_)
              have hw_8 : (bI false : Int32) = r_8 := hw_8.symm
              subst hw_8
              refine lv_if_eq (tgt := 57) hx hb dX0_watching_50 (by decide) (fun c_9 => ?_) (fun c_9 => ?_)
              · skip
                refine lv_iconst (v := 0) hx hb dX0_watching_57 (by decide) ?_
                refine x_iadd hx hb dX0_watching_58 (v := nI (cn (pWt r) (i + 1))) (cnI_f (by unfold pWt; rw [decide_eq_false (show ¬ r 0 i = nI 4 by rw [ec0]; decide)]; simp)) ?_
                refine lv_istore_n (lv' := [(1, .int (nI (cn (pWt r) (i + 1)))), (2, .int (nI i)), (0, .ref (ad 0 0))]) hx hb dX0_watching_59 rfl hl (by decide) rfl (fun ls hl => ?_)
                refine lv_iinc (v := nI (i + 1)) (lv' := [(2, .int (nI (i + 1))), (1, .int (nI (cn (pWt r) (i + 1)))), (0, .ref (ad 0 0))]) hx hb dX0_watching_60 hl (k := 1) rfl (x_inc1 _) (by decide) rfl (fun ls hl => ?_)
                refine lv_goto (tgt := 4) hx hb dX0_watching_63 (by decide) ?_
                exact ih_4 (i + 1) (by omega) (by omega) _ _ _ hP hD hS (lv_sub hl [0, 1, 2] rfl)
              · skip
                exact absurd rfl c_9
            · skip
              refine x_Ui (wN := fun _ => (wX G ad ho rn ln dr ro lt rf th sb ++ wR G (ad 1) kd r ++ wR G (ad 2) k1 r1 ++ wR G (ad 3) k2 r2 ++ wK (ad 4))) ⟨C0, hK, hP, hD, hS, hA⟩ 27 rfl (ci := 3) rfl rfl ((m_X1_isWatcher l G ((ad 4) 2) 3 _ rfl)) (va_cwA (owner := "PulledFromUnder$Kind") 0 hts (lw_U q918 q920 q924 q919 q87 q932) rfl rfl rfl (hK.2.D 12 rfl) (by decide +kernel) ⟨Nat.le_of_ble_eq_true rfl, Nat.le_of_ble_eq_true rfl⟩) [27] [0, 2, 4, 6, 8, 10, 12, 14, 16, 18, 20, 22, 24, 26, 28, 30, 32, 34, 36, 38, 40, 42, 44, 46, 48, 50, 52, 1, 56, 58, 60] rfl (fun _ => rfl) rfl rfl hl.1 rfl (Nat.le_of_ble_eq_true rfl) dX0_watching_47 ⟨Nat.le_of_ble_eq_true rfl, Nat.le_of_ble_eq_true rfl⟩ (fun r_10 u_10 H locs hw_10 hP hD hS => ?_)
              have hw_10 : (bI false : Int32) = r_10 := hw_10.symm
              subst hw_10
              refine lv_if_eq (tgt := 57) hx hb dX0_watching_50 (by decide) (fun c_11 => ?_) (fun c_11 => ?_)
              · skip
                refine lv_iconst (v := 0) hx hb dX0_watching_57 (by decide) ?_
                refine x_iadd hx hb dX0_watching_58 (v := nI (cn (pWt r) (i + 1))) (cnI_f (by unfold pWt; rw [decide_eq_false (show ¬ r 0 i = nI 4 by rw [ec0]; decide)]; simp)) ?_
                refine lv_istore_n (lv' := [(1, .int (nI (cn (pWt r) (i + 1)))), (2, .int (nI i)), (0, .ref (ad 0 0))]) hx hb dX0_watching_59 rfl hl (by decide) rfl (fun ls hl => ?_)
                refine lv_iinc (v := nI (i + 1)) (lv' := [(2, .int (nI (i + 1))), (1, .int (nI (cn (pWt r) (i + 1)))), (0, .ref (ad 0 0))]) hx hb dX0_watching_60 hl (k := 1) rfl (x_inc1 _) (by decide) rfl (fun ls hl => ?_)
                refine lv_goto (tgt := 4) hx hb dX0_watching_63 (by decide) ?_
                exact ih_4 (i + 1) (by omega) (by omega) _ _ _ hP hD hS (lv_sub hl [0, 1, 2] rfl)
              · skip
                exact absurd rfl c_11
            · skip
              refine x_Ui (wN := fun _ => (wX G ad ho rn ln dr ro lt rf th sb ++ wR G (ad 1) kd r ++ wR G (ad 2) k1 r1 ++ wR G (ad 3) k2 r2 ++ wK (ad 4))) ⟨C0, hK, hP, hD, hS, hA⟩ 28 rfl (ci := 4) rfl rfl ((m_X1_isWatcher l G ((ad 4) 3) 4 _ rfl)) (va_cwA (owner := "PulledFromUnder$Kind") 0 hts (lw_U q918 q920 q922 q919 q87 q932) rfl rfl rfl (hK.2.D 12 rfl) (by decide +kernel) ⟨Nat.le_of_ble_eq_true rfl, Nat.le_of_ble_eq_true rfl⟩) [28] [0, 2, 4, 6, 8, 10, 12, 14, 16, 18, 20, 22, 24, 26, 28, 30, 32, 34, 36, 38, 40, 42, 44, 46, 48, 50, 52, 54, 1, 58, 60] rfl (fun _ => rfl) rfl rfl hl.1 rfl (Nat.le_of_ble_eq_true rfl) dX0_watching_47 ⟨Nat.le_of_ble_eq_true rfl, Nat.le_of_ble_eq_true rfl⟩ (fun r_12 u_12 H locs hw_12 hP hD hS => ?_)
              have hw_12 : (bI false : Int32) = r_12 := hw_12.symm
              subst hw_12
              refine lv_if_eq (tgt := 57) hx hb dX0_watching_50 (by decide) (fun c_13 => ?_) (fun c_13 => ?_)
              · skip
                refine lv_iconst (v := 0) hx hb dX0_watching_57 (by decide) ?_
                refine x_iadd hx hb dX0_watching_58 (v := nI (cn (pWt r) (i + 1))) (cnI_f (by unfold pWt; rw [decide_eq_false (show ¬ r 0 i = nI 4 by rw [ec0]; decide)]; simp)) ?_
                refine lv_istore_n (lv' := [(1, .int (nI (cn (pWt r) (i + 1)))), (2, .int (nI i)), (0, .ref (ad 0 0))]) hx hb dX0_watching_59 rfl hl (by decide) rfl (fun ls hl => ?_)
                refine lv_iinc (v := nI (i + 1)) (lv' := [(2, .int (nI (i + 1))), (1, .int (nI (cn (pWt r) (i + 1)))), (0, .ref (ad 0 0))]) hx hb dX0_watching_60 hl (k := 1) rfl (x_inc1 _) (by decide) rfl (fun ls hl => ?_)
                refine lv_goto (tgt := 4) hx hb dX0_watching_63 (by decide) ?_
                exact ih_4 (i + 1) (by omega) (by omega) _ _ _ hP hD hS (lv_sub hl [0, 1, 2] rfl)
              · skip
                exact absurd rfl c_13
            · skip
              refine x_Ui (wN := fun _ => (wX G ad ho rn ln dr ro lt rf th sb ++ wR G (ad 1) kd r ++ wR G (ad 2) k1 r1 ++ wR G (ad 3) k2 r2 ++ wK (ad 4))) ⟨C0, hK, hP, hD, hS, hA⟩ 29 rfl (ci := 5) rfl rfl ((m_X6_isWatcher l G ((ad 4) 4) 5 _ rfl)) (va_cwA (owner := "PulledFromUnder$Kind") 0 hts (lw_U q918 q920 q926 q927 q92 q928) rfl rfl rfl (hK.2.D 12 rfl) (by decide +kernel) ⟨Nat.le_of_ble_eq_true rfl, Nat.le_of_ble_eq_true rfl⟩) [29] [0, 2, 4, 6, 8, 10, 12, 14, 16, 18, 20, 22, 24, 26, 28, 30, 32, 34, 36, 38, 40, 42, 44, 46, 48, 50, 52, 54, 56, 1, 60] rfl (fun _ => rfl) rfl rfl hl.1 rfl (Nat.le_of_ble_eq_true rfl) dX0_watching_47 ⟨Nat.le_of_ble_eq_true rfl, Nat.le_of_ble_eq_true rfl⟩ (fun r_14 u_14 H locs hw_14 hP hD hS => ?_)
              have hw_14 : (bI true : Int32) = r_14 := hw_14.symm
              subst hw_14
              refine lv_if_eq (tgt := 57) hx hb dX0_watching_50 (by decide) (fun c_15 => ?_) (fun c_15 => ?_)
              · skip
                exact absurd c_15 (by decide)
              · skip
                refine lv_iconst (v := 1) hx hb dX0_watching_53 (by decide) ?_
                refine lv_goto (tgt := 58) hx hb dX0_watching_54 (by decide) ?_
                refine x_iadd hx hb dX0_watching_58 (v := nI (cn (pWt r) (i + 1))) (cnI_t (by unfold pWt pLie; rw [decide_eq_true (show pSet r 1 ≠ 0 from c_3), show pSt r i = true from (by have h9 := c_5; simpa [bI_0] using h9), decide_eq_true (show r 0 i = nI 4 from ec0)]; rfl)) ?_
                refine lv_istore_n (lv' := [(1, .int (nI (cn (pWt r) (i + 1)))), (2, .int (nI i)), (0, .ref (ad 0 0))]) hx hb dX0_watching_59 rfl hl (by decide) rfl (fun ls hl => ?_)
                refine lv_iinc (v := nI (i + 1)) (lv' := [(2, .int (nI (i + 1))), (1, .int (nI (cn (pWt r) (i + 1)))), (0, .ref (ad 0 0))]) hx hb dX0_watching_60 hl (k := 1) rfl (x_inc1 _) (by decide) rfl (fun ls hl => ?_)
                refine lv_goto (tgt := 4) hx hb dX0_watching_63 (by decide) ?_
                exact ih_4 (i + 1) (by omega) (by omega) _ _ _ hP hD hS (lv_sub hl [0, 1, 2] rfl)
            · skip
              refine x_Ui (wN := fun _ => (wX G ad ho rn ln dr ro lt rf th sb ++ wR G (ad 1) kd r ++ wR G (ad 2) k1 r1 ++ wR G (ad 3) k2 r2 ++ wK (ad 4))) ⟨C0, hK, hP, hD, hS, hA⟩ 30 rfl (ci := 6) rfl rfl ((m_X1_isWatcher l G ((ad 4) 5) 6 _ rfl)) (va_cwA (owner := "PulledFromUnder$Kind") 0 hts (lw_U q918 q920 q921 q919 q87 q932) rfl rfl rfl (hK.2.D 12 rfl) (by decide +kernel) ⟨Nat.le_of_ble_eq_true rfl, Nat.le_of_ble_eq_true rfl⟩) [30] [0, 2, 4, 6, 8, 10, 12, 14, 16, 18, 20, 22, 24, 26, 28, 30, 32, 34, 36, 38, 40, 42, 44, 46, 48, 50, 52, 54, 56, 58, 1] rfl (fun _ => rfl) rfl rfl hl.1 rfl (Nat.le_of_ble_eq_true rfl) dX0_watching_47 ⟨Nat.le_of_ble_eq_true rfl, Nat.le_of_ble_eq_true rfl⟩ (fun r_16 u_16 H locs hw_16 hP hD hS => ?_)
              have hw_16 : (bI false : Int32) = r_16 := hw_16.symm
              subst hw_16
              refine lv_if_eq (tgt := 57) hx hb dX0_watching_50 (by decide) (fun c_17 => ?_) (fun c_17 => ?_)
              · skip
                refine lv_iconst (v := 0) hx hb dX0_watching_57 (by decide) ?_
                refine x_iadd hx hb dX0_watching_58 (v := nI (cn (pWt r) (i + 1))) (cnI_f (by unfold pWt; rw [decide_eq_false (show ¬ r 0 i = nI 4 by rw [ec0]; decide)]; simp)) ?_
                refine lv_istore_n (lv' := [(1, .int (nI (cn (pWt r) (i + 1)))), (2, .int (nI i)), (0, .ref (ad 0 0))]) hx hb dX0_watching_59 rfl hl (by decide) rfl (fun ls hl => ?_)
                refine lv_iinc (v := nI (i + 1)) (lv' := [(2, .int (nI (i + 1))), (1, .int (nI (cn (pWt r) (i + 1)))), (0, .ref (ad 0 0))]) hx hb dX0_watching_60 hl (k := 1) rfl (x_inc1 _) (by decide) rfl (fun ls hl => ?_)
                refine lv_goto (tgt := 4) hx hb dX0_watching_63 (by decide) ?_
                exact ih_4 (i + 1) (by omega) (by omega) _ _ _ hP hD hS (lv_sub hl [0, 1, 2] rfl)
              · skip
                exact absurd rfl c_17
  exact loop_4 (mny r + 1) 0 (by omega) (by omega) _ _ _ hP hD hS (lv_sub hl [0, 1, 2] rfl)
set_option maxHeartbeats 4000000 in
set_option maxRecDepth 100000 in
theorem m_isSure (l : Launch) (G : xG) (ad : Nat → Nat → Nat) (kd k1 k2 : Nat → Option Nat) (r r1 r2 : Rw) (ho rn ln dr : Int32) (ro lt rf th sb : Nat → Int32) (hr : Ok r) (hp : r 5 3 = 0) (hk : kOk (ad 4) kd r) : xCi l G yX0_isSure cX0_isSure 3 (some .boolean) ({ frames := 3, cells := 0, slots := 0, locals := 63 } : Room) [.ref (ad 0 0)] (wX G ad ho rn ln dr ro lt rf th sb ++ wR G (ad 1) kd r ++ wR G (ad 2) k1 r1 ++ wR G (ad 3) k2 r2 ++ wK (ad 4)) (S := Unit) (fun v _ => v = bI (pAll (pSuP r) (mny r))) (fun _ => (wX G ad ho rn ln dr ro lt rf th sb ++ wR G (ad 1) kd r ++ wR G (ad 2) k1 r1 ++ wR G (ad 3) k2 r2 ++ wK (ad 4))) := by
  refine x_openi (by decide) (Nat.le_of_ble_eq_true rfl) (fun _ _ h => by rw [h]; exact bI_z _) ?_
  intro p e s m args below meth c A Q ls C0 hK hP hD hA hl hret
  obtain ⟨hx, hb, hml, hown, hts⟩ := id C0
  have hS : va_S A s.heap s.heap [] := va_S.rf
  have hP : va_P G.1 vwCl (wX G ad ho rn ln dr ro lt rf th sb ++ wR G (ad 1) kd r ++ wR G (ad 2) k1 r1 ++ wR G (ad 3) k2 r2 ++ wK (ad 4)) s.heap := hP
  have hD : va_D A (wX G ad ho rn ln dr ro lt rf th sb ++ wR G (ad 1) kd r ++ wR G (ad 2) k1 r1 ++ wR G (ad 3) k2 r2 ++ wK (ad 4)) := hD
  have hl : lv_has ls 3 [(0, .ref (ad 0 0))] := hl
  have hr0 := hr.n
  have hN := hr.le
  refine lv_iconst (v := 1) hx hb dX0_isSure_0 (by decide) ?_
  refine lv_istore_n (lv' := [(1, .int 1), (0, .ref (ad 0 0))]) hx hb dX0_isSure_1 rfl hl (by decide) rfl (fun ls hl => ?_)
  refine lv_iconst (v := 0) hx hb dX0_isSure_2 (by decide) ?_
  refine lv_istore_n (lv' := [(2, .int 0), (1, .int 1), (0, .ref (ad 0 0))]) hx hb dX0_isSure_3 rfl hl (by decide) rfl (fun ls hl => ?_)
  have loop_4 : ∀ (n : Nat) (i : Nat), (i ≤ mny r) → (mny r < i + n) → ∀ (H : Heap) (locs : List Loc) (ls : Array Slot), va_P G.1 vwCl (wX G ad ho rn ln dr ro lt rf th sb ++ wR G (ad 1) kd r ++ wR G (ad 2) k1 r1 ++ wR G (ad 3) k2 r2 ++ wK (ad 4)) H → va_D A (wX G ad ho rn ln dr ro lt rf th sb ++ wR G (ad 1) kd r ++ wR G (ad 2) k1 r1 ++ wR G (ad 3) k2 r2 ++ wK (ad 4)) → va_S A s.heap H locs → lv_has ls 3 [(2, .int (nI i)), (1, .int (bI (pAll (pSuP r) i))), (0, .ref (ad 0 0))] → W p l e ({ frames := 3, cells := 0, slots := 0, locals := 63 } : Room) s m args below meth c H locs 0 0 Q (F0 m 4 ls []) := by
    intro n
    induction n with
    | zero => intro i hi4_0 hi4_1; exact absurd hi4_1 (by omega)
    | succ n ih_4 =>
      intro i hi4_0 hi4_1 H locs ls hP hD hS hl
      refine lv_iload_n hx hb dX0_isSure_4 rfl (lv_at hl 0 rfl) ?_
      refine lv_aload_n hx hb dX0_isSure_5 rfl (lv_at hl 2 rfl) ?_
      refine va_get (D := G.1) (ci := 0) (v := .ref ((ad 1) 0)) (C := RX0) (T := TX0) (N := 13) hx hb hts in_X0 hown hK.1 hP 0 rfl rfl 1 (by decide) (hts _ q222) (fun _ h9 => h9) rfl dX0_isSure_6 ?_
      refine va_getN (D := G.1) (ci := 7) (v := .int (nI (mny r))) (C := RX8) (T := TX8) (N := 9) hx hb hts in_X8 hown hK.1 hP 7 rfl rfl 0 (by decide) (va_Nw.use rfl (hK.2.F 4 rfl)) (fun _ h9 => h9) (x_some hr0) dX0_isSure_9 ?_
      refine lv_icmp_ge (tgt := 51) hx hb dX0_isSure_12 (by decide) (fun c_1 => ?_) (fun c_1 => ?_)
      · skip
        have g_1 := (nI_leI (by omega) (by omega)).mp c_1
        refine lv_iload_n hx hb dX0_isSure_51 rfl (lv_at hl 1 rfl) ?_
        refine hret _ _ _ _ _ _ (bI (pAll (pSuP r) i)) () dX0_isSure_52 ?_ hP hD hS (Nat.le_of_ble_eq_true rfl) (Nat.le_of_ble_eq_true rfl)
        rw [show i = mny r by omega]
      · skip
        have g_1 := mt (nI_leI (by omega) (by omega)).mpr c_1
        refine lv_iload_n hx hb dX0_isSure_15 rfl (lv_at hl 1 rfl) ?_
        refine lv_aload_n hx hb dX0_isSure_16 rfl (lv_at hl 2 rfl) ?_
        refine va_get (D := G.1) (ci := 0) (v := .ref ((ad 1) 0)) (C := RX0) (T := TX0) (N := 13) hx hb hts in_X0 hown hK.1 hP 0 rfl rfl 1 (by decide) (hts _ q222) (fun _ h9 => h9) rfl dX0_isSure_17 ?_
        refine lv_iload_n hx hb dX0_isSure_20 rfl (lv_at hl 0 rfl) ?_
        refine x_Vi (wN := fun _ => (wX G ad ho rn ln dr ro lt rf th sb ++ wR G (ad 1) kd r ++ wR G (ad 2) k1 r1 ++ wR G (ad 3) k2 r2 ++ wK (ad 4))) ⟨C0, hK, hP, hD, hS, hA⟩ 7 rfl (ci := 7) rfl rfl ((m_isStanding l G (ad 1) (ad 4) kd r hr hk i (by omega))) (cwV 1 hts (lw_V q744 q558 q559 q94 q560) rfl rfl rfl (by decide +kernel) ⟨Nat.le_of_ble_eq_true rfl, Nat.le_of_ble_eq_true rfl⟩) [7, 8, 9, 10, 11, 12, 25, 26, 27, 28, 29, 30] [0, 2, 4, 6, 8, 10, 12, 1, 3, 5, 7, 9, 11, 26, 28, 30, 32, 34, 36, 38, 40, 42, 44, 46, 48, 13, 15, 17, 19, 21, 23] rfl (fun _ => rfl) rfl rfl hl.1 rfl (Nat.le_of_ble_eq_true rfl) dX0_isSure_21 ⟨Nat.le_of_ble_eq_true rfl, Nat.le_of_ble_eq_true rfl⟩ (fun r_2 u_2 H locs hw_2 hP hD hS => ?_)
        have hw_2 : (bI (pSt r i) : Int32) = r_2 := hw_2.symm
        subst hw_2
        refine lv_if_eq (tgt := 38) hx hb dX0_isSure_24 (by decide) (fun c_3 => ?_) (fun c_3 => ?_)
        · skip
          refine lv_iconst (v := 1) hx hb dX0_isSure_38 (by decide) ?_
          refine lv_goto (tgt := 43) hx hb dX0_isSure_39 (by decide) ?_
          refine x_iand hx hb dX0_isSure_43 (v := bI (pAll (pSuP r) (i + 1))) (pAll_t (by unfold pSuP; simp [show pSt r i = false from (by have h9 := c_3; simpa [bI_0] using h9)])) ?_
          refine lv_istore_n (lv' := [(1, .int (bI (pAll (pSuP r) (i + 1)))), (2, .int (nI i)), (0, .ref (ad 0 0))]) hx hb dX0_isSure_44 rfl hl (by decide) rfl (fun ls hl => ?_)
          refine lv_iinc (v := nI (i + 1)) (lv' := [(2, .int (nI (i + 1))), (1, .int (bI (pAll (pSuP r) (i + 1)))), (0, .ref (ad 0 0))]) hx hb dX0_isSure_45 hl (k := 1) rfl (x_inc1 _) (by decide) rfl (fun ls hl => ?_)
          refine lv_goto (tgt := 4) hx hb dX0_isSure_48 (by decide) ?_
          exact ih_4 (i + 1) (by omega) (by omega) _ _ _ hP hD hS (lv_sub hl [0, 1, 2] rfl)
        · skip
          refine lv_aload_n hx hb dX0_isSure_27 rfl (lv_at hl 2 rfl) ?_
          refine va_get (D := G.1) (ci := 0) (v := .ref ((ad 1) 0)) (C := RX0) (T := TX0) (N := 13) hx hb hts in_X0 hown hK.1 hP 0 rfl rfl 1 (by decide) (hts _ q222) (fun _ h9 => h9) rfl dX0_isSure_28 ?_
          refine lv_iload_n hx hb dX0_isSure_31 rfl (lv_at hl 0 rfl) ?_
          refine x_Vi (wN := fun _ => (wX G ad ho rn ln dr ro lt rf th sb ++ wR G (ad 1) kd r ++ wR G (ad 2) k1 r1 ++ wR G (ad 3) k2 r2 ++ wK (ad 4))) ⟨C0, hK, hP, hD, hS, hA⟩ 7 rfl (ci := 7) rfl rfl ((m_isHeld l G (ad 1) (ad 4) kd r hr hk i (by omega))) (cwV 1 hts (lw_V q731 q631 q632 q94 q633) rfl rfl rfl (by decide +kernel) ⟨Nat.le_of_ble_eq_true rfl, Nat.le_of_ble_eq_true rfl⟩) [7, 8, 9, 10, 11, 12, 25, 26, 27, 28, 29, 30] [0, 2, 4, 6, 8, 10, 12, 1, 3, 5, 7, 9, 11, 26, 28, 30, 32, 34, 36, 38, 40, 42, 44, 46, 48, 13, 15, 17, 19, 21, 23] rfl (fun _ => rfl) rfl rfl hl.1 rfl (Nat.le_of_ble_eq_true rfl) dX0_isSure_32 ⟨Nat.le_of_ble_eq_true rfl, Nat.le_of_ble_eq_true rfl⟩ (fun r_4 u_4 H locs hw_4 hP hD hS => ?_)
          have hw_4 : (bI (pHeld r i) : Int32) = r_4 := hw_4.symm
          subst hw_4
          refine lv_if_eq (tgt := 42) hx hb dX0_isSure_35 (by decide) (fun c_5 => ?_) (fun c_5 => ?_)
          · skip
            refine lv_iconst (v := 0) hx hb dX0_isSure_42 (by decide) ?_
            refine x_iand hx hb dX0_isSure_43 (v := bI (pAll (pSuP r) (i + 1))) (pAll_f (by unfold pSuP; rw [show pSt r i = true from (by have h9 := c_3; simpa [bI_0] using h9), show pHeld r i = false from (by have h9 := c_5; simpa [bI_0] using h9)]; rfl)) ?_
            refine lv_istore_n (lv' := [(1, .int (bI (pAll (pSuP r) (i + 1)))), (2, .int (nI i)), (0, .ref (ad 0 0))]) hx hb dX0_isSure_44 rfl hl (by decide) rfl (fun ls hl => ?_)
            refine lv_iinc (v := nI (i + 1)) (lv' := [(2, .int (nI (i + 1))), (1, .int (bI (pAll (pSuP r) (i + 1)))), (0, .ref (ad 0 0))]) hx hb dX0_isSure_45 hl (k := 1) rfl (x_inc1 _) (by decide) rfl (fun ls hl => ?_)
            refine lv_goto (tgt := 4) hx hb dX0_isSure_48 (by decide) ?_
            exact ih_4 (i + 1) (by omega) (by omega) _ _ _ hP hD hS (lv_sub hl [0, 1, 2] rfl)
          · skip
            refine lv_iconst (v := 1) hx hb dX0_isSure_38 (by decide) ?_
            refine lv_goto (tgt := 43) hx hb dX0_isSure_39 (by decide) ?_
            refine x_iand hx hb dX0_isSure_43 (v := bI (pAll (pSuP r) (i + 1))) (pAll_t (by unfold pSuP; simp [show pHeld r i = true from (by have h9 := c_5; simpa [bI_0] using h9)])) ?_
            refine lv_istore_n (lv' := [(1, .int (bI (pAll (pSuP r) (i + 1)))), (2, .int (nI i)), (0, .ref (ad 0 0))]) hx hb dX0_isSure_44 rfl hl (by decide) rfl (fun ls hl => ?_)
            refine lv_iinc (v := nI (i + 1)) (lv' := [(2, .int (nI (i + 1))), (1, .int (bI (pAll (pSuP r) (i + 1)))), (0, .ref (ad 0 0))]) hx hb dX0_isSure_45 hl (k := 1) rfl (x_inc1 _) (by decide) rfl (fun ls hl => ?_)
            refine lv_goto (tgt := 4) hx hb dX0_isSure_48 (by decide) ?_
            exact ih_4 (i + 1) (by omega) (by omega) _ _ _ hP hD hS (lv_sub hl [0, 1, 2] rfl)
  exact loop_4 (mny r + 1) 0 (by omega) (by omega) _ _ _ hP hD hS (lv_sub hl [0, 1, 2] rfl)
set_option maxHeartbeats 4000000 in
set_option maxRecDepth 100000 in
theorem m_leastToSet (l : Launch) (G : xG) (ad : Nat → Nat → Nat) (kd k1 k2 : Nat → Option Nat) (r r1 r2 : Rw) (ho rn ln dr : Int32) (ro lt rf th sb : Nat → Int32) (hr : Ok r) (hp : r 5 3 = 0) (hk : kOk (ad 4) kd r) (hr1 : Ok r1) (hk1 : kOk (ad 4) k1 r1) : xCi l G yX0_leastToSet cX0_leastToSet 3 (some .int) ({ frames := 2, cells := 0, slots := 0, locals := 42 } : Room) [.ref (ad 0 0), .ref ((ad 2) 0)] (wX G ad ho rn ln dr ro lt rf th sb ++ wR G (ad 1) kd r ++ wR G (ad 2) k1 r1 ++ wR G (ad 3) k2 r2 ++ wK (ad 4)) (S := Unit) (fun v _ => v = pLs r1) (fun _ => (wX G ad ho rn ln dr ro lt rf th sb ++ wR G (ad 1) kd r ++ wR G (ad 2) k1 r1 ++ wR G (ad 3) k2 r2 ++ wK (ad 4))) := by
  refine x_openi (by decide) (Nat.le_of_ble_eq_true rfl) (fun _ _ _ => rfl) ?_
  intro p e s m args below meth c A Q ls C0 hK hP hD hA hl hret
  obtain ⟨hx, hb, hml, hown, hts⟩ := id C0
  have hS : va_S A s.heap s.heap [] := va_S.rf
  have hP : va_P G.1 vwCl (wX G ad ho rn ln dr ro lt rf th sb ++ wR G (ad 1) kd r ++ wR G (ad 2) k1 r1 ++ wR G (ad 3) k2 r2 ++ wK (ad 4)) s.heap := hP
  have hD : va_D A (wX G ad ho rn ln dr ro lt rf th sb ++ wR G (ad 1) kd r ++ wR G (ad 2) k1 r1 ++ wR G (ad 3) k2 r2 ++ wK (ad 4)) := hD
  have hl : lv_has ls 3 [(0, .ref (ad 0 0)), (1, .ref ((ad 2) 0))] := hl
  have hr0 := hr.n
  have hN := hr.le
  have hr10 := hr1.n
  have hN1 := hr1.le
  refine lv_iconst (v := 0) hx hb dX0_leastToSet_0 (by decide) ?_
  refine lv_istore_n (lv' := [(2, .int 0), (0, .ref (ad 0 0)), (1, .ref ((ad 2) 0))]) hx hb dX0_leastToSet_1 rfl hl (by decide) rfl (fun ls hl => ?_)
  have loop_2 : ∀ (n : Nat) (t : Nat), (t ≤ mny r1) → (mny r1 < t + n) → (∀ j, j < t → pLsP r1 j = false) → ∀ (H : Heap) (locs : List Loc) (ls : Array Slot), va_P G.1 vwCl (wX G ad ho rn ln dr ro lt rf th sb ++ wR G (ad 1) kd r ++ wR G (ad 2) k1 r1 ++ wR G (ad 3) k2 r2 ++ wK (ad 4)) H → va_D A (wX G ad ho rn ln dr ro lt rf th sb ++ wR G (ad 1) kd r ++ wR G (ad 2) k1 r1 ++ wR G (ad 3) k2 r2 ++ wK (ad 4)) → va_S A s.heap H locs → lv_has ls 3 [(2, .int (nI t)), (0, .ref (ad 0 0)), (1, .ref ((ad 2) 0))] → W p l e ({ frames := 2, cells := 0, slots := 0, locals := 42 } : Room) s m args below meth c H locs 0 0 Q (F0 m 2 ls []) := by
    intro n
    induction n with
    | zero => intro t hi2_0 hi2_1 hi2_2; exact absurd hi2_1 (by omega)
    | succ n ih_2 =>
      intro t hi2_0 hi2_1 hi2_2 H locs ls hP hD hS hl
      refine lv_iload_n hx hb dX0_leastToSet_2 rfl (lv_at hl 0 rfl) ?_
      refine lv_aload_n hx hb dX0_leastToSet_3 rfl (lv_at hl 2 rfl) ?_
      refine va_getN (D := G.1) (ci := 7) (v := .int (nI (mny r1))) (C := RX8) (T := TX8) (N := 9) hx hb hts in_X8 hown hK.1 hP 13 rfl rfl 0 (by decide) (va_Nw.use rfl (hK.2.F 4 rfl)) (fun _ h9 => h9) (x_some hr10) dX0_leastToSet_4 ?_
      refine lv_icmp_ge (tgt := 36) hx hb dX0_leastToSet_7 (by decide) (fun c_1 => ?_) (fun c_1 => ?_)
      · skip
        have g_1 := (nI_leI (by omega) (by omega)).mp c_1
        refine lv_bipush (v := (-9)) hx hb dX0_leastToSet_36 (by decide) ?_
        refine hret _ _ _ _ _ _ (-9) () dX0_leastToSet_38 ?_ hP hD hS (Nat.le_of_ble_eq_true rfl) (Nat.le_of_ble_eq_true rfl)
        exact pLs_no (fun j hj => hi2_2 j (by omega))
      · skip
        have g_1 := mt (nI_leI (by omega) (by omega)).mpr c_1
        refine lv_aload_n hx hb dX0_leastToSet_10 rfl (lv_at hl 2 rfl) ?_
        refine va_getN (D := G.1) (ci := 7) (v := .ref ((ad 2) 4)) (C := RX8) (T := TX8) (N := 9) hx hb hts in_X8 hown hK.1 hP 13 rfl rfl 4 (by decide) (va_Nw.use rfl (hK.2.F 9 rfl)) (fun _ h9 => h9) rfl dX0_leastToSet_11 ?_
        refine lv_iload_n hx hb dX0_leastToSet_14 rfl (lv_at hl 0 rfl) ?_
        refine x_ialdn (k := t) hx hb hK.1 hP 17 0 rfl rfl (by omega) (by decide) (v := (r1 3) t) rfl dX0_leastToSet_15 ?_
        refine lv_iconst (v := 1) hx hb dX0_leastToSet_16 (by decide) ?_
        refine lv_icmp_ne (tgt := 30) hx hb dX0_leastToSet_17 (by decide) (fun c_2 => ?_) (fun c_2 => ?_)
        · skip
          refine lv_iinc (v := nI (t + 1)) (lv' := [(2, .int (nI (t + 1))), (0, .ref (ad 0 0)), (1, .ref ((ad 2) 0))]) hx hb dX0_leastToSet_30 hl (k := 0) rfl (x_inc1 _) (by decide) rfl (fun ls hl => ?_)
          refine lv_goto (tgt := 2) hx hb dX0_leastToSet_33 (by decide) ?_
          exact ih_2 (t + 1) (by omega) (by omega) (fun j hj => if q : j = t then q ▸ (by unfold pLsP pHow; simp [show ¬ r1 3 t = 1 from c_2]) else hi2_2 j (by omega)) _ _ _ hP hD hS (lv_sub hl [0, 1, 2] rfl)
        · skip
          refine lv_aload_n hx hb dX0_leastToSet_20 rfl (lv_at hl 2 rfl) ?_
          refine lv_iload_n hx hb dX0_leastToSet_21 rfl (lv_at hl 0 rfl) ?_
          refine x_Vi (wN := fun _ => (wX G ad ho rn ln dr ro lt rf th sb ++ wR G (ad 1) kd r ++ wR G (ad 2) k1 r1 ++ wR G (ad 3) k2 r2 ++ wK (ad 4))) ⟨C0, hK, hP, hD, hS, hA⟩ 13 rfl (ci := 7) rfl rfl ((m_hasUnder l G (ad 2) (ad 4) k1 r1 hr1 hk1 t (show t < mny r1 by omega))) (cwV 1 hts (lw_V q945 q635 q636 q94 q637) rfl rfl rfl (by decide +kernel) ⟨Nat.le_of_ble_eq_true rfl, Nat.le_of_ble_eq_true rfl⟩) [13, 14, 15, 16, 17, 18, 25, 26, 27, 28, 29, 30] [0, 2, 4, 6, 8, 10, 12, 14, 16, 18, 20, 22, 24, 1, 3, 5, 7, 9, 11, 38, 40, 42, 44, 46, 48, 13, 15, 17, 19, 21, 23] rfl (fun _ => rfl) rfl rfl hl.1 rfl (Nat.le_of_ble_eq_true rfl) dX0_leastToSet_22 ⟨Nat.le_of_ble_eq_true rfl, Nat.le_of_ble_eq_true rfl⟩ (fun r_3 u_3 H locs hw_3 hP hD hS => ?_)
          have hw_3 : (bI (pHu r1 t) : Int32) = r_3 := hw_3.symm
          subst hw_3
          refine lv_if_eq (tgt := 30) hx hb dX0_leastToSet_25 (by decide) (fun c_4 => ?_) (fun c_4 => ?_)
          · skip
            refine lv_iinc (v := nI (t + 1)) (lv' := [(2, .int (nI (t + 1))), (0, .ref (ad 0 0)), (1, .ref ((ad 2) 0))]) hx hb dX0_leastToSet_30 hl (k := 0) rfl (x_inc1 _) (by decide) rfl (fun ls hl => ?_)
            refine lv_goto (tgt := 2) hx hb dX0_leastToSet_33 (by decide) ?_
            exact ih_2 (t + 1) (by omega) (by omega) (fun j hj => if q : j = t then q ▸ (by unfold pLsP; simp [show pHu r1 t = false from (by have h9 := c_4; simpa [bI_0] using h9)]) else hi2_2 j (by omega)) _ _ _ hP hD hS (lv_sub hl [0, 1, 2] rfl)
          · skip
            refine lv_iload_n hx hb dX0_leastToSet_28 rfl (lv_at hl 0 rfl) ?_
            refine hret _ _ _ _ _ _ (nI t) () dX0_leastToSet_29 ?_ hP hD hS (Nat.le_of_ble_eq_true rfl) (Nat.le_of_ble_eq_true rfl)
            exact pLs_at (by omega) hi2_2 (by unfold pLsP pHow; simp [show r1 3 t = 1 from c_2, show pHu r1 t = true from (by have h9 := c_4; simpa [bI_0] using h9)])
  exact loop_2 (mny r1 + 1) 0 (by omega) (by omega) (fun j hj => absurd hj (Nat.not_lt_zero j)) _ _ _ hP hD hS (lv_sub hl [0, 1, 2] rfl)
set_option maxHeartbeats 4000000 in
set_option maxRecDepth 100000 in
theorem m_rebuilt (l : Launch) (G : xG) (ad : Nat → Nat → Nat) (kd k1 k2 : Nat → Option Nat) (r r1 r2 : Rw) (ho rn ln dr : Int32) (ro lt rf th sb : Nat → Int32) (hr : Ok r) (hp : r 5 3 = 0) (hk : kOk (ad 4) kd r) (w : Int32) : xCi l G yX0_rebuilt cX0_rebuilt 6 (some .int) ({ frames := 3, cells := 0, slots := 0, locals := 121 } : Room) [.ref (ad 0 0), .int w] (wX G ad ho rn ln dr ro lt rf th sb ++ wR G (ad 1) kd r ++ wR G (ad 2) k1 r1 ++ wR G (ad 3) k2 r2 ++ wK (ad 4)) (S := ((Nat → Option Nat) × Rw)) (fun v _ => v = pReb r w) (fun u => (wX G ad ho rn ln dr ro lt rf th sb ++ wR G (ad 1) kd r ++ wR G (ad 2) u.1 u.2 ++ wR G (ad 3) k2 r2 ++ wK (ad 4))) := by
  refine x_openi (by decide) (Nat.le_of_ble_eq_true rfl) (fun _ _ _ => rfl) ?_
  intro p e s m args below meth c A Q ls C0 hK hP hD hA hl hret
  obtain ⟨hx, hb, hml, hown, hts⟩ := id C0
  have hS : va_S A s.heap s.heap [] := va_S.rf
  have hP : va_P G.1 vwCl (wX G ad ho rn ln dr ro lt rf th sb ++ wR G (ad 1) kd r ++ wR G (ad 2) k1 r1 ++ wR G (ad 3) k2 r2 ++ wK (ad 4)) s.heap := hP
  have hD : va_D A (wX G ad ho rn ln dr ro lt rf th sb ++ wR G (ad 1) kd r ++ wR G (ad 2) k1 r1 ++ wR G (ad 3) k2 r2 ++ wK (ad 4)) := hD
  have hl : lv_has ls 6 [(0, .ref (ad 0 0)), (1, .int w)] := hl
  have hr0 := hr.n
  have hN := hr.le
  refine lv_aload_n hx hb dX0_rebuilt_0 rfl (lv_at hl 0 rfl) ?_
  refine x_Vr (wN := fun _ => (wX G ad ho rn ln dr ro lt rf th sb ++ wR G (ad 1) kd r ++ wR G (ad 2) kd r ++ wR G (ad 3) k2 r2 ++ wK (ad 4))) ⟨C0, hK, hP, hD, hS, hA⟩ 0 rfl (ci := 0) rfl rfl ((m_openMind l G ad kd k1 k2 r r1 r2 ho rn ln dr ro lt rf th sb hr hp hk )) (cwV 0 hts (lw_V q795 q797 qs25 q86 q798) rfl rfl rfl (by decide +kernel) ⟨Nat.le_of_ble_eq_true rfl, Nat.le_of_ble_eq_true rfl⟩) [0, 1, 2, 3, 4, 5, 6, 7, 8, 9, 10, 11, 12, 13, 14, 15, 16, 17, 18, 19, 20, 21, 22, 23, 24, 25, 26, 27, 28, 29, 30] [1, 3, 5, 7, 9, 11, 13, 15, 17, 19, 21, 23, 25, 27, 29, 31, 33, 35, 37, 39, 41, 43, 45, 47, 49, 51, 53, 55, 57, 59, 61] rfl (fun _ => rfl) rfl rfl hl.1 rfl (Nat.le_of_ble_eq_true rfl) dX0_rebuilt_1 ⟨Nat.le_of_ble_eq_true rfl, Nat.le_of_ble_eq_true rfl⟩ (fun u_1 H locs hw_1 hP hD hS => ?_)
  have hP : va_P G.1 vwCl (wX G ad ho rn ln dr ro lt rf th sb ++ wR G (ad 1) kd r ++ wR G (ad 2) kd r ++ wR G (ad 3) k2 r2 ++ wK (ad 4)) H := hP
  have hD : va_D A (wX G ad ho rn ln dr ro lt rf th sb ++ wR G (ad 1) kd r ++ wR G (ad 2) kd r ++ wR G (ad 3) k2 r2 ++ wK (ad 4)) := hD
  refine lv_astore_n (lv' := [(2, .ref ((ad 2) 0)), (0, .ref (ad 0 0)), (1, .int w)]) hx hb dX0_rebuilt_4 rfl hl (by decide) rfl (fun ls hl => ?_)
  refine lv_aload_n hx hb dX0_rebuilt_5 rfl (lv_at hl 1 rfl) ?_
  refine lv_aload_n hx hb dX0_rebuilt_6 rfl (lv_at hl 0 rfl) ?_
  refine x_Vi (wN := fun _ => (wX G ad ho rn ln dr ro lt rf th sb ++ wR G (ad 1) kd r ++ wR G (ad 2) kd r ++ wR G (ad 3) k2 r2 ++ wK (ad 4))) ⟨C0, hK, hP, hD, hS, hA⟩ 0 rfl (ci := 0) rfl rfl ((m_leastToSet l G ad kd kd k2 r r r2 ho rn ln dr ro lt rf th sb hr hp hk hr hk)) (cwV 1 hts (lw_V q941 q943 qs51 q86 q944) rfl rfl rfl (by decide +kernel) ⟨Nat.le_of_ble_eq_true rfl, Nat.le_of_ble_eq_true rfl⟩) [0, 1, 2, 3, 4, 5, 6, 7, 8, 9, 10, 11, 12, 13, 14, 15, 16, 17, 18, 19, 20, 21, 22, 23, 24, 25, 26, 27, 28, 29, 30] [1, 3, 5, 7, 9, 11, 13, 15, 17, 19, 21, 23, 25, 27, 29, 31, 33, 35, 37, 39, 41, 43, 45, 47, 49, 51, 53, 55, 57, 59, 61] rfl (fun _ => rfl) rfl rfl hl.1 rfl (Nat.le_of_ble_eq_true rfl) dX0_rebuilt_7 ⟨Nat.le_of_ble_eq_true rfl, Nat.le_of_ble_eq_true rfl⟩ (fun r_2 u_2 H locs hw_2 hP hD hS => ?_)
  have hw_2 : (pLs r : Int32) = r_2 := hw_2.symm
  subst hw_2
  have hP : va_P G.1 vwCl (wX G ad ho rn ln dr ro lt rf th sb ++ wR G (ad 1) kd r ++ wR G (ad 2) kd r ++ wR G (ad 3) k2 r2 ++ wK (ad 4)) H := hP
  have hD : va_D A (wX G ad ho rn ln dr ro lt rf th sb ++ wR G (ad 1) kd r ++ wR G (ad 2) kd r ++ wR G (ad 3) k2 r2 ++ wK (ad 4)) := hD
  refine lv_istore_n (lv' := [(3, .int (pLs r)), (2, .ref ((ad 2) 0)), (0, .ref (ad 0 0)), (1, .int w)]) hx hb dX0_rebuilt_10 rfl hl (by decide) rfl (fun ls hl => ?_)
  refine lv_iconst (v := 0) hx hb dX0_rebuilt_11 (by decide) ?_
  refine lv_istore (lv' := [(4, .int 0), (3, .int (pLs r)), (2, .ref ((ad 2) 0)), (0, .ref (ad 0 0)), (1, .int w)]) hx hb dX0_rebuilt_12 hl (by decide) rfl (fun ls hl => ?_)
  refine lv_iload_n hx hb dX0_rebuilt_14 rfl (lv_at hl 1 rfl) ?_
  refine lv_istore (lv' := [(5, .int (pLs r)), (4, .int 0), (3, .int (pLs r)), (2, .ref ((ad 2) 0)), (0, .ref (ad 0 0)), (1, .int w)]) hx hb dX0_rebuilt_15 hl (by decide) rfl (fun ls hl => ?_)
  have loop_17 : ∀ (n : Nat) (k : Nat) (q : Rw), (Ok q) → (kOk (ad 4) kd q) → (pLyN q < n) → (k + pReN n q = pReN 11 r) → ∀ (H : Heap) (locs : List Loc) (ls : Array Slot), va_P G.1 vwCl (wX G ad ho rn ln dr ro lt rf th sb ++ wR G (ad 1) kd r ++ wR G (ad 2) kd q ++ wR G (ad 3) k2 r2 ++ wK (ad 4)) H → va_D A (wX G ad ho rn ln dr ro lt rf th sb ++ wR G (ad 1) kd r ++ wR G (ad 2) kd q ++ wR G (ad 3) k2 r2 ++ wK (ad 4)) → va_S A s.heap H locs → lv_has ls 6 [(5, .int (pLs q)), (4, .int (nI k)), (3, .int (pLs r)), (2, .ref ((ad 2) 0)), (0, .ref (ad 0 0)), (1, .int w)] → W p l e ({ frames := 3, cells := 0, slots := 0, locals := 121 } : Room) s m args below meth c H locs 0 0 Q (F0 m 17 ls []) := by
    intro n
    induction n with
    | zero => intro k q hi17_0 hi17_1 hi17_2 hi17_3; exact absurd hi17_2 (by omega)
    | succ n ih_17 =>
      intro k q hi17_0 hi17_1 hi17_2 hi17_3 H locs ls hP hD hS hl
      refine lv_iload hx hb dX0_rebuilt_17 (lv_at hl 0 rfl) ?_
      refine lv_bipush (v := (-9)) hx hb dX0_rebuilt_19 (by decide) ?_
      refine lv_icmp_eq (tgt := 43) hx hb dX0_rebuilt_21 (by decide) (fun c_3 => ?_) (fun c_3 => ?_)
      · skip
        refine lv_iload_n hx hb dX0_rebuilt_43 rfl (lv_at hl 5 rfl) ?_
        refine lv_if_ne (tgt := 51) hx hb dX0_rebuilt_44 (by decide) (fun c_4 => ?_) (fun c_4 => ?_)
        · skip
          refine lv_iload hx hb dX0_rebuilt_51 (lv_at hl 1 rfl) ?_
          refine hret _ _ _ _ _ _ (nI k) (kd, q) dX0_rebuilt_53 ?_ hP hD hS (Nat.le_of_ble_eq_true rfl) (Nat.le_of_ble_eq_true rfl)
          have e0 : pReN (n + 1) q = 0 := if_neg (pLs_n hi17_0.le c_3)
          unfold pReb
          rw [if_neg c_4, ← hi17_3, e0, Nat.add_zero]
        · skip
          refine lv_iload_n hx hb dX0_rebuilt_47 rfl (lv_at hl 2 rfl) ?_
          refine lv_goto (tgt := 53) hx hb dX0_rebuilt_48 (by decide) ?_
          refine hret _ _ _ _ _ _ (pLs r) (kd, q) dX0_rebuilt_53 ?_ hP hD hS (Nat.le_of_ble_eq_true rfl) (Nat.le_of_ble_eq_true rfl)
          have e0 : pReN (n + 1) q = 0 := if_neg (pLs_n hi17_0.le c_3)
          unfold pReb
          rw [if_pos c_4]
      · skip
        obtain ⟨hls, els⟩ := pLs_y c_3
        have hNq := hi17_0.le
        rw [els] at hl
        refine lv_aload_n hx hb dX0_rebuilt_24 rfl (lv_at hl 3 rfl) ?_
        refine lv_iload hx hb dX0_rebuilt_25 (lv_at hl 0 rfl) ?_
        refine x_Vv (wN := fun _ => (wX G ad ho rn ln dr ro lt rf th sb ++ wR G (ad 1) kd r ++ wR G (ad 2) kd (pSetUp q (pLsN q)) ++ wR G (ad 3) k2 r2 ++ wK (ad 4))) ⟨C0, hK, hP, hD, hS, hA⟩ 13 rfl (ci := 7) rfl rfl ((m_setUp l G (ad 2) (ad 4) kd q hi17_0 hi17_1 (pLsN q) (by omega))) (cwV 1 hts (lw_V q759 q690 q691 q94 q692) rfl rfl rfl (by decide +kernel) ⟨Nat.le_of_ble_eq_true rfl, Nat.le_of_ble_eq_true rfl⟩) [13, 14, 15, 16, 17, 18, 25, 26, 27, 28, 29, 30] [0, 2, 4, 6, 8, 10, 12, 14, 16, 18, 20, 22, 24, 1, 3, 5, 7, 9, 11, 38, 40, 42, 44, 46, 48, 13, 15, 17, 19, 21, 23] rfl (fun _ => rfl) rfl rfl hl.1 rfl (Nat.le_of_ble_eq_true rfl) dX0_rebuilt_27 ⟨Nat.le_of_ble_eq_true rfl, Nat.le_of_ble_eq_true rfl⟩ (fun u_5 H locs hw_5 hP hD hS => ?_)
        have hP : va_P G.1 vwCl (wX G ad ho rn ln dr ro lt rf th sb ++ wR G (ad 1) kd r ++ wR G (ad 2) kd (pSetUp q (pLsN q)) ++ wR G (ad 3) k2 r2 ++ wK (ad 4)) H := hP
        have hD : va_D A (wX G ad ho rn ln dr ro lt rf th sb ++ wR G (ad 1) kd r ++ wR G (ad 2) kd (pSetUp q (pLsN q)) ++ wR G (ad 3) k2 r2 ++ wK (ad 4)) := hD
        refine lv_iinc (v := nI (k + 1)) (lv' := [(4, .int (nI (k + 1))), (5, .int (nI (pLsN q))), (3, .int (pLs r)), (2, .ref ((ad 2) 0)), (0, .ref (ad 0 0)), (1, .int w)]) hx hb dX0_rebuilt_30 hl (k := 1) rfl (x_inc1 _) (by decide) rfl (fun ls hl => ?_)
        refine lv_aload_n hx hb dX0_rebuilt_33 rfl (lv_at hl 4 rfl) ?_
        refine lv_aload_n hx hb dX0_rebuilt_34 rfl (lv_at hl 3 rfl) ?_
        refine x_Vi (wN := fun _ => (wX G ad ho rn ln dr ro lt rf th sb ++ wR G (ad 1) kd r ++ wR G (ad 2) kd (pSetUp q (pLsN q)) ++ wR G (ad 3) k2 r2 ++ wK (ad 4))) ⟨C0, hK, hP, hD, hS, hA⟩ 0 rfl (ci := 0) rfl rfl ((m_leastToSet l G ad kd kd k2 r (pSetUp q (pLsN q)) r2 ho rn ln dr ro lt rf th sb hr hp hk (Ok.setUp hi17_0) (kOk.setUp hi17_1))) (cwV 1 hts (lw_V q941 q943 qs51 q86 q944) rfl rfl rfl (by decide +kernel) ⟨Nat.le_of_ble_eq_true rfl, Nat.le_of_ble_eq_true rfl⟩) [0, 1, 2, 3, 4, 5, 6, 7, 8, 9, 10, 11, 12, 13, 14, 15, 16, 17, 18, 19, 20, 21, 22, 23, 24, 25, 26, 27, 28, 29, 30] [1, 3, 5, 7, 9, 11, 13, 15, 17, 19, 21, 23, 25, 27, 29, 31, 33, 35, 37, 39, 41, 43, 45, 47, 49, 51, 53, 55, 57, 59, 61] rfl (fun _ => rfl) rfl rfl hl.1 rfl (Nat.le_of_ble_eq_true rfl) dX0_rebuilt_35 ⟨Nat.le_of_ble_eq_true rfl, Nat.le_of_ble_eq_true rfl⟩ (fun r_6 u_6 H locs hw_6 hP hD hS => ?_)
        have hw_6 : (pLs (pSetUp q (pLsN q)) : Int32) = r_6 := hw_6.symm
        subst hw_6
        have hP : va_P G.1 vwCl (wX G ad ho rn ln dr ro lt rf th sb ++ wR G (ad 1) kd r ++ wR G (ad 2) kd (pSetUp q (pLsN q)) ++ wR G (ad 3) k2 r2 ++ wK (ad 4)) H := hP
        have hD : va_D A (wX G ad ho rn ln dr ro lt rf th sb ++ wR G (ad 1) kd r ++ wR G (ad 2) kd (pSetUp q (pLsN q)) ++ wR G (ad 3) k2 r2 ++ wK (ad 4)) := hD
        refine lv_istore (lv' := [(5, .int (pLs (pSetUp q (pLsN q)))), (4, .int (nI (k + 1))), (3, .int (pLs r)), (2, .ref ((ad 2) 0)), (0, .ref (ad 0 0)), (1, .int w)]) hx hb dX0_rebuilt_38 hl (by decide) rfl (fun ls hl => ?_)
        refine lv_goto (tgt := 17) hx hb dX0_rebuilt_40 (by decide) ?_
        exact ih_17 (k + 1) (pSetUp q (pLsN q)) (Ok.setUp hi17_0) (kOk.setUp hi17_1) (by have := pLyN_s hls; omega) (by rw [← hi17_3, show pReN (n + 1) q = pReN n (pSetUp q (pLsN q)) + 1 from if_pos hls]; omega) _ _ _ hP hD hS (lv_sub hl [0, 1, 2, 3, 4, 5] rfl)
  exact loop_17 11 0 r hr hk (Nat.lt_of_le_of_lt (cn_le _ _) (by omega)) (Nat.zero_add _) _ _ _ hP hD hS (lv_sub hl [0, 1, 2, 3, 4, 5] rfl)
set_option maxHeartbeats 4000000 in
set_option maxRecDepth 100000 in
theorem m_restingPulls (l : Launch) (G : xG) (ad : Nat → Nat → Nat) (kd k1 k2 : Nat → Option Nat) (r r1 r2 : Rw) (ho rn ln dr : Int32) (ro lt rf th sb : Nat → Int32) (hr : Ok r) (hp : r 5 3 = 0) (hk : kOk (ad 4) kd r) (t1 t2 mi : Nat) (ht1 : t1 < mny r) (ht2 : t2 < mny r) (hmi : mi < 2 ^ 30) : xCi l G yX0_restingPulls cX0_restingPulls 6 (some .int) ({ frames := 6, cells := 0, slots := 0, locals := 133 } : Room) [.ref (ad 0 0), .int (nI t1), .int (nI t2), .int (nI mi)] (wX G ad ho rn ln dr ro lt rf th sb ++ wR G (ad 1) kd r ++ wR G (ad 2) k1 r1 ++ wR G (ad 3) k2 r2 ++ wK (ad 4)) (S := (((Nat → Option Nat) × Rw) × (Nat → Int32))) (fun v _ => v = pTwo r t1 t2 mi) (fun u => (wX G ad ho rn ln dr ro lt rf th u.2 ++ wR G (ad 1) kd r ++ wR G (ad 2) u.1.1 u.1.2 ++ wR G (ad 3) k2 r2 ++ wK (ad 4))) := by
  refine x_openi (by decide) (Nat.le_of_ble_eq_true rfl) (fun _ _ _ => rfl) ?_
  intro p e s m args below meth c A Q ls C0 hK hP hD hA hl hret
  obtain ⟨hx, hb, hml, hown, hts⟩ := id C0
  have hS : va_S A s.heap s.heap [] := va_S.rf
  have hP : va_P G.1 vwCl (wX G ad ho rn ln dr ro lt rf th sb ++ wR G (ad 1) kd r ++ wR G (ad 2) k1 r1 ++ wR G (ad 3) k2 r2 ++ wK (ad 4)) s.heap := hP
  have hD : va_D A (wX G ad ho rn ln dr ro lt rf th sb ++ wR G (ad 1) kd r ++ wR G (ad 2) k1 r1 ++ wR G (ad 3) k2 r2 ++ wK (ad 4)) := hD
  have hl : lv_has ls 6 [(0, .ref (ad 0 0)), (1, .int (nI t1)), (2, .int (nI t2)), (3, .int (nI mi))] := hl
  have hr0 := hr.n
  have hN := hr.le
  refine lv_iconst (v := 0) hx hb dX0_restingPulls_0 (by decide) ?_
  refine lv_istore (lv' := [(4, .int 0), (0, .ref (ad 0 0)), (1, .int (nI t1)), (2, .int (nI t2)), (3, .int (nI mi))]) hx hb dX0_restingPulls_1 hl (by decide) rfl (fun ls hl => ?_)
  have loop_3 : ∀ (n : Nat) (k : Nat) (km : Nat → Option Nat) (rm : Rw), (k ≤ 4) → (4 < k + n) → ∀ (H : Heap) (locs : List Loc) (ls : Array Slot), va_P G.1 vwCl (wX G ad ho rn ln dr ro lt rf th (pTwS r t1 t2 mi sb k) ++ wR G (ad 1) kd r ++ wR G (ad 2) km rm ++ wR G (ad 3) k2 r2 ++ wK (ad 4)) H → va_D A (wX G ad ho rn ln dr ro lt rf th (pTwS r t1 t2 mi sb k) ++ wR G (ad 1) kd r ++ wR G (ad 2) km rm ++ wR G (ad 3) k2 r2 ++ wK (ad 4)) → va_S A s.heap H locs → lv_has ls 6 [(4, .int (nI k)), (0, .ref (ad 0 0)), (1, .int (nI t1)), (2, .int (nI t2)), (3, .int (nI mi))] → W p l e ({ frames := 6, cells := 0, slots := 0, locals := 133 } : Room) s m args below meth c H locs 0 0 Q (F0 m 3 ls []) := by
    intro n
    induction n with
    | zero => intro k km rm hi3_0 hi3_1; exact absurd hi3_1 (by omega)
    | succ n ih_3 =>
      intro k km rm hi3_0 hi3_1 H locs ls hP hD hS hl
      refine lv_iload hx hb dX0_restingPulls_3 (lv_at hl 0 rfl) ?_
      refine lv_iconst (v := 4) hx hb dX0_restingPulls_5 (by decide) ?_
      refine lv_icmp_ge (tgt := 89) hx hb dX0_restingPulls_6 (by decide) (fun c_1 => ?_) (fun c_1 => ?_)
      · skip
        have g_1 := (nI_leI (by omega) (by omega)).mp (show nI k ≥ nI 4 from c_1)
        obtain rfl : k = 4 := by omega
        refine lv_iconst (v := 0) hx hb dX0_restingPulls_89 (by decide) ?_
        refine lv_istore (lv' := [(4, .int 0), (0, .ref (ad 0 0)), (1, .int (nI t1)), (2, .int (nI t2)), (3, .int (nI mi))]) hx hb dX0_restingPulls_90 hl (by decide) rfl (fun ls hl => ?_)
        have loop_92 : ∀ (n : Nat) (k : Nat), (k ≤ 4) → (4 < k + n) → (∀ j, j < k → pTwP r t1 t2 mi j = false) → ∀ (H : Heap) (locs : List Loc) (ls : Array Slot), va_P G.1 vwCl (wX G ad ho rn ln dr ro lt rf th (pTwS r t1 t2 mi sb 4) ++ wR G (ad 1) kd r ++ wR G (ad 2) km rm ++ wR G (ad 3) k2 r2 ++ wK (ad 4)) H → va_D A (wX G ad ho rn ln dr ro lt rf th (pTwS r t1 t2 mi sb 4) ++ wR G (ad 1) kd r ++ wR G (ad 2) km rm ++ wR G (ad 3) k2 r2 ++ wK (ad 4)) → va_S A s.heap H locs → lv_has ls 6 [(4, .int (nI k)), (0, .ref (ad 0 0)), (1, .int (nI t1)), (2, .int (nI t2)), (3, .int (nI mi))] → W p l e ({ frames := 6, cells := 0, slots := 0, locals := 133 } : Room) s m args below meth c H locs 0 0 Q (F0 m 92 ls []) := by
          intro n
          induction n with
          | zero => intro k hi92_0 hi92_1 hi92_2; exact absurd hi92_1 (by omega)
          | succ n ih_92 =>
            intro k hi92_0 hi92_1 hi92_2 H locs ls hP hD hS hl
            refine lv_iload hx hb dX0_restingPulls_92 (lv_at hl 0 rfl) ?_
            refine lv_iconst (v := 4) hx hb dX0_restingPulls_94 (by decide) ?_
            refine lv_icmp_ge (tgt := 155) hx hb dX0_restingPulls_95 (by decide) (fun c_2 => ?_) (fun c_2 => ?_)
            · skip
              have g_2 := (nI_leI (by omega) (by omega)).mp (show nI k ≥ nI 4 from c_2)
              refine lv_bipush (v := (-9)) hx hb dX0_restingPulls_155 (by decide) ?_
              refine hret _ _ _ _ _ _ (-9) ((km, rm), pTwS r t1 t2 mi sb 4) dX0_restingPulls_157 ?_ hP hD hS (Nat.le_of_ble_eq_true rfl) (Nat.le_of_ble_eq_true rfl)
              exact pTwo_no (fun j hj => hi92_2 j (by omega))
            · skip
              have g_2 := mt (nI_leI (by omega) (by omega)).mpr (show ¬ (nI k ≥ nI 4) from c_2)
              have hx2 := x_l2 k (by omega)
              have hx1 := x_l1 k (by omega)
              refine lv_aload_n hx hb dX0_restingPulls_98 rfl (lv_at hl 1 rfl) ?_
              refine va_get (D := G.1) (ci := 0) (v := .ref (ad 0 6)) (C := RX0) (T := TX0) (N := 13) hx hb hts in_X0 hown hK.1 hP 0 rfl rfl 11 (by decide) (hts _ q234) (fun _ h9 => h9) rfl dX0_restingPulls_99 ?_
              refine lv_iload hx hb dX0_restingPulls_102 (lv_at hl 0 rfl) ?_
              refine x_ialdn (k := k) hx hb hK.1 hP 6 0 rfl rfl (by omega) (by decide) (v := pTwV r t1 t2 mi k) (if_pos (by omega)) dX0_restingPulls_104 ?_
              refine lv_aload_n hx hb dX0_restingPulls_105 rfl (lv_at hl 1 rfl) ?_
              refine va_get (D := G.1) (ci := 0) (v := .ref (ad 0 6)) (C := RX0) (T := TX0) (N := 13) hx hb hts in_X0 hown hK.1 hP 0 rfl rfl 11 (by decide) (hts _ q234) (fun _ h9 => h9) rfl dX0_restingPulls_106 ?_
              refine lv_iload hx hb dX0_restingPulls_109 (lv_at hl 0 rfl) ?_
              refine lv_iconst (v := 2) hx hb dX0_restingPulls_111 (by decide) ?_
              refine x_ixor hx hb dX0_restingPulls_112 (v := nI (k ^^^ 2)) (x_x2 k (by omega)) ?_
              refine x_ialdn (k := (k ^^^ 2)) hx hb hK.1 hP 6 0 rfl rfl (by omega) (by decide) (v := pTwV r t1 t2 mi (k ^^^ 2)) (if_pos (by omega)) dX0_restingPulls_113 ?_
              refine lv_icmp_lt (tgt := 149) hx hb dX0_restingPulls_114 (by decide) (fun c_3 => ?_) (fun c_3 => ?_)
              · skip
                refine lv_iinc (v := nI (k + 1)) (lv' := [(4, .int (nI (k + 1))), (0, .ref (ad 0 0)), (1, .int (nI t1)), (2, .int (nI t2)), (3, .int (nI mi))]) hx hb dX0_restingPulls_149 hl (k := 0) rfl (x_inc1 _) (by decide) rfl (fun ls hl => ?_)
                refine lv_goto (tgt := 92) hx hb dX0_restingPulls_152 (by decide) ?_
                exact ih_92 (k + 1) (by omega) (by omega) (fun j hj => if q : j = k then q ▸ (decide_eq_false (fun z => absurd z.1 (Int32.not_le.mpr c_3))) else hi92_2 j (by omega)) _ _ _ hP hD hS (lv_sub hl [0, 1, 2, 3, 4] rfl)
              · skip
                refine lv_aload_n hx hb dX0_restingPulls_117 rfl (lv_at hl 1 rfl) ?_
                refine va_get (D := G.1) (ci := 0) (v := .ref (ad 0 6)) (C := RX0) (T := TX0) (N := 13) hx hb hts in_X0 hown hK.1 hP 0 rfl rfl 11 (by decide) (hts _ q234) (fun _ h9 => h9) rfl dX0_restingPulls_118 ?_
                refine lv_iload hx hb dX0_restingPulls_121 (lv_at hl 0 rfl) ?_
                refine x_ialdn (k := k) hx hb hK.1 hP 6 0 rfl rfl (by omega) (by decide) (v := pTwV r t1 t2 mi k) (if_pos (by omega)) dX0_restingPulls_123 ?_
                refine lv_aload_n hx hb dX0_restingPulls_124 rfl (lv_at hl 1 rfl) ?_
                refine va_get (D := G.1) (ci := 0) (v := .ref (ad 0 6)) (C := RX0) (T := TX0) (N := 13) hx hb hts in_X0 hown hK.1 hP 0 rfl rfl 11 (by decide) (hts _ q234) (fun _ h9 => h9) rfl dX0_restingPulls_125 ?_
                refine lv_iload hx hb dX0_restingPulls_128 (lv_at hl 0 rfl) ?_
                refine lv_iconst (v := 1) hx hb dX0_restingPulls_130 (by decide) ?_
                refine x_ixor hx hb dX0_restingPulls_131 (v := nI (k ^^^ 1)) (x_x1 k (by omega)) ?_
                refine x_ialdn (k := (k ^^^ 1)) hx hb hK.1 hP 6 0 rfl rfl (by omega) (by decide) (v := pTwV r t1 t2 mi (k ^^^ 1)) (if_pos (by omega)) dX0_restingPulls_132 ?_
                refine lv_icmp_gt (tgt := 149) hx hb dX0_restingPulls_133 (by decide) (fun c_4 => ?_) (fun c_4 => ?_)
                · skip
                  refine lv_iinc (v := nI (k + 1)) (lv' := [(4, .int (nI (k + 1))), (0, .ref (ad 0 0)), (1, .int (nI t1)), (2, .int (nI t2)), (3, .int (nI mi))]) hx hb dX0_restingPulls_149 hl (k := 0) rfl (x_inc1 _) (by decide) rfl (fun ls hl => ?_)
                  refine lv_goto (tgt := 92) hx hb dX0_restingPulls_152 (by decide) ?_
                  exact ih_92 (k + 1) (by omega) (by omega) (fun j hj => if q : j = k then q ▸ (decide_eq_false (fun z => absurd z.2 (Int32.not_le.mpr c_4))) else hi92_2 j (by omega)) _ _ _ hP hD hS (lv_sub hl [0, 1, 2, 3, 4] rfl)
                · skip
                  refine lv_bipush (v := 10) hx hb dX0_restingPulls_136 (by decide) ?_
                  refine lv_iload hx hb dX0_restingPulls_138 (lv_at hl 0 rfl) ?_
                  refine lv_iconst (v := 2) hx hb dX0_restingPulls_140 (by decide) ?_
                  refine x_idiv hx hb dX0_restingPulls_141 (by decide) (v := nI (k / 2)) (pk_div (d := 2) (by omega) (by omega) (by omega)) ?_
                  refine x_imul hx hb dX0_restingPulls_142 (v := 10 * (nI (k / 2))) rfl ?_
                  refine lv_iload hx hb dX0_restingPulls_143 (lv_at hl 0 rfl) ?_
                  refine lv_iconst (v := 2) hx hb dX0_restingPulls_145 (by decide) ?_
                  refine x_irem hx hb dX0_restingPulls_146 (by decide) (v := nI (k % 2)) (pk_rem (d := 2) (by omega) (by omega) (by omega)) ?_
                  refine x_iadd hx hb dX0_restingPulls_147 (v := nI (10 * (k / 2) + k % 2)) (x_t2 k (by omega)) ?_
                  refine hret _ _ _ _ _ _ (nI (10 * (k / 2) + k % 2)) ((km, rm), pTwS r t1 t2 mi sb 4) dX0_restingPulls_148 ?_ hP hD hS (Nat.le_of_ble_eq_true rfl) (Nat.le_of_ble_eq_true rfl)
                  exact pTwo_at (by omega) hi92_2 (decide_eq_true ⟨Int32.not_lt.mp c_3, Int32.not_lt.mp c_4⟩)
        exact loop_92 5 0 (by omega) (by omega) (fun j hj => absurd hj (Nat.not_lt_zero j)) _ _ _ hP hD hS (lv_sub hl [0, 1, 2, 3, 4] rfl)
      · skip
        have g_1 := mt (nI_leI (by omega) (by omega)).mpr (show ¬ (nI k ≥ nI 4) from c_1)
        refine lv_aload_n hx hb dX0_restingPulls_9 rfl (lv_at hl 1 rfl) ?_
        refine x_Vr (wN := fun _ => (wX G ad ho rn ln dr ro lt rf th (pTwS r t1 t2 mi sb k) ++ wR G (ad 1) kd r ++ wR G (ad 2) kd r ++ wR G (ad 3) k2 r2 ++ wK (ad 4))) ⟨C0, hK, hP, hD, hS, hA⟩ 0 rfl (ci := 0) rfl rfl ((m_openMind l G ad kd km k2 r rm r2 ho rn ln dr ro lt rf th (pTwS r t1 t2 mi sb k) hr hp hk )) (cwV 0 hts (lw_V q795 q797 qs25 q86 q798) rfl rfl rfl (by decide +kernel) ⟨Nat.le_of_ble_eq_true rfl, Nat.le_of_ble_eq_true rfl⟩) [0, 1, 2, 3, 4, 5, 6, 7, 8, 9, 10, 11, 12, 13, 14, 15, 16, 17, 18, 19, 20, 21, 22, 23, 24, 25, 26, 27, 28, 29, 30] [1, 3, 5, 7, 9, 11, 13, 15, 17, 19, 21, 23, 25, 27, 29, 31, 33, 35, 37, 39, 41, 43, 45, 47, 49, 51, 53, 55, 57, 59, 61] rfl (fun _ => rfl) rfl rfl hl.1 rfl (Nat.le_of_ble_eq_true rfl) dX0_restingPulls_10 ⟨Nat.le_of_ble_eq_true rfl, Nat.le_of_ble_eq_true rfl⟩ (fun u_5 H locs hw_5 hP hD hS => ?_)
        have hP : va_P G.1 vwCl (wX G ad ho rn ln dr ro lt rf th (pTwS r t1 t2 mi sb k) ++ wR G (ad 1) kd r ++ wR G (ad 2) kd r ++ wR G (ad 3) k2 r2 ++ wK (ad 4)) H := hP
        have hD : va_D A (wX G ad ho rn ln dr ro lt rf th (pTwS r t1 t2 mi sb k) ++ wR G (ad 1) kd r ++ wR G (ad 2) kd r ++ wR G (ad 3) k2 r2 ++ wK (ad 4)) := hD
        refine lv_astore (lv' := [(5, .ref ((ad 2) 0)), (4, .int (nI k)), (0, .ref (ad 0 0)), (1, .int (nI t1)), (2, .int (nI t2)), (3, .int (nI mi))]) hx hb dX0_restingPulls_13 hl (by decide) rfl (fun ls hl => ?_)
        refine lv_iload hx hb dX0_restingPulls_15 (lv_at hl 1 rfl) ?_
        refine lv_iconst (v := 2) hx hb dX0_restingPulls_17 (by decide) ?_
        refine x_idiv hx hb dX0_restingPulls_18 (by decide) (v := nI (k / 2)) (pk_div (d := 2) (by omega) (by omega) (by omega)) ?_
        refine lv_iconst (v := 1) hx hb dX0_restingPulls_19 (by decide) ?_
        refine lv_icmp_ne (tgt := 41) hx hb dX0_restingPulls_20 (by decide) (fun c_6 => ?_) (fun c_6 => ?_)
        · skip
          have g_6 := mt (nI_eq (by omega) (by omega)).mpr (show ¬ (nI (k / 2) = nI 1) from c_6)
          refine lv_iload hx hb dX0_restingPulls_41 (lv_at hl 1 rfl) ?_
          refine lv_iconst (v := 2) hx hb dX0_restingPulls_43 (by decide) ?_
          refine x_irem hx hb dX0_restingPulls_44 (by decide) (v := nI (k % 2)) (pk_rem (d := 2) (by omega) (by omega) (by omega)) ?_
          refine lv_iconst (v := 1) hx hb dX0_restingPulls_45 (by decide) ?_
          refine lv_icmp_ne (tgt := 67) hx hb dX0_restingPulls_46 (by decide) (fun c_7 => ?_) (fun c_7 => ?_)
          · skip
            have g_7 := mt (nI_eq (by omega) (by omega)).mpr (show ¬ (nI (k % 2) = nI 1) from c_7)
            refine lv_aload_n hx hb dX0_restingPulls_67 rfl (lv_at hl 2 rfl) ?_
            refine va_get (D := G.1) (ci := 0) (v := .ref (ad 0 6)) (C := RX0) (T := TX0) (N := 13) hx hb hts in_X0 hown hK.1 hP 0 rfl rfl 11 (by decide) (hts _ q234) (fun _ h9 => h9) rfl dX0_restingPulls_68 ?_
            refine lv_iload hx hb dX0_restingPulls_71 (lv_at hl 1 rfl) ?_
            refine lv_aload hx hb dX0_restingPulls_73 (lv_at hl 0 rfl) ?_
            refine lv_iload_n hx hb dX0_restingPulls_75 rfl (lv_at hl 5 rfl) ?_
            refine x_Vr (wN := fun _ => (wX G ad ho rn ln dr ro lt rf th (pTwS r t1 t2 mi sb k) ++ wR G (ad 1) kd r ++ wR G (ad 2) kd (pMins r mi) ++ wR G (ad 3) k2 r2 ++ wK (ad 4))) ⟨C0, hK, hP, hD, hS, hA⟩ 13 rfl (ci := 7) rfl rfl ((m_minutesOn l G (ad 2) (ad 4) kd r hr hk mi hmi)) (cwV 1 hts (lw_V q770 q623 q624 q94 q625) rfl rfl rfl (by decide +kernel) ⟨Nat.le_of_ble_eq_true rfl, Nat.le_of_ble_eq_true rfl⟩) [13, 14, 15, 16, 17, 18, 25, 26, 27, 28, 29, 30] [0, 2, 4, 6, 8, 10, 12, 14, 16, 18, 20, 22, 24, 1, 3, 5, 7, 9, 11, 38, 40, 42, 44, 46, 48, 13, 15, 17, 19, 21, 23] rfl (fun _ => rfl) rfl rfl hl.1 rfl (Nat.le_of_ble_eq_true rfl) dX0_restingPulls_76 ⟨Nat.le_of_ble_eq_true rfl, Nat.le_of_ble_eq_true rfl⟩ (fun u_8 H locs hw_8 hP hD hS => ?_)
            have hP : va_P G.1 vwCl (wX G ad ho rn ln dr ro lt rf th (pTwS r t1 t2 mi sb k) ++ wR G (ad 1) kd r ++ wR G (ad 2) kd (pMins r mi) ++ wR G (ad 3) k2 r2 ++ wK (ad 4)) H := hP
            have hD : va_D A (wX G ad ho rn ln dr ro lt rf th (pTwS r t1 t2 mi sb k) ++ wR G (ad 1) kd r ++ wR G (ad 2) kd (pMins r mi) ++ wR G (ad 3) k2 r2 ++ wK (ad 4)) := hD
            refine x_Vi (wN := fun _ => (wX G ad ho rn ln dr ro lt rf th (pTwS r t1 t2 mi sb k) ++ wR G (ad 1) kd r ++ wR G (ad 2) kd (pMins r mi) ++ wR G (ad 3) k2 r2 ++ wK (ad 4))) ⟨C0, hK, hP, hD, hS, hA⟩ 13 rfl (ci := 7) rfl rfl ((m_standing l G (ad 2) (ad 4) kd (pMins r mi) (Ok.mins hr) (kOk.mins hk))) (cwV 0 hts (lw_V q771 q772 q773 q94 q774) rfl rfl rfl (by decide +kernel) ⟨Nat.le_of_ble_eq_true rfl, Nat.le_of_ble_eq_true rfl⟩) [13, 14, 15, 16, 17, 18, 25, 26, 27, 28, 29, 30] [0, 2, 4, 6, 8, 10, 12, 14, 16, 18, 20, 22, 24, 1, 3, 5, 7, 9, 11, 38, 40, 42, 44, 46, 48, 13, 15, 17, 19, 21, 23] rfl (fun _ => rfl) rfl rfl hl.1 rfl (Nat.le_of_ble_eq_true rfl) dX0_restingPulls_79 ⟨Nat.le_of_ble_eq_true rfl, Nat.le_of_ble_eq_true rfl⟩ (fun r_9 u_9 H locs hw_9 hP hD hS => ?_)
            have hw_9 : (pStN (pMins r mi) : Int32) = r_9 := hw_9.symm
            subst hw_9
            have ea : pTwQ r t1 (decide (k / 2 = 1)) = r := pTwQ_n (fun z => absurd (of_decide_eq_true z) (by omega))
            have eb : pTwQ r t2 (decide (k % 2 = 1)) = r := pTwQ_n (fun z => absurd (of_decide_eq_true z) (by omega))
            rw [show (pStN (pMins r mi) : Int32) = pTwV r t1 t2 mi k from (by unfold pTwV; rw [ea, eb])]
            refine x_iastn (k := k) hx hb hK.1 hP hD hS 6 0 rfl rfl (by omega) (by decide) (g := upd (pTwS r t1 t2 mi sb k) k (pTwV r t1 t2 mi k)) rfl dX0_restingPulls_82 (fun H locs hP hD hS => ?_)
            have hP : va_P G.1 vwCl (wX G ad ho rn ln dr ro lt rf th (upd (pTwS r t1 t2 mi sb k) k (pTwV r t1 t2 mi k)) ++ wR G (ad 1) kd r ++ wR G (ad 2) kd (pMins r mi) ++ wR G (ad 3) k2 r2 ++ wK (ad 4)) H := hP
            have hD : va_D A (wX G ad ho rn ln dr ro lt rf th (upd (pTwS r t1 t2 mi sb k) k (pTwV r t1 t2 mi k)) ++ wR G (ad 1) kd r ++ wR G (ad 2) kd (pMins r mi) ++ wR G (ad 3) k2 r2 ++ wK (ad 4)) := hD
            refine lv_iinc (v := nI (k + 1)) (lv' := [(4, .int (nI (k + 1))), (5, .ref ((ad 2) 0)), (0, .ref (ad 0 0)), (1, .int (nI t1)), (2, .int (nI t2)), (3, .int (nI mi))]) hx hb dX0_restingPulls_83 hl (k := 1) rfl (x_inc1 _) (by decide) rfl (fun ls hl => ?_)
            refine lv_goto (tgt := 3) hx hb dX0_restingPulls_86 (by decide) ?_
            rw [pTwS_s] at hP hD
            exact ih_3 (k + 1) _ _ (by omega) (by omega) _ _ _ hP hD hS (lv_sub hl [0, 2, 3, 4, 5] rfl)
          · skip
            have g_7 := (nI_eq (by omega) (by omega)).mp (show nI (k % 2) = nI 1 from c_7)
            refine lv_aload hx hb dX0_restingPulls_49 (lv_at hl 0 rfl) ?_
            refine lv_iload_n hx hb dX0_restingPulls_51 rfl (lv_at hl 4 rfl) ?_
            refine x_Vi (wN := fun _ => (wX G ad ho rn ln dr ro lt rf th (pTwS r t1 t2 mi sb k) ++ wR G (ad 1) kd r ++ wR G (ad 2) kd r ++ wR G (ad 3) k2 r2 ++ wK (ad 4))) ⟨C0, hK, hP, hD, hS, hA⟩ 13 rfl (ci := 7) rfl rfl ((m_isStanding l G (ad 2) (ad 4) kd r hr hk t2 (by omega))) (cwV 1 hts (lw_V q744 q558 q559 q94 q560) rfl rfl rfl (by decide +kernel) ⟨Nat.le_of_ble_eq_true rfl, Nat.le_of_ble_eq_true rfl⟩) [13, 14, 15, 16, 17, 18, 25, 26, 27, 28, 29, 30] [0, 2, 4, 6, 8, 10, 12, 14, 16, 18, 20, 22, 24, 1, 3, 5, 7, 9, 11, 38, 40, 42, 44, 46, 48, 13, 15, 17, 19, 21, 23] rfl (fun _ => rfl) rfl rfl hl.1 rfl (Nat.le_of_ble_eq_true rfl) dX0_restingPulls_52 ⟨Nat.le_of_ble_eq_true rfl, Nat.le_of_ble_eq_true rfl⟩ (fun r_10 u_10 H locs hw_10 hP hD hS => ?_)
            have hw_10 : (bI (pSt r t2) : Int32) = r_10 := hw_10.symm
            subst hw_10
            refine lv_if_eq (tgt := 67) hx hb dX0_restingPulls_55 (by decide) (fun c_11 => ?_) (fun c_11 => ?_)
            · skip
              refine lv_aload_n hx hb dX0_restingPulls_67 rfl (lv_at hl 2 rfl) ?_
              refine va_get (D := G.1) (ci := 0) (v := .ref (ad 0 6)) (C := RX0) (T := TX0) (N := 13) hx hb hts in_X0 hown hK.1 hP 0 rfl rfl 11 (by decide) (hts _ q234) (fun _ h9 => h9) rfl dX0_restingPulls_68 ?_
              refine lv_iload hx hb dX0_restingPulls_71 (lv_at hl 1 rfl) ?_
              refine lv_aload hx hb dX0_restingPulls_73 (lv_at hl 0 rfl) ?_
              refine lv_iload_n hx hb dX0_restingPulls_75 rfl (lv_at hl 5 rfl) ?_
              refine x_Vr (wN := fun _ => (wX G ad ho rn ln dr ro lt rf th (pTwS r t1 t2 mi sb k) ++ wR G (ad 1) kd r ++ wR G (ad 2) kd (pMins r mi) ++ wR G (ad 3) k2 r2 ++ wK (ad 4))) ⟨C0, hK, hP, hD, hS, hA⟩ 13 rfl (ci := 7) rfl rfl ((m_minutesOn l G (ad 2) (ad 4) kd r hr hk mi hmi)) (cwV 1 hts (lw_V q770 q623 q624 q94 q625) rfl rfl rfl (by decide +kernel) ⟨Nat.le_of_ble_eq_true rfl, Nat.le_of_ble_eq_true rfl⟩) [13, 14, 15, 16, 17, 18, 25, 26, 27, 28, 29, 30] [0, 2, 4, 6, 8, 10, 12, 14, 16, 18, 20, 22, 24, 1, 3, 5, 7, 9, 11, 38, 40, 42, 44, 46, 48, 13, 15, 17, 19, 21, 23] rfl (fun _ => rfl) rfl rfl hl.1 rfl (Nat.le_of_ble_eq_true rfl) dX0_restingPulls_76 ⟨Nat.le_of_ble_eq_true rfl, Nat.le_of_ble_eq_true rfl⟩ (fun u_12 H locs hw_12 hP hD hS => ?_)
              have hP : va_P G.1 vwCl (wX G ad ho rn ln dr ro lt rf th (pTwS r t1 t2 mi sb k) ++ wR G (ad 1) kd r ++ wR G (ad 2) kd (pMins r mi) ++ wR G (ad 3) k2 r2 ++ wK (ad 4)) H := hP
              have hD : va_D A (wX G ad ho rn ln dr ro lt rf th (pTwS r t1 t2 mi sb k) ++ wR G (ad 1) kd r ++ wR G (ad 2) kd (pMins r mi) ++ wR G (ad 3) k2 r2 ++ wK (ad 4)) := hD
              refine x_Vi (wN := fun _ => (wX G ad ho rn ln dr ro lt rf th (pTwS r t1 t2 mi sb k) ++ wR G (ad 1) kd r ++ wR G (ad 2) kd (pMins r mi) ++ wR G (ad 3) k2 r2 ++ wK (ad 4))) ⟨C0, hK, hP, hD, hS, hA⟩ 13 rfl (ci := 7) rfl rfl ((m_standing l G (ad 2) (ad 4) kd (pMins r mi) (Ok.mins hr) (kOk.mins hk))) (cwV 0 hts (lw_V q771 q772 q773 q94 q774) rfl rfl rfl (by decide +kernel) ⟨Nat.le_of_ble_eq_true rfl, Nat.le_of_ble_eq_true rfl⟩) [13, 14, 15, 16, 17, 18, 25, 26, 27, 28, 29, 30] [0, 2, 4, 6, 8, 10, 12, 14, 16, 18, 20, 22, 24, 1, 3, 5, 7, 9, 11, 38, 40, 42, 44, 46, 48, 13, 15, 17, 19, 21, 23] rfl (fun _ => rfl) rfl rfl hl.1 rfl (Nat.le_of_ble_eq_true rfl) dX0_restingPulls_79 ⟨Nat.le_of_ble_eq_true rfl, Nat.le_of_ble_eq_true rfl⟩ (fun r_13 u_13 H locs hw_13 hP hD hS => ?_)
              have hw_13 : (pStN (pMins r mi) : Int32) = r_13 := hw_13.symm
              subst hw_13
              have ea : pTwQ r t1 (decide (k / 2 = 1)) = r := pTwQ_n (fun z => absurd (of_decide_eq_true z) (by omega))
              have eb : pTwQ r t2 (decide (k % 2 = 1)) = r := pTwQ_n (fun _ => (by have h9 := c_11; simpa [bI_0] using h9))
              rw [show (pStN (pMins r mi) : Int32) = pTwV r t1 t2 mi k from (by unfold pTwV; rw [ea, eb])]
              refine x_iastn (k := k) hx hb hK.1 hP hD hS 6 0 rfl rfl (by omega) (by decide) (g := upd (pTwS r t1 t2 mi sb k) k (pTwV r t1 t2 mi k)) rfl dX0_restingPulls_82 (fun H locs hP hD hS => ?_)
              have hP : va_P G.1 vwCl (wX G ad ho rn ln dr ro lt rf th (upd (pTwS r t1 t2 mi sb k) k (pTwV r t1 t2 mi k)) ++ wR G (ad 1) kd r ++ wR G (ad 2) kd (pMins r mi) ++ wR G (ad 3) k2 r2 ++ wK (ad 4)) H := hP
              have hD : va_D A (wX G ad ho rn ln dr ro lt rf th (upd (pTwS r t1 t2 mi sb k) k (pTwV r t1 t2 mi k)) ++ wR G (ad 1) kd r ++ wR G (ad 2) kd (pMins r mi) ++ wR G (ad 3) k2 r2 ++ wK (ad 4)) := hD
              refine lv_iinc (v := nI (k + 1)) (lv' := [(4, .int (nI (k + 1))), (5, .ref ((ad 2) 0)), (0, .ref (ad 0 0)), (1, .int (nI t1)), (2, .int (nI t2)), (3, .int (nI mi))]) hx hb dX0_restingPulls_83 hl (k := 1) rfl (x_inc1 _) (by decide) rfl (fun ls hl => ?_)
              refine lv_goto (tgt := 3) hx hb dX0_restingPulls_86 (by decide) ?_
              rw [pTwS_s] at hP hD
              exact ih_3 (k + 1) _ _ (by omega) (by omega) _ _ _ hP hD hS (lv_sub hl [0, 2, 3, 4, 5] rfl)
            · skip
              refine lv_aload hx hb dX0_restingPulls_58 (lv_at hl 0 rfl) ?_
              refine lv_iload_n hx hb dX0_restingPulls_60 rfl (lv_at hl 4 rfl) ?_
              refine lv_bipush (v := 9) hx hb dX0_restingPulls_61 (by decide) ?_
              refine x_Vi (wN := fun _ => (wX G ad ho rn ln dr ro lt rf th (pTwS r t1 t2 mi sb k) ++ wR G (ad 1) kd r ++ wR G (ad 2) kd (pPull r t2 9) ++ wR G (ad 3) k2 r2 ++ wK (ad 4))) ⟨C0, hK, hP, hD, hS, hA⟩ 13 rfl (ci := 7) rfl rfl ((m_pull l G (ad 2) (ad 4) kd r hr hk t2 9 ht2 hp)) (cwV 2 hts (lw_V q745 q683 q684 q94 q685) rfl rfl rfl (by decide +kernel) ⟨Nat.le_of_ble_eq_true rfl, Nat.le_of_ble_eq_true rfl⟩) [13, 14, 15, 16, 17, 18, 25, 26, 27, 28, 29, 30] [0, 2, 4, 6, 8, 10, 12, 14, 16, 18, 20, 22, 24, 1, 3, 5, 7, 9, 11, 38, 40, 42, 44, 46, 48, 13, 15, 17, 19, 21, 23] rfl (fun _ => rfl) rfl rfl hl.1 rfl (Nat.le_of_ble_eq_true rfl) dX0_restingPulls_63 ⟨Nat.le_of_ble_eq_true rfl, Nat.le_of_ble_eq_true rfl⟩ (fun r_14 u_14 H locs hw_14 hP hD hS => ?_)
              have hw_14 : (pPullN r t2 9 : Int32) = r_14 := hw_14.symm
              subst hw_14
              have hP : va_P G.1 vwCl (wX G ad ho rn ln dr ro lt rf th (pTwS r t1 t2 mi sb k) ++ wR G (ad 1) kd r ++ wR G (ad 2) kd (pPull r t2 9) ++ wR G (ad 3) k2 r2 ++ wK (ad 4)) H := hP
              have hD : va_D A (wX G ad ho rn ln dr ro lt rf th (pTwS r t1 t2 mi sb k) ++ wR G (ad 1) kd r ++ wR G (ad 2) kd (pPull r t2 9) ++ wR G (ad 3) k2 r2 ++ wK (ad 4)) := hD
              refine lv_pop hx hb dX0_restingPulls_66 rfl ?_
              refine lv_aload_n hx hb dX0_restingPulls_67 rfl (lv_at hl 2 rfl) ?_
              refine va_get (D := G.1) (ci := 0) (v := .ref (ad 0 6)) (C := RX0) (T := TX0) (N := 13) hx hb hts in_X0 hown hK.1 hP 0 rfl rfl 11 (by decide) (hts _ q234) (fun _ h9 => h9) rfl dX0_restingPulls_68 ?_
              refine lv_iload hx hb dX0_restingPulls_71 (lv_at hl 1 rfl) ?_
              refine lv_aload hx hb dX0_restingPulls_73 (lv_at hl 0 rfl) ?_
              refine lv_iload_n hx hb dX0_restingPulls_75 rfl (lv_at hl 5 rfl) ?_
              refine x_Vr (wN := fun _ => (wX G ad ho rn ln dr ro lt rf th (pTwS r t1 t2 mi sb k) ++ wR G (ad 1) kd r ++ wR G (ad 2) kd (pMins (pPull r t2 9) mi) ++ wR G (ad 3) k2 r2 ++ wK (ad 4))) ⟨C0, hK, hP, hD, hS, hA⟩ 13 rfl (ci := 7) rfl rfl ((m_minutesOn l G (ad 2) (ad 4) kd (pPull r t2 9) (Ok.pull hr) (kOk.pull hk) mi hmi)) (cwV 1 hts (lw_V q770 q623 q624 q94 q625) rfl rfl rfl (by decide +kernel) ⟨Nat.le_of_ble_eq_true rfl, Nat.le_of_ble_eq_true rfl⟩) [13, 14, 15, 16, 17, 18, 25, 26, 27, 28, 29, 30] [0, 2, 4, 6, 8, 10, 12, 14, 16, 18, 20, 22, 24, 1, 3, 5, 7, 9, 11, 38, 40, 42, 44, 46, 48, 13, 15, 17, 19, 21, 23] rfl (fun _ => rfl) rfl rfl hl.1 rfl (Nat.le_of_ble_eq_true rfl) dX0_restingPulls_76 ⟨Nat.le_of_ble_eq_true rfl, Nat.le_of_ble_eq_true rfl⟩ (fun u_15 H locs hw_15 hP hD hS => ?_)
              have hP : va_P G.1 vwCl (wX G ad ho rn ln dr ro lt rf th (pTwS r t1 t2 mi sb k) ++ wR G (ad 1) kd r ++ wR G (ad 2) kd (pMins (pPull r t2 9) mi) ++ wR G (ad 3) k2 r2 ++ wK (ad 4)) H := hP
              have hD : va_D A (wX G ad ho rn ln dr ro lt rf th (pTwS r t1 t2 mi sb k) ++ wR G (ad 1) kd r ++ wR G (ad 2) kd (pMins (pPull r t2 9) mi) ++ wR G (ad 3) k2 r2 ++ wK (ad 4)) := hD
              refine x_Vi (wN := fun _ => (wX G ad ho rn ln dr ro lt rf th (pTwS r t1 t2 mi sb k) ++ wR G (ad 1) kd r ++ wR G (ad 2) kd (pMins (pPull r t2 9) mi) ++ wR G (ad 3) k2 r2 ++ wK (ad 4))) ⟨C0, hK, hP, hD, hS, hA⟩ 13 rfl (ci := 7) rfl rfl ((m_standing l G (ad 2) (ad 4) kd (pMins (pPull r t2 9) mi) (Ok.mins (Ok.pull hr)) (kOk.mins (kOk.pull hk)))) (cwV 0 hts (lw_V q771 q772 q773 q94 q774) rfl rfl rfl (by decide +kernel) ⟨Nat.le_of_ble_eq_true rfl, Nat.le_of_ble_eq_true rfl⟩) [13, 14, 15, 16, 17, 18, 25, 26, 27, 28, 29, 30] [0, 2, 4, 6, 8, 10, 12, 14, 16, 18, 20, 22, 24, 1, 3, 5, 7, 9, 11, 38, 40, 42, 44, 46, 48, 13, 15, 17, 19, 21, 23] rfl (fun _ => rfl) rfl rfl hl.1 rfl (Nat.le_of_ble_eq_true rfl) dX0_restingPulls_79 ⟨Nat.le_of_ble_eq_true rfl, Nat.le_of_ble_eq_true rfl⟩ (fun r_16 u_16 H locs hw_16 hP hD hS => ?_)
              have hw_16 : (pStN (pMins (pPull r t2 9) mi) : Int32) = r_16 := hw_16.symm
              subst hw_16
              have ea : pTwQ r t1 (decide (k / 2 = 1)) = r := pTwQ_n (fun z => absurd (of_decide_eq_true z) (by omega))
              have eb : pTwQ r t2 (decide (k % 2 = 1)) = pPull r t2 9 := pTwQ_y (decide_eq_true (by omega)) (by have h9 := c_11; simpa [bI_0] using h9)
              rw [show (pStN (pMins (pPull r t2 9) mi) : Int32) = pTwV r t1 t2 mi k from (by unfold pTwV; rw [ea, eb])]
              refine x_iastn (k := k) hx hb hK.1 hP hD hS 6 0 rfl rfl (by omega) (by decide) (g := upd (pTwS r t1 t2 mi sb k) k (pTwV r t1 t2 mi k)) rfl dX0_restingPulls_82 (fun H locs hP hD hS => ?_)
              have hP : va_P G.1 vwCl (wX G ad ho rn ln dr ro lt rf th (upd (pTwS r t1 t2 mi sb k) k (pTwV r t1 t2 mi k)) ++ wR G (ad 1) kd r ++ wR G (ad 2) kd (pMins (pPull r t2 9) mi) ++ wR G (ad 3) k2 r2 ++ wK (ad 4)) H := hP
              have hD : va_D A (wX G ad ho rn ln dr ro lt rf th (upd (pTwS r t1 t2 mi sb k) k (pTwV r t1 t2 mi k)) ++ wR G (ad 1) kd r ++ wR G (ad 2) kd (pMins (pPull r t2 9) mi) ++ wR G (ad 3) k2 r2 ++ wK (ad 4)) := hD
              refine lv_iinc (v := nI (k + 1)) (lv' := [(4, .int (nI (k + 1))), (5, .ref ((ad 2) 0)), (0, .ref (ad 0 0)), (1, .int (nI t1)), (2, .int (nI t2)), (3, .int (nI mi))]) hx hb dX0_restingPulls_83 hl (k := 1) rfl (x_inc1 _) (by decide) rfl (fun ls hl => ?_)
              refine lv_goto (tgt := 3) hx hb dX0_restingPulls_86 (by decide) ?_
              rw [pTwS_s] at hP hD
              exact ih_3 (k + 1) _ _ (by omega) (by omega) _ _ _ hP hD hS (lv_sub hl [0, 2, 3, 4, 5] rfl)
        · skip
          have g_6 := (nI_eq (by omega) (by omega)).mp (show nI (k / 2) = nI 1 from c_6)
          refine lv_aload hx hb dX0_restingPulls_23 (lv_at hl 0 rfl) ?_
          refine lv_iload_n hx hb dX0_restingPulls_25 rfl (lv_at hl 3 rfl) ?_
          refine x_Vi (wN := fun _ => (wX G ad ho rn ln dr ro lt rf th (pTwS r t1 t2 mi sb k) ++ wR G (ad 1) kd r ++ wR G (ad 2) kd r ++ wR G (ad 3) k2 r2 ++ wK (ad 4))) ⟨C0, hK, hP, hD, hS, hA⟩ 13 rfl (ci := 7) rfl rfl ((m_isStanding l G (ad 2) (ad 4) kd r hr hk t1 (by omega))) (cwV 1 hts (lw_V q744 q558 q559 q94 q560) rfl rfl rfl (by decide +kernel) ⟨Nat.le_of_ble_eq_true rfl, Nat.le_of_ble_eq_true rfl⟩) [13, 14, 15, 16, 17, 18, 25, 26, 27, 28, 29, 30] [0, 2, 4, 6, 8, 10, 12, 14, 16, 18, 20, 22, 24, 1, 3, 5, 7, 9, 11, 38, 40, 42, 44, 46, 48, 13, 15, 17, 19, 21, 23] rfl (fun _ => rfl) rfl rfl hl.1 rfl (Nat.le_of_ble_eq_true rfl) dX0_restingPulls_26 ⟨Nat.le_of_ble_eq_true rfl, Nat.le_of_ble_eq_true rfl⟩ (fun r_17 u_17 H locs hw_17 hP hD hS => ?_)
          have hw_17 : (bI (pSt r t1) : Int32) = r_17 := hw_17.symm
          subst hw_17
          refine lv_if_eq (tgt := 41) hx hb dX0_restingPulls_29 (by decide) (fun c_18 => ?_) (fun c_18 => ?_)
          · skip
            refine lv_iload hx hb dX0_restingPulls_41 (lv_at hl 1 rfl) ?_
            refine lv_iconst (v := 2) hx hb dX0_restingPulls_43 (by decide) ?_
            refine x_irem hx hb dX0_restingPulls_44 (by decide) (v := nI (k % 2)) (pk_rem (d := 2) (by omega) (by omega) (by omega)) ?_
            refine lv_iconst (v := 1) hx hb dX0_restingPulls_45 (by decide) ?_
            refine lv_icmp_ne (tgt := 67) hx hb dX0_restingPulls_46 (by decide) (fun c_19 => ?_) (fun c_19 => ?_)
            · skip
              have g_19 := mt (nI_eq (by omega) (by omega)).mpr (show ¬ (nI (k % 2) = nI 1) from c_19)
              refine lv_aload_n hx hb dX0_restingPulls_67 rfl (lv_at hl 2 rfl) ?_
              refine va_get (D := G.1) (ci := 0) (v := .ref (ad 0 6)) (C := RX0) (T := TX0) (N := 13) hx hb hts in_X0 hown hK.1 hP 0 rfl rfl 11 (by decide) (hts _ q234) (fun _ h9 => h9) rfl dX0_restingPulls_68 ?_
              refine lv_iload hx hb dX0_restingPulls_71 (lv_at hl 1 rfl) ?_
              refine lv_aload hx hb dX0_restingPulls_73 (lv_at hl 0 rfl) ?_
              refine lv_iload_n hx hb dX0_restingPulls_75 rfl (lv_at hl 5 rfl) ?_
              refine x_Vr (wN := fun _ => (wX G ad ho rn ln dr ro lt rf th (pTwS r t1 t2 mi sb k) ++ wR G (ad 1) kd r ++ wR G (ad 2) kd (pMins r mi) ++ wR G (ad 3) k2 r2 ++ wK (ad 4))) ⟨C0, hK, hP, hD, hS, hA⟩ 13 rfl (ci := 7) rfl rfl ((m_minutesOn l G (ad 2) (ad 4) kd r hr hk mi hmi)) (cwV 1 hts (lw_V q770 q623 q624 q94 q625) rfl rfl rfl (by decide +kernel) ⟨Nat.le_of_ble_eq_true rfl, Nat.le_of_ble_eq_true rfl⟩) [13, 14, 15, 16, 17, 18, 25, 26, 27, 28, 29, 30] [0, 2, 4, 6, 8, 10, 12, 14, 16, 18, 20, 22, 24, 1, 3, 5, 7, 9, 11, 38, 40, 42, 44, 46, 48, 13, 15, 17, 19, 21, 23] rfl (fun _ => rfl) rfl rfl hl.1 rfl (Nat.le_of_ble_eq_true rfl) dX0_restingPulls_76 ⟨Nat.le_of_ble_eq_true rfl, Nat.le_of_ble_eq_true rfl⟩ (fun u_20 H locs hw_20 hP hD hS => ?_)
              have hP : va_P G.1 vwCl (wX G ad ho rn ln dr ro lt rf th (pTwS r t1 t2 mi sb k) ++ wR G (ad 1) kd r ++ wR G (ad 2) kd (pMins r mi) ++ wR G (ad 3) k2 r2 ++ wK (ad 4)) H := hP
              have hD : va_D A (wX G ad ho rn ln dr ro lt rf th (pTwS r t1 t2 mi sb k) ++ wR G (ad 1) kd r ++ wR G (ad 2) kd (pMins r mi) ++ wR G (ad 3) k2 r2 ++ wK (ad 4)) := hD
              refine x_Vi (wN := fun _ => (wX G ad ho rn ln dr ro lt rf th (pTwS r t1 t2 mi sb k) ++ wR G (ad 1) kd r ++ wR G (ad 2) kd (pMins r mi) ++ wR G (ad 3) k2 r2 ++ wK (ad 4))) ⟨C0, hK, hP, hD, hS, hA⟩ 13 rfl (ci := 7) rfl rfl ((m_standing l G (ad 2) (ad 4) kd (pMins r mi) (Ok.mins hr) (kOk.mins hk))) (cwV 0 hts (lw_V q771 q772 q773 q94 q774) rfl rfl rfl (by decide +kernel) ⟨Nat.le_of_ble_eq_true rfl, Nat.le_of_ble_eq_true rfl⟩) [13, 14, 15, 16, 17, 18, 25, 26, 27, 28, 29, 30] [0, 2, 4, 6, 8, 10, 12, 14, 16, 18, 20, 22, 24, 1, 3, 5, 7, 9, 11, 38, 40, 42, 44, 46, 48, 13, 15, 17, 19, 21, 23] rfl (fun _ => rfl) rfl rfl hl.1 rfl (Nat.le_of_ble_eq_true rfl) dX0_restingPulls_79 ⟨Nat.le_of_ble_eq_true rfl, Nat.le_of_ble_eq_true rfl⟩ (fun r_21 u_21 H locs hw_21 hP hD hS => ?_)
              have hw_21 : (pStN (pMins r mi) : Int32) = r_21 := hw_21.symm
              subst hw_21
              have ea : pTwQ r t1 (decide (k / 2 = 1)) = r := pTwQ_n (fun _ => (by have h9 := c_18; simpa [bI_0] using h9))
              have eb : pTwQ r t2 (decide (k % 2 = 1)) = r := pTwQ_n (fun z => absurd (of_decide_eq_true z) (by omega))
              rw [show (pStN (pMins r mi) : Int32) = pTwV r t1 t2 mi k from (by unfold pTwV; rw [ea, eb])]
              refine x_iastn (k := k) hx hb hK.1 hP hD hS 6 0 rfl rfl (by omega) (by decide) (g := upd (pTwS r t1 t2 mi sb k) k (pTwV r t1 t2 mi k)) rfl dX0_restingPulls_82 (fun H locs hP hD hS => ?_)
              have hP : va_P G.1 vwCl (wX G ad ho rn ln dr ro lt rf th (upd (pTwS r t1 t2 mi sb k) k (pTwV r t1 t2 mi k)) ++ wR G (ad 1) kd r ++ wR G (ad 2) kd (pMins r mi) ++ wR G (ad 3) k2 r2 ++ wK (ad 4)) H := hP
              have hD : va_D A (wX G ad ho rn ln dr ro lt rf th (upd (pTwS r t1 t2 mi sb k) k (pTwV r t1 t2 mi k)) ++ wR G (ad 1) kd r ++ wR G (ad 2) kd (pMins r mi) ++ wR G (ad 3) k2 r2 ++ wK (ad 4)) := hD
              refine lv_iinc (v := nI (k + 1)) (lv' := [(4, .int (nI (k + 1))), (5, .ref ((ad 2) 0)), (0, .ref (ad 0 0)), (1, .int (nI t1)), (2, .int (nI t2)), (3, .int (nI mi))]) hx hb dX0_restingPulls_83 hl (k := 1) rfl (x_inc1 _) (by decide) rfl (fun ls hl => ?_)
              refine lv_goto (tgt := 3) hx hb dX0_restingPulls_86 (by decide) ?_
              rw [pTwS_s] at hP hD
              exact ih_3 (k + 1) _ _ (by omega) (by omega) _ _ _ hP hD hS (lv_sub hl [0, 2, 3, 4, 5] rfl)
            · skip
              have g_19 := (nI_eq (by omega) (by omega)).mp (show nI (k % 2) = nI 1 from c_19)
              refine lv_aload hx hb dX0_restingPulls_49 (lv_at hl 0 rfl) ?_
              refine lv_iload_n hx hb dX0_restingPulls_51 rfl (lv_at hl 4 rfl) ?_
              refine x_Vi (wN := fun _ => (wX G ad ho rn ln dr ro lt rf th (pTwS r t1 t2 mi sb k) ++ wR G (ad 1) kd r ++ wR G (ad 2) kd r ++ wR G (ad 3) k2 r2 ++ wK (ad 4))) ⟨C0, hK, hP, hD, hS, hA⟩ 13 rfl (ci := 7) rfl rfl ((m_isStanding l G (ad 2) (ad 4) kd r hr hk t2 (by omega))) (cwV 1 hts (lw_V q744 q558 q559 q94 q560) rfl rfl rfl (by decide +kernel) ⟨Nat.le_of_ble_eq_true rfl, Nat.le_of_ble_eq_true rfl⟩) [13, 14, 15, 16, 17, 18, 25, 26, 27, 28, 29, 30] [0, 2, 4, 6, 8, 10, 12, 14, 16, 18, 20, 22, 24, 1, 3, 5, 7, 9, 11, 38, 40, 42, 44, 46, 48, 13, 15, 17, 19, 21, 23] rfl (fun _ => rfl) rfl rfl hl.1 rfl (Nat.le_of_ble_eq_true rfl) dX0_restingPulls_52 ⟨Nat.le_of_ble_eq_true rfl, Nat.le_of_ble_eq_true rfl⟩ (fun r_22 u_22 H locs hw_22 hP hD hS => ?_)
              have hw_22 : (bI (pSt r t2) : Int32) = r_22 := hw_22.symm
              subst hw_22
              refine lv_if_eq (tgt := 67) hx hb dX0_restingPulls_55 (by decide) (fun c_23 => ?_) (fun c_23 => ?_)
              · skip
                refine lv_aload_n hx hb dX0_restingPulls_67 rfl (lv_at hl 2 rfl) ?_
                refine va_get (D := G.1) (ci := 0) (v := .ref (ad 0 6)) (C := RX0) (T := TX0) (N := 13) hx hb hts in_X0 hown hK.1 hP 0 rfl rfl 11 (by decide) (hts _ q234) (fun _ h9 => h9) rfl dX0_restingPulls_68 ?_
                refine lv_iload hx hb dX0_restingPulls_71 (lv_at hl 1 rfl) ?_
                refine lv_aload hx hb dX0_restingPulls_73 (lv_at hl 0 rfl) ?_
                refine lv_iload_n hx hb dX0_restingPulls_75 rfl (lv_at hl 5 rfl) ?_
                refine x_Vr (wN := fun _ => (wX G ad ho rn ln dr ro lt rf th (pTwS r t1 t2 mi sb k) ++ wR G (ad 1) kd r ++ wR G (ad 2) kd (pMins r mi) ++ wR G (ad 3) k2 r2 ++ wK (ad 4))) ⟨C0, hK, hP, hD, hS, hA⟩ 13 rfl (ci := 7) rfl rfl ((m_minutesOn l G (ad 2) (ad 4) kd r hr hk mi hmi)) (cwV 1 hts (lw_V q770 q623 q624 q94 q625) rfl rfl rfl (by decide +kernel) ⟨Nat.le_of_ble_eq_true rfl, Nat.le_of_ble_eq_true rfl⟩) [13, 14, 15, 16, 17, 18, 25, 26, 27, 28, 29, 30] [0, 2, 4, 6, 8, 10, 12, 14, 16, 18, 20, 22, 24, 1, 3, 5, 7, 9, 11, 38, 40, 42, 44, 46, 48, 13, 15, 17, 19, 21, 23] rfl (fun _ => rfl) rfl rfl hl.1 rfl (Nat.le_of_ble_eq_true rfl) dX0_restingPulls_76 ⟨Nat.le_of_ble_eq_true rfl, Nat.le_of_ble_eq_true rfl⟩ (fun u_24 H locs hw_24 hP hD hS => ?_)
                have hP : va_P G.1 vwCl (wX G ad ho rn ln dr ro lt rf th (pTwS r t1 t2 mi sb k) ++ wR G (ad 1) kd r ++ wR G (ad 2) kd (pMins r mi) ++ wR G (ad 3) k2 r2 ++ wK (ad 4)) H := hP
                have hD : va_D A (wX G ad ho rn ln dr ro lt rf th (pTwS r t1 t2 mi sb k) ++ wR G (ad 1) kd r ++ wR G (ad 2) kd (pMins r mi) ++ wR G (ad 3) k2 r2 ++ wK (ad 4)) := hD
                refine x_Vi (wN := fun _ => (wX G ad ho rn ln dr ro lt rf th (pTwS r t1 t2 mi sb k) ++ wR G (ad 1) kd r ++ wR G (ad 2) kd (pMins r mi) ++ wR G (ad 3) k2 r2 ++ wK (ad 4))) ⟨C0, hK, hP, hD, hS, hA⟩ 13 rfl (ci := 7) rfl rfl ((m_standing l G (ad 2) (ad 4) kd (pMins r mi) (Ok.mins hr) (kOk.mins hk))) (cwV 0 hts (lw_V q771 q772 q773 q94 q774) rfl rfl rfl (by decide +kernel) ⟨Nat.le_of_ble_eq_true rfl, Nat.le_of_ble_eq_true rfl⟩) [13, 14, 15, 16, 17, 18, 25, 26, 27, 28, 29, 30] [0, 2, 4, 6, 8, 10, 12, 14, 16, 18, 20, 22, 24, 1, 3, 5, 7, 9, 11, 38, 40, 42, 44, 46, 48, 13, 15, 17, 19, 21, 23] rfl (fun _ => rfl) rfl rfl hl.1 rfl (Nat.le_of_ble_eq_true rfl) dX0_restingPulls_79 ⟨Nat.le_of_ble_eq_true rfl, Nat.le_of_ble_eq_true rfl⟩ (fun r_25 u_25 H locs hw_25 hP hD hS => ?_)
                have hw_25 : (pStN (pMins r mi) : Int32) = r_25 := hw_25.symm
                subst hw_25
                have ea : pTwQ r t1 (decide (k / 2 = 1)) = r := pTwQ_n (fun _ => (by have h9 := c_18; simpa [bI_0] using h9))
                have eb : pTwQ r t2 (decide (k % 2 = 1)) = r := pTwQ_n (fun _ => (by have h9 := c_23; simpa [bI_0] using h9))
                rw [show (pStN (pMins r mi) : Int32) = pTwV r t1 t2 mi k from (by unfold pTwV; rw [ea, eb])]
                refine x_iastn (k := k) hx hb hK.1 hP hD hS 6 0 rfl rfl (by omega) (by decide) (g := upd (pTwS r t1 t2 mi sb k) k (pTwV r t1 t2 mi k)) rfl dX0_restingPulls_82 (fun H locs hP hD hS => ?_)
                have hP : va_P G.1 vwCl (wX G ad ho rn ln dr ro lt rf th (upd (pTwS r t1 t2 mi sb k) k (pTwV r t1 t2 mi k)) ++ wR G (ad 1) kd r ++ wR G (ad 2) kd (pMins r mi) ++ wR G (ad 3) k2 r2 ++ wK (ad 4)) H := hP
                have hD : va_D A (wX G ad ho rn ln dr ro lt rf th (upd (pTwS r t1 t2 mi sb k) k (pTwV r t1 t2 mi k)) ++ wR G (ad 1) kd r ++ wR G (ad 2) kd (pMins r mi) ++ wR G (ad 3) k2 r2 ++ wK (ad 4)) := hD
                refine lv_iinc (v := nI (k + 1)) (lv' := [(4, .int (nI (k + 1))), (5, .ref ((ad 2) 0)), (0, .ref (ad 0 0)), (1, .int (nI t1)), (2, .int (nI t2)), (3, .int (nI mi))]) hx hb dX0_restingPulls_83 hl (k := 1) rfl (x_inc1 _) (by decide) rfl (fun ls hl => ?_)
                refine lv_goto (tgt := 3) hx hb dX0_restingPulls_86 (by decide) ?_
                rw [pTwS_s] at hP hD
                exact ih_3 (k + 1) _ _ (by omega) (by omega) _ _ _ hP hD hS (lv_sub hl [0, 2, 3, 4, 5] rfl)
              · skip
                refine lv_aload hx hb dX0_restingPulls_58 (lv_at hl 0 rfl) ?_
                refine lv_iload_n hx hb dX0_restingPulls_60 rfl (lv_at hl 4 rfl) ?_
                refine lv_bipush (v := 9) hx hb dX0_restingPulls_61 (by decide) ?_
                refine x_Vi (wN := fun _ => (wX G ad ho rn ln dr ro lt rf th (pTwS r t1 t2 mi sb k) ++ wR G (ad 1) kd r ++ wR G (ad 2) kd (pPull r t2 9) ++ wR G (ad 3) k2 r2 ++ wK (ad 4))) ⟨C0, hK, hP, hD, hS, hA⟩ 13 rfl (ci := 7) rfl rfl ((m_pull l G (ad 2) (ad 4) kd r hr hk t2 9 ht2 hp)) (cwV 2 hts (lw_V q745 q683 q684 q94 q685) rfl rfl rfl (by decide +kernel) ⟨Nat.le_of_ble_eq_true rfl, Nat.le_of_ble_eq_true rfl⟩) [13, 14, 15, 16, 17, 18, 25, 26, 27, 28, 29, 30] [0, 2, 4, 6, 8, 10, 12, 14, 16, 18, 20, 22, 24, 1, 3, 5, 7, 9, 11, 38, 40, 42, 44, 46, 48, 13, 15, 17, 19, 21, 23] rfl (fun _ => rfl) rfl rfl hl.1 rfl (Nat.le_of_ble_eq_true rfl) dX0_restingPulls_63 ⟨Nat.le_of_ble_eq_true rfl, Nat.le_of_ble_eq_true rfl⟩ (fun r_26 u_26 H locs hw_26 hP hD hS => ?_)
                have hw_26 : (pPullN r t2 9 : Int32) = r_26 := hw_26.symm
                subst hw_26
                have hP : va_P G.1 vwCl (wX G ad ho rn ln dr ro lt rf th (pTwS r t1 t2 mi sb k) ++ wR G (ad 1) kd r ++ wR G (ad 2) kd (pPull r t2 9) ++ wR G (ad 3) k2 r2 ++ wK (ad 4)) H := hP
                have hD : va_D A (wX G ad ho rn ln dr ro lt rf th (pTwS r t1 t2 mi sb k) ++ wR G (ad 1) kd r ++ wR G (ad 2) kd (pPull r t2 9) ++ wR G (ad 3) k2 r2 ++ wK (ad 4)) := hD
                refine lv_pop hx hb dX0_restingPulls_66 rfl ?_
                refine lv_aload_n hx hb dX0_restingPulls_67 rfl (lv_at hl 2 rfl) ?_
                refine va_get (D := G.1) (ci := 0) (v := .ref (ad 0 6)) (C := RX0) (T := TX0) (N := 13) hx hb hts in_X0 hown hK.1 hP 0 rfl rfl 11 (by decide) (hts _ q234) (fun _ h9 => h9) rfl dX0_restingPulls_68 ?_
                refine lv_iload hx hb dX0_restingPulls_71 (lv_at hl 1 rfl) ?_
                refine lv_aload hx hb dX0_restingPulls_73 (lv_at hl 0 rfl) ?_
                refine lv_iload_n hx hb dX0_restingPulls_75 rfl (lv_at hl 5 rfl) ?_
                refine x_Vr (wN := fun _ => (wX G ad ho rn ln dr ro lt rf th (pTwS r t1 t2 mi sb k) ++ wR G (ad 1) kd r ++ wR G (ad 2) kd (pMins (pPull r t2 9) mi) ++ wR G (ad 3) k2 r2 ++ wK (ad 4))) ⟨C0, hK, hP, hD, hS, hA⟩ 13 rfl (ci := 7) rfl rfl ((m_minutesOn l G (ad 2) (ad 4) kd (pPull r t2 9) (Ok.pull hr) (kOk.pull hk) mi hmi)) (cwV 1 hts (lw_V q770 q623 q624 q94 q625) rfl rfl rfl (by decide +kernel) ⟨Nat.le_of_ble_eq_true rfl, Nat.le_of_ble_eq_true rfl⟩) [13, 14, 15, 16, 17, 18, 25, 26, 27, 28, 29, 30] [0, 2, 4, 6, 8, 10, 12, 14, 16, 18, 20, 22, 24, 1, 3, 5, 7, 9, 11, 38, 40, 42, 44, 46, 48, 13, 15, 17, 19, 21, 23] rfl (fun _ => rfl) rfl rfl hl.1 rfl (Nat.le_of_ble_eq_true rfl) dX0_restingPulls_76 ⟨Nat.le_of_ble_eq_true rfl, Nat.le_of_ble_eq_true rfl⟩ (fun u_27 H locs hw_27 hP hD hS => ?_)
                have hP : va_P G.1 vwCl (wX G ad ho rn ln dr ro lt rf th (pTwS r t1 t2 mi sb k) ++ wR G (ad 1) kd r ++ wR G (ad 2) kd (pMins (pPull r t2 9) mi) ++ wR G (ad 3) k2 r2 ++ wK (ad 4)) H := hP
                have hD : va_D A (wX G ad ho rn ln dr ro lt rf th (pTwS r t1 t2 mi sb k) ++ wR G (ad 1) kd r ++ wR G (ad 2) kd (pMins (pPull r t2 9) mi) ++ wR G (ad 3) k2 r2 ++ wK (ad 4)) := hD
                refine x_Vi (wN := fun _ => (wX G ad ho rn ln dr ro lt rf th (pTwS r t1 t2 mi sb k) ++ wR G (ad 1) kd r ++ wR G (ad 2) kd (pMins (pPull r t2 9) mi) ++ wR G (ad 3) k2 r2 ++ wK (ad 4))) ⟨C0, hK, hP, hD, hS, hA⟩ 13 rfl (ci := 7) rfl rfl ((m_standing l G (ad 2) (ad 4) kd (pMins (pPull r t2 9) mi) (Ok.mins (Ok.pull hr)) (kOk.mins (kOk.pull hk)))) (cwV 0 hts (lw_V q771 q772 q773 q94 q774) rfl rfl rfl (by decide +kernel) ⟨Nat.le_of_ble_eq_true rfl, Nat.le_of_ble_eq_true rfl⟩) [13, 14, 15, 16, 17, 18, 25, 26, 27, 28, 29, 30] [0, 2, 4, 6, 8, 10, 12, 14, 16, 18, 20, 22, 24, 1, 3, 5, 7, 9, 11, 38, 40, 42, 44, 46, 48, 13, 15, 17, 19, 21, 23] rfl (fun _ => rfl) rfl rfl hl.1 rfl (Nat.le_of_ble_eq_true rfl) dX0_restingPulls_79 ⟨Nat.le_of_ble_eq_true rfl, Nat.le_of_ble_eq_true rfl⟩ (fun r_28 u_28 H locs hw_28 hP hD hS => ?_)
                have hw_28 : (pStN (pMins (pPull r t2 9) mi) : Int32) = r_28 := hw_28.symm
                subst hw_28
                have ea : pTwQ r t1 (decide (k / 2 = 1)) = r := pTwQ_n (fun _ => (by have h9 := c_18; simpa [bI_0] using h9))
                have eb : pTwQ r t2 (decide (k % 2 = 1)) = pPull r t2 9 := pTwQ_y (decide_eq_true (by omega)) (by have h9 := c_23; simpa [bI_0] using h9)
                rw [show (pStN (pMins (pPull r t2 9) mi) : Int32) = pTwV r t1 t2 mi k from (by unfold pTwV; rw [ea, eb])]
                refine x_iastn (k := k) hx hb hK.1 hP hD hS 6 0 rfl rfl (by omega) (by decide) (g := upd (pTwS r t1 t2 mi sb k) k (pTwV r t1 t2 mi k)) rfl dX0_restingPulls_82 (fun H locs hP hD hS => ?_)
                have hP : va_P G.1 vwCl (wX G ad ho rn ln dr ro lt rf th (upd (pTwS r t1 t2 mi sb k) k (pTwV r t1 t2 mi k)) ++ wR G (ad 1) kd r ++ wR G (ad 2) kd (pMins (pPull r t2 9) mi) ++ wR G (ad 3) k2 r2 ++ wK (ad 4)) H := hP
                have hD : va_D A (wX G ad ho rn ln dr ro lt rf th (upd (pTwS r t1 t2 mi sb k) k (pTwV r t1 t2 mi k)) ++ wR G (ad 1) kd r ++ wR G (ad 2) kd (pMins (pPull r t2 9) mi) ++ wR G (ad 3) k2 r2 ++ wK (ad 4)) := hD
                refine lv_iinc (v := nI (k + 1)) (lv' := [(4, .int (nI (k + 1))), (5, .ref ((ad 2) 0)), (0, .ref (ad 0 0)), (1, .int (nI t1)), (2, .int (nI t2)), (3, .int (nI mi))]) hx hb dX0_restingPulls_83 hl (k := 1) rfl (x_inc1 _) (by decide) rfl (fun ls hl => ?_)
                refine lv_goto (tgt := 3) hx hb dX0_restingPulls_86 (by decide) ?_
                rw [pTwS_s] at hP hD
                exact ih_3 (k + 1) _ _ (by omega) (by omega) _ _ _ hP hD hS (lv_sub hl [0, 2, 3, 4, 5] rfl)
          · skip
            refine lv_aload hx hb dX0_restingPulls_32 (lv_at hl 0 rfl) ?_
            refine lv_iload_n hx hb dX0_restingPulls_34 rfl (lv_at hl 3 rfl) ?_
            refine lv_bipush (v := 9) hx hb dX0_restingPulls_35 (by decide) ?_
            refine x_Vi (wN := fun _ => (wX G ad ho rn ln dr ro lt rf th (pTwS r t1 t2 mi sb k) ++ wR G (ad 1) kd r ++ wR G (ad 2) kd (pPull r t1 9) ++ wR G (ad 3) k2 r2 ++ wK (ad 4))) ⟨C0, hK, hP, hD, hS, hA⟩ 13 rfl (ci := 7) rfl rfl ((m_pull l G (ad 2) (ad 4) kd r hr hk t1 9 ht1 hp)) (cwV 2 hts (lw_V q745 q683 q684 q94 q685) rfl rfl rfl (by decide +kernel) ⟨Nat.le_of_ble_eq_true rfl, Nat.le_of_ble_eq_true rfl⟩) [13, 14, 15, 16, 17, 18, 25, 26, 27, 28, 29, 30] [0, 2, 4, 6, 8, 10, 12, 14, 16, 18, 20, 22, 24, 1, 3, 5, 7, 9, 11, 38, 40, 42, 44, 46, 48, 13, 15, 17, 19, 21, 23] rfl (fun _ => rfl) rfl rfl hl.1 rfl (Nat.le_of_ble_eq_true rfl) dX0_restingPulls_37 ⟨Nat.le_of_ble_eq_true rfl, Nat.le_of_ble_eq_true rfl⟩ (fun r_29 u_29 H locs hw_29 hP hD hS => ?_)
            have hw_29 : (pPullN r t1 9 : Int32) = r_29 := hw_29.symm
            subst hw_29
            have hP : va_P G.1 vwCl (wX G ad ho rn ln dr ro lt rf th (pTwS r t1 t2 mi sb k) ++ wR G (ad 1) kd r ++ wR G (ad 2) kd (pPull r t1 9) ++ wR G (ad 3) k2 r2 ++ wK (ad 4)) H := hP
            have hD : va_D A (wX G ad ho rn ln dr ro lt rf th (pTwS r t1 t2 mi sb k) ++ wR G (ad 1) kd r ++ wR G (ad 2) kd (pPull r t1 9) ++ wR G (ad 3) k2 r2 ++ wK (ad 4)) := hD
            refine lv_pop hx hb dX0_restingPulls_40 rfl ?_
            refine lv_iload hx hb dX0_restingPulls_41 (lv_at hl 1 rfl) ?_
            refine lv_iconst (v := 2) hx hb dX0_restingPulls_43 (by decide) ?_
            refine x_irem hx hb dX0_restingPulls_44 (by decide) (v := nI (k % 2)) (pk_rem (d := 2) (by omega) (by omega) (by omega)) ?_
            refine lv_iconst (v := 1) hx hb dX0_restingPulls_45 (by decide) ?_
            refine lv_icmp_ne (tgt := 67) hx hb dX0_restingPulls_46 (by decide) (fun c_30 => ?_) (fun c_30 => ?_)
            · skip
              have g_30 := mt (nI_eq (by omega) (by omega)).mpr (show ¬ (nI (k % 2) = nI 1) from c_30)
              refine lv_aload_n hx hb dX0_restingPulls_67 rfl (lv_at hl 2 rfl) ?_
              refine va_get (D := G.1) (ci := 0) (v := .ref (ad 0 6)) (C := RX0) (T := TX0) (N := 13) hx hb hts in_X0 hown hK.1 hP 0 rfl rfl 11 (by decide) (hts _ q234) (fun _ h9 => h9) rfl dX0_restingPulls_68 ?_
              refine lv_iload hx hb dX0_restingPulls_71 (lv_at hl 1 rfl) ?_
              refine lv_aload hx hb dX0_restingPulls_73 (lv_at hl 0 rfl) ?_
              refine lv_iload_n hx hb dX0_restingPulls_75 rfl (lv_at hl 5 rfl) ?_
              refine x_Vr (wN := fun _ => (wX G ad ho rn ln dr ro lt rf th (pTwS r t1 t2 mi sb k) ++ wR G (ad 1) kd r ++ wR G (ad 2) kd (pMins (pPull r t1 9) mi) ++ wR G (ad 3) k2 r2 ++ wK (ad 4))) ⟨C0, hK, hP, hD, hS, hA⟩ 13 rfl (ci := 7) rfl rfl ((m_minutesOn l G (ad 2) (ad 4) kd (pPull r t1 9) (Ok.pull hr) (kOk.pull hk) mi hmi)) (cwV 1 hts (lw_V q770 q623 q624 q94 q625) rfl rfl rfl (by decide +kernel) ⟨Nat.le_of_ble_eq_true rfl, Nat.le_of_ble_eq_true rfl⟩) [13, 14, 15, 16, 17, 18, 25, 26, 27, 28, 29, 30] [0, 2, 4, 6, 8, 10, 12, 14, 16, 18, 20, 22, 24, 1, 3, 5, 7, 9, 11, 38, 40, 42, 44, 46, 48, 13, 15, 17, 19, 21, 23] rfl (fun _ => rfl) rfl rfl hl.1 rfl (Nat.le_of_ble_eq_true rfl) dX0_restingPulls_76 ⟨Nat.le_of_ble_eq_true rfl, Nat.le_of_ble_eq_true rfl⟩ (fun u_31 H locs hw_31 hP hD hS => ?_)
              have hP : va_P G.1 vwCl (wX G ad ho rn ln dr ro lt rf th (pTwS r t1 t2 mi sb k) ++ wR G (ad 1) kd r ++ wR G (ad 2) kd (pMins (pPull r t1 9) mi) ++ wR G (ad 3) k2 r2 ++ wK (ad 4)) H := hP
              have hD : va_D A (wX G ad ho rn ln dr ro lt rf th (pTwS r t1 t2 mi sb k) ++ wR G (ad 1) kd r ++ wR G (ad 2) kd (pMins (pPull r t1 9) mi) ++ wR G (ad 3) k2 r2 ++ wK (ad 4)) := hD
              refine x_Vi (wN := fun _ => (wX G ad ho rn ln dr ro lt rf th (pTwS r t1 t2 mi sb k) ++ wR G (ad 1) kd r ++ wR G (ad 2) kd (pMins (pPull r t1 9) mi) ++ wR G (ad 3) k2 r2 ++ wK (ad 4))) ⟨C0, hK, hP, hD, hS, hA⟩ 13 rfl (ci := 7) rfl rfl ((m_standing l G (ad 2) (ad 4) kd (pMins (pPull r t1 9) mi) (Ok.mins (Ok.pull hr)) (kOk.mins (kOk.pull hk)))) (cwV 0 hts (lw_V q771 q772 q773 q94 q774) rfl rfl rfl (by decide +kernel) ⟨Nat.le_of_ble_eq_true rfl, Nat.le_of_ble_eq_true rfl⟩) [13, 14, 15, 16, 17, 18, 25, 26, 27, 28, 29, 30] [0, 2, 4, 6, 8, 10, 12, 14, 16, 18, 20, 22, 24, 1, 3, 5, 7, 9, 11, 38, 40, 42, 44, 46, 48, 13, 15, 17, 19, 21, 23] rfl (fun _ => rfl) rfl rfl hl.1 rfl (Nat.le_of_ble_eq_true rfl) dX0_restingPulls_79 ⟨Nat.le_of_ble_eq_true rfl, Nat.le_of_ble_eq_true rfl⟩ (fun r_32 u_32 H locs hw_32 hP hD hS => ?_)
              have hw_32 : (pStN (pMins (pPull r t1 9) mi) : Int32) = r_32 := hw_32.symm
              subst hw_32
              have ea : pTwQ r t1 (decide (k / 2 = 1)) = pPull r t1 9 := pTwQ_y (decide_eq_true (by omega)) (by have h9 := c_18; simpa [bI_0] using h9)
              have eb : pTwQ (pPull r t1 9) t2 (decide (k % 2 = 1)) = pPull r t1 9 := pTwQ_n (fun z => absurd (of_decide_eq_true z) (by omega))
              rw [show (pStN (pMins (pPull r t1 9) mi) : Int32) = pTwV r t1 t2 mi k from (by unfold pTwV; rw [ea, eb])]
              refine x_iastn (k := k) hx hb hK.1 hP hD hS 6 0 rfl rfl (by omega) (by decide) (g := upd (pTwS r t1 t2 mi sb k) k (pTwV r t1 t2 mi k)) rfl dX0_restingPulls_82 (fun H locs hP hD hS => ?_)
              have hP : va_P G.1 vwCl (wX G ad ho rn ln dr ro lt rf th (upd (pTwS r t1 t2 mi sb k) k (pTwV r t1 t2 mi k)) ++ wR G (ad 1) kd r ++ wR G (ad 2) kd (pMins (pPull r t1 9) mi) ++ wR G (ad 3) k2 r2 ++ wK (ad 4)) H := hP
              have hD : va_D A (wX G ad ho rn ln dr ro lt rf th (upd (pTwS r t1 t2 mi sb k) k (pTwV r t1 t2 mi k)) ++ wR G (ad 1) kd r ++ wR G (ad 2) kd (pMins (pPull r t1 9) mi) ++ wR G (ad 3) k2 r2 ++ wK (ad 4)) := hD
              refine lv_iinc (v := nI (k + 1)) (lv' := [(4, .int (nI (k + 1))), (5, .ref ((ad 2) 0)), (0, .ref (ad 0 0)), (1, .int (nI t1)), (2, .int (nI t2)), (3, .int (nI mi))]) hx hb dX0_restingPulls_83 hl (k := 1) rfl (x_inc1 _) (by decide) rfl (fun ls hl => ?_)
              refine lv_goto (tgt := 3) hx hb dX0_restingPulls_86 (by decide) ?_
              rw [pTwS_s] at hP hD
              exact ih_3 (k + 1) _ _ (by omega) (by omega) _ _ _ hP hD hS (lv_sub hl [0, 2, 3, 4, 5] rfl)
            · skip
              have g_30 := (nI_eq (by omega) (by omega)).mp (show nI (k % 2) = nI 1 from c_30)
              refine lv_aload hx hb dX0_restingPulls_49 (lv_at hl 0 rfl) ?_
              refine lv_iload_n hx hb dX0_restingPulls_51 rfl (lv_at hl 4 rfl) ?_
              refine x_Vi (wN := fun _ => (wX G ad ho rn ln dr ro lt rf th (pTwS r t1 t2 mi sb k) ++ wR G (ad 1) kd r ++ wR G (ad 2) kd (pPull r t1 9) ++ wR G (ad 3) k2 r2 ++ wK (ad 4))) ⟨C0, hK, hP, hD, hS, hA⟩ 13 rfl (ci := 7) rfl rfl ((m_isStanding l G (ad 2) (ad 4) kd (pPull r t1 9) (Ok.pull hr) (kOk.pull hk) t2 (by omega))) (cwV 1 hts (lw_V q744 q558 q559 q94 q560) rfl rfl rfl (by decide +kernel) ⟨Nat.le_of_ble_eq_true rfl, Nat.le_of_ble_eq_true rfl⟩) [13, 14, 15, 16, 17, 18, 25, 26, 27, 28, 29, 30] [0, 2, 4, 6, 8, 10, 12, 14, 16, 18, 20, 22, 24, 1, 3, 5, 7, 9, 11, 38, 40, 42, 44, 46, 48, 13, 15, 17, 19, 21, 23] rfl (fun _ => rfl) rfl rfl hl.1 rfl (Nat.le_of_ble_eq_true rfl) dX0_restingPulls_52 ⟨Nat.le_of_ble_eq_true rfl, Nat.le_of_ble_eq_true rfl⟩ (fun r_33 u_33 H locs hw_33 hP hD hS => ?_)
              have hw_33 : (bI (pSt (pPull r t1 9) t2) : Int32) = r_33 := hw_33.symm
              subst hw_33
              refine lv_if_eq (tgt := 67) hx hb dX0_restingPulls_55 (by decide) (fun c_34 => ?_) (fun c_34 => ?_)
              · skip
                refine lv_aload_n hx hb dX0_restingPulls_67 rfl (lv_at hl 2 rfl) ?_
                refine va_get (D := G.1) (ci := 0) (v := .ref (ad 0 6)) (C := RX0) (T := TX0) (N := 13) hx hb hts in_X0 hown hK.1 hP 0 rfl rfl 11 (by decide) (hts _ q234) (fun _ h9 => h9) rfl dX0_restingPulls_68 ?_
                refine lv_iload hx hb dX0_restingPulls_71 (lv_at hl 1 rfl) ?_
                refine lv_aload hx hb dX0_restingPulls_73 (lv_at hl 0 rfl) ?_
                refine lv_iload_n hx hb dX0_restingPulls_75 rfl (lv_at hl 5 rfl) ?_
                refine x_Vr (wN := fun _ => (wX G ad ho rn ln dr ro lt rf th (pTwS r t1 t2 mi sb k) ++ wR G (ad 1) kd r ++ wR G (ad 2) kd (pMins (pPull r t1 9) mi) ++ wR G (ad 3) k2 r2 ++ wK (ad 4))) ⟨C0, hK, hP, hD, hS, hA⟩ 13 rfl (ci := 7) rfl rfl ((m_minutesOn l G (ad 2) (ad 4) kd (pPull r t1 9) (Ok.pull hr) (kOk.pull hk) mi hmi)) (cwV 1 hts (lw_V q770 q623 q624 q94 q625) rfl rfl rfl (by decide +kernel) ⟨Nat.le_of_ble_eq_true rfl, Nat.le_of_ble_eq_true rfl⟩) [13, 14, 15, 16, 17, 18, 25, 26, 27, 28, 29, 30] [0, 2, 4, 6, 8, 10, 12, 14, 16, 18, 20, 22, 24, 1, 3, 5, 7, 9, 11, 38, 40, 42, 44, 46, 48, 13, 15, 17, 19, 21, 23] rfl (fun _ => rfl) rfl rfl hl.1 rfl (Nat.le_of_ble_eq_true rfl) dX0_restingPulls_76 ⟨Nat.le_of_ble_eq_true rfl, Nat.le_of_ble_eq_true rfl⟩ (fun u_35 H locs hw_35 hP hD hS => ?_)
                have hP : va_P G.1 vwCl (wX G ad ho rn ln dr ro lt rf th (pTwS r t1 t2 mi sb k) ++ wR G (ad 1) kd r ++ wR G (ad 2) kd (pMins (pPull r t1 9) mi) ++ wR G (ad 3) k2 r2 ++ wK (ad 4)) H := hP
                have hD : va_D A (wX G ad ho rn ln dr ro lt rf th (pTwS r t1 t2 mi sb k) ++ wR G (ad 1) kd r ++ wR G (ad 2) kd (pMins (pPull r t1 9) mi) ++ wR G (ad 3) k2 r2 ++ wK (ad 4)) := hD
                refine x_Vi (wN := fun _ => (wX G ad ho rn ln dr ro lt rf th (pTwS r t1 t2 mi sb k) ++ wR G (ad 1) kd r ++ wR G (ad 2) kd (pMins (pPull r t1 9) mi) ++ wR G (ad 3) k2 r2 ++ wK (ad 4))) ⟨C0, hK, hP, hD, hS, hA⟩ 13 rfl (ci := 7) rfl rfl ((m_standing l G (ad 2) (ad 4) kd (pMins (pPull r t1 9) mi) (Ok.mins (Ok.pull hr)) (kOk.mins (kOk.pull hk)))) (cwV 0 hts (lw_V q771 q772 q773 q94 q774) rfl rfl rfl (by decide +kernel) ⟨Nat.le_of_ble_eq_true rfl, Nat.le_of_ble_eq_true rfl⟩) [13, 14, 15, 16, 17, 18, 25, 26, 27, 28, 29, 30] [0, 2, 4, 6, 8, 10, 12, 14, 16, 18, 20, 22, 24, 1, 3, 5, 7, 9, 11, 38, 40, 42, 44, 46, 48, 13, 15, 17, 19, 21, 23] rfl (fun _ => rfl) rfl rfl hl.1 rfl (Nat.le_of_ble_eq_true rfl) dX0_restingPulls_79 ⟨Nat.le_of_ble_eq_true rfl, Nat.le_of_ble_eq_true rfl⟩ (fun r_36 u_36 H locs hw_36 hP hD hS => ?_)
                have hw_36 : (pStN (pMins (pPull r t1 9) mi) : Int32) = r_36 := hw_36.symm
                subst hw_36
                have ea : pTwQ r t1 (decide (k / 2 = 1)) = pPull r t1 9 := pTwQ_y (decide_eq_true (by omega)) (by have h9 := c_18; simpa [bI_0] using h9)
                have eb : pTwQ (pPull r t1 9) t2 (decide (k % 2 = 1)) = pPull r t1 9 := pTwQ_n (fun _ => (by have h9 := c_34; simpa [bI_0] using h9))
                rw [show (pStN (pMins (pPull r t1 9) mi) : Int32) = pTwV r t1 t2 mi k from (by unfold pTwV; rw [ea, eb])]
                refine x_iastn (k := k) hx hb hK.1 hP hD hS 6 0 rfl rfl (by omega) (by decide) (g := upd (pTwS r t1 t2 mi sb k) k (pTwV r t1 t2 mi k)) rfl dX0_restingPulls_82 (fun H locs hP hD hS => ?_)
                have hP : va_P G.1 vwCl (wX G ad ho rn ln dr ro lt rf th (upd (pTwS r t1 t2 mi sb k) k (pTwV r t1 t2 mi k)) ++ wR G (ad 1) kd r ++ wR G (ad 2) kd (pMins (pPull r t1 9) mi) ++ wR G (ad 3) k2 r2 ++ wK (ad 4)) H := hP
                have hD : va_D A (wX G ad ho rn ln dr ro lt rf th (upd (pTwS r t1 t2 mi sb k) k (pTwV r t1 t2 mi k)) ++ wR G (ad 1) kd r ++ wR G (ad 2) kd (pMins (pPull r t1 9) mi) ++ wR G (ad 3) k2 r2 ++ wK (ad 4)) := hD
                refine lv_iinc (v := nI (k + 1)) (lv' := [(4, .int (nI (k + 1))), (5, .ref ((ad 2) 0)), (0, .ref (ad 0 0)), (1, .int (nI t1)), (2, .int (nI t2)), (3, .int (nI mi))]) hx hb dX0_restingPulls_83 hl (k := 1) rfl (x_inc1 _) (by decide) rfl (fun ls hl => ?_)
                refine lv_goto (tgt := 3) hx hb dX0_restingPulls_86 (by decide) ?_
                rw [pTwS_s] at hP hD
                exact ih_3 (k + 1) _ _ (by omega) (by omega) _ _ _ hP hD hS (lv_sub hl [0, 2, 3, 4, 5] rfl)
              · skip
                refine lv_aload hx hb dX0_restingPulls_58 (lv_at hl 0 rfl) ?_
                refine lv_iload_n hx hb dX0_restingPulls_60 rfl (lv_at hl 4 rfl) ?_
                refine lv_bipush (v := 9) hx hb dX0_restingPulls_61 (by decide) ?_
                refine x_Vi (wN := fun _ => (wX G ad ho rn ln dr ro lt rf th (pTwS r t1 t2 mi sb k) ++ wR G (ad 1) kd r ++ wR G (ad 2) kd (pPull (pPull r t1 9) t2 9) ++ wR G (ad 3) k2 r2 ++ wK (ad 4))) ⟨C0, hK, hP, hD, hS, hA⟩ 13 rfl (ci := 7) rfl rfl ((m_pull l G (ad 2) (ad 4) kd (pPull r t1 9) (Ok.pull hr) (kOk.pull hk) t2 9 ht2 hp)) (cwV 2 hts (lw_V q745 q683 q684 q94 q685) rfl rfl rfl (by decide +kernel) ⟨Nat.le_of_ble_eq_true rfl, Nat.le_of_ble_eq_true rfl⟩) [13, 14, 15, 16, 17, 18, 25, 26, 27, 28, 29, 30] [0, 2, 4, 6, 8, 10, 12, 14, 16, 18, 20, 22, 24, 1, 3, 5, 7, 9, 11, 38, 40, 42, 44, 46, 48, 13, 15, 17, 19, 21, 23] rfl (fun _ => rfl) rfl rfl hl.1 rfl (Nat.le_of_ble_eq_true rfl) dX0_restingPulls_63 ⟨Nat.le_of_ble_eq_true rfl, Nat.le_of_ble_eq_true rfl⟩ (fun r_37 u_37 H locs hw_37 hP hD hS => ?_)
                have hw_37 : (pPullN (pPull r t1 9) t2 9 : Int32) = r_37 := hw_37.symm
                subst hw_37
                have hP : va_P G.1 vwCl (wX G ad ho rn ln dr ro lt rf th (pTwS r t1 t2 mi sb k) ++ wR G (ad 1) kd r ++ wR G (ad 2) kd (pPull (pPull r t1 9) t2 9) ++ wR G (ad 3) k2 r2 ++ wK (ad 4)) H := hP
                have hD : va_D A (wX G ad ho rn ln dr ro lt rf th (pTwS r t1 t2 mi sb k) ++ wR G (ad 1) kd r ++ wR G (ad 2) kd (pPull (pPull r t1 9) t2 9) ++ wR G (ad 3) k2 r2 ++ wK (ad 4)) := hD
                refine lv_pop hx hb dX0_restingPulls_66 rfl ?_
                refine lv_aload_n hx hb dX0_restingPulls_67 rfl (lv_at hl 2 rfl) ?_
                refine va_get (D := G.1) (ci := 0) (v := .ref (ad 0 6)) (C := RX0) (T := TX0) (N := 13) hx hb hts in_X0 hown hK.1 hP 0 rfl rfl 11 (by decide) (hts _ q234) (fun _ h9 => h9) rfl dX0_restingPulls_68 ?_
                refine lv_iload hx hb dX0_restingPulls_71 (lv_at hl 1 rfl) ?_
                refine lv_aload hx hb dX0_restingPulls_73 (lv_at hl 0 rfl) ?_
                refine lv_iload_n hx hb dX0_restingPulls_75 rfl (lv_at hl 5 rfl) ?_
                refine x_Vr (wN := fun _ => (wX G ad ho rn ln dr ro lt rf th (pTwS r t1 t2 mi sb k) ++ wR G (ad 1) kd r ++ wR G (ad 2) kd (pMins (pPull (pPull r t1 9) t2 9) mi) ++ wR G (ad 3) k2 r2 ++ wK (ad 4))) ⟨C0, hK, hP, hD, hS, hA⟩ 13 rfl (ci := 7) rfl rfl ((m_minutesOn l G (ad 2) (ad 4) kd (pPull (pPull r t1 9) t2 9) (Ok.pull (Ok.pull hr)) (kOk.pull (kOk.pull hk)) mi hmi)) (cwV 1 hts (lw_V q770 q623 q624 q94 q625) rfl rfl rfl (by decide +kernel) ⟨Nat.le_of_ble_eq_true rfl, Nat.le_of_ble_eq_true rfl⟩) [13, 14, 15, 16, 17, 18, 25, 26, 27, 28, 29, 30] [0, 2, 4, 6, 8, 10, 12, 14, 16, 18, 20, 22, 24, 1, 3, 5, 7, 9, 11, 38, 40, 42, 44, 46, 48, 13, 15, 17, 19, 21, 23] rfl (fun _ => rfl) rfl rfl hl.1 rfl (Nat.le_of_ble_eq_true rfl) dX0_restingPulls_76 ⟨Nat.le_of_ble_eq_true rfl, Nat.le_of_ble_eq_true rfl⟩ (fun u_38 H locs hw_38 hP hD hS => ?_)
                have hP : va_P G.1 vwCl (wX G ad ho rn ln dr ro lt rf th (pTwS r t1 t2 mi sb k) ++ wR G (ad 1) kd r ++ wR G (ad 2) kd (pMins (pPull (pPull r t1 9) t2 9) mi) ++ wR G (ad 3) k2 r2 ++ wK (ad 4)) H := hP
                have hD : va_D A (wX G ad ho rn ln dr ro lt rf th (pTwS r t1 t2 mi sb k) ++ wR G (ad 1) kd r ++ wR G (ad 2) kd (pMins (pPull (pPull r t1 9) t2 9) mi) ++ wR G (ad 3) k2 r2 ++ wK (ad 4)) := hD
                refine x_Vi (wN := fun _ => (wX G ad ho rn ln dr ro lt rf th (pTwS r t1 t2 mi sb k) ++ wR G (ad 1) kd r ++ wR G (ad 2) kd (pMins (pPull (pPull r t1 9) t2 9) mi) ++ wR G (ad 3) k2 r2 ++ wK (ad 4))) ⟨C0, hK, hP, hD, hS, hA⟩ 13 rfl (ci := 7) rfl rfl ((m_standing l G (ad 2) (ad 4) kd (pMins (pPull (pPull r t1 9) t2 9) mi) (Ok.mins (Ok.pull (Ok.pull hr))) (kOk.mins (kOk.pull (kOk.pull hk))))) (cwV 0 hts (lw_V q771 q772 q773 q94 q774) rfl rfl rfl (by decide +kernel) ⟨Nat.le_of_ble_eq_true rfl, Nat.le_of_ble_eq_true rfl⟩) [13, 14, 15, 16, 17, 18, 25, 26, 27, 28, 29, 30] [0, 2, 4, 6, 8, 10, 12, 14, 16, 18, 20, 22, 24, 1, 3, 5, 7, 9, 11, 38, 40, 42, 44, 46, 48, 13, 15, 17, 19, 21, 23] rfl (fun _ => rfl) rfl rfl hl.1 rfl (Nat.le_of_ble_eq_true rfl) dX0_restingPulls_79 ⟨Nat.le_of_ble_eq_true rfl, Nat.le_of_ble_eq_true rfl⟩ (fun r_39 u_39 H locs hw_39 hP hD hS => ?_)
                have hw_39 : (pStN (pMins (pPull (pPull r t1 9) t2 9) mi) : Int32) = r_39 := hw_39.symm
                subst hw_39
                have ea : pTwQ r t1 (decide (k / 2 = 1)) = pPull r t1 9 := pTwQ_y (decide_eq_true (by omega)) (by have h9 := c_18; simpa [bI_0] using h9)
                have eb : pTwQ (pPull r t1 9) t2 (decide (k % 2 = 1)) = pPull (pPull r t1 9) t2 9 := pTwQ_y (decide_eq_true (by omega)) (by have h9 := c_34; simpa [bI_0] using h9)
                rw [show (pStN (pMins (pPull (pPull r t1 9) t2 9) mi) : Int32) = pTwV r t1 t2 mi k from (by unfold pTwV; rw [ea, eb])]
                refine x_iastn (k := k) hx hb hK.1 hP hD hS 6 0 rfl rfl (by omega) (by decide) (g := upd (pTwS r t1 t2 mi sb k) k (pTwV r t1 t2 mi k)) rfl dX0_restingPulls_82 (fun H locs hP hD hS => ?_)
                have hP : va_P G.1 vwCl (wX G ad ho rn ln dr ro lt rf th (upd (pTwS r t1 t2 mi sb k) k (pTwV r t1 t2 mi k)) ++ wR G (ad 1) kd r ++ wR G (ad 2) kd (pMins (pPull (pPull r t1 9) t2 9) mi) ++ wR G (ad 3) k2 r2 ++ wK (ad 4)) H := hP
                have hD : va_D A (wX G ad ho rn ln dr ro lt rf th (upd (pTwS r t1 t2 mi sb k) k (pTwV r t1 t2 mi k)) ++ wR G (ad 1) kd r ++ wR G (ad 2) kd (pMins (pPull (pPull r t1 9) t2 9) mi) ++ wR G (ad 3) k2 r2 ++ wK (ad 4)) := hD
                refine lv_iinc (v := nI (k + 1)) (lv' := [(4, .int (nI (k + 1))), (5, .ref ((ad 2) 0)), (0, .ref (ad 0 0)), (1, .int (nI t1)), (2, .int (nI t2)), (3, .int (nI mi))]) hx hb dX0_restingPulls_83 hl (k := 1) rfl (x_inc1 _) (by decide) rfl (fun ls hl => ?_)
                refine lv_goto (tgt := 3) hx hb dX0_restingPulls_86 (by decide) ?_
                rw [pTwS_s] at hP hD
                exact ih_3 (k + 1) _ _ (by omega) (by omega) _ _ _ hP hD hS (lv_sub hl [0, 2, 3, 4, 5] rfl)
  exact loop_3 5 0 _ _ (by omega) (by omega) _ _ _ (by rw [pTwS_0]; exact hP) (by rw [pTwS_0]; exact hD) hS (lv_sub hl [0, 1, 2, 3, 4] rfl)

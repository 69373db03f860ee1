/-! methods in mind, 2 (printed by tools/mind2.py) -/
set_option maxHeartbeats 4000000 in
set_option maxRecDepth 100000 in
theorem m_keyOf (l : Launch) (G : xG) (ad : Nat → Nat → Nat) (kd k1 k2 : Nat → Option Nat) (r r1 r2 : Rw) (ho rn ln dr : Int32) (ro lt rf th sb : Nat → Int32) (hr : Ok r) (hp : r 5 3 = 0) (hk : kOk (ad 4) kd r) (mi : Nat) (hmi : mi < 2 ^ 30) : xCi l G yX0_keyOf cX0_keyOf 7 (some .int) ({ frames := 6, cells := 0, slots := 0, locals := 133 } : Room) [.ref (ad 0 0), .int (nI mi)] (wX G ad ho rn ln dr ro lt rf th sb ++ wR G (ad 1) kd r ++ wR G (ad 2) k1 r1 ++ wR G (ad 3) k2 r2 ++ wK (ad 4)) (S := ((Nat → Option Nat) × Rw)) (fun v _ => v = (pKy r mi (mny r)).1) (fun u => (wX G ad ho rn ln dr ro lt rf th sb ++ wR G (ad 1) kd r ++ wR G (ad 2) u.1 u.2 ++ wR G (ad 3) k2 r2 ++ wK (ad 4))) := by
  refine x_openi (by decide) (Nat.le_of_ble_eq_true rfl) (fun _ _ _ => rfl) ?_
  intro p e s m args below meth c A Q ls C0 hK hP hD hA hl hret
  obtain ⟨hx, hb, hml, hown, hts⟩ := id C0
  have hS : va_S A s.heap s.heap [] := va_S.rf
  have hP : va_P G.1 vwCl (wX G ad ho rn ln dr ro lt rf th sb ++ wR G (ad 1) kd r ++ wR G (ad 2) k1 r1 ++ wR G (ad 3) k2 r2 ++ wK (ad 4)) s.heap := hP
  have hD : va_D A (wX G ad ho rn ln dr ro lt rf th sb ++ wR G (ad 1) kd r ++ wR G (ad 2) k1 r1 ++ wR G (ad 3) k2 r2 ++ wK (ad 4)) := hD
  have hl : lv_has ls 7 [(0, .ref (ad 0 0)), (1, .int (nI mi))] := hl
  have hr0 := hr.n
  have hN := hr.le
  refine lv_bipush (v := (-9)) hx hb dX0_keyOf_0 (by decide) ?_
  refine lv_istore_n (lv' := [(2, .int (-9)), (0, .ref (ad 0 0)), (1, .int (nI mi))]) hx hb dX0_keyOf_2 rfl hl (by decide) rfl (fun ls hl => ?_)
  refine lv_bipush (v := 11) hx hb dX0_keyOf_3 (by decide) ?_
  refine lv_istore_n (lv' := [(3, .int 11), (2, .int (-9)), (0, .ref (ad 0 0)), (1, .int (nI mi))]) hx hb dX0_keyOf_5 rfl hl (by decide) rfl (fun ls hl => ?_)
  refine lv_iconst (v := 0) hx hb dX0_keyOf_6 (by decide) ?_
  refine lv_istore (lv' := [(4, .int 0), (3, .int 11), (2, .int (-9)), (0, .ref (ad 0 0)), (1, .int (nI mi))]) hx hb dX0_keyOf_7 hl (by decide) rfl (fun ls hl => ?_)
  have loop_9 : ∀ (n : Nat) (i : Nat) (km : Nat → Option Nat) (rm : Rw), (i ≤ mny r) → (mny r < i + n) → ∀ (H : Heap) (locs : List Loc) (ls : Array Slot), va_P G.1 vwCl (wX G ad ho rn ln dr ro lt rf th sb ++ wR G (ad 1) kd r ++ wR G (ad 2) km rm ++ wR G (ad 3) k2 r2 ++ wK (ad 4)) H → va_D A (wX G ad ho rn ln dr ro lt rf th sb ++ wR G (ad 1) kd r ++ wR G (ad 2) km rm ++ wR G (ad 3) k2 r2 ++ wK (ad 4)) → va_S A s.heap H locs → lv_has ls 7 [(4, .int (nI i)), (3, .int ((pKy r mi i).2)), (2, .int ((pKy r mi i).1)), (0, .ref (ad 0 0)), (1, .int (nI mi))] → W p l e ({ frames := 6, cells := 0, slots := 0, locals := 133 } : Room) s m args below meth c H locs 0 0 Q (F0 m 9 ls []) := by
    intro n
    induction n with
    | zero => intro i km rm hi9_0 hi9_1; exact absurd hi9_1 (by omega)
    | succ n ih_9 =>
      intro i km rm hi9_0 hi9_1 H locs ls hP hD hS hl
      refine lv_iload hx hb dX0_keyOf_9 (lv_at hl 0 rfl) ?_
      refine lv_aload_n hx hb dX0_keyOf_11 rfl (lv_at hl 3 rfl) ?_
      refine va_get (D := G.1) (ci := 0) (v := .ref ((ad 1) 0)) (C := RX0) (T := TX0) (N := 13) hx hb hts in_X0 hown hK.1 hP 0 rfl rfl 1 (by decide) (hts _ q222) (fun _ h9 => h9) rfl dX0_keyOf_12 ?_
      refine va_getN (D := G.1) (ci := 7) (v := .int (nI (mny r))) (C := RX8) (T := TX8) (N := 9) hx hb hts in_X8 hown hK.1 hP 7 rfl rfl 0 (by decide) (va_Nw.use rfl (hK.2.F 4 rfl)) (fun _ h9 => h9) (x_some hr0) dX0_keyOf_15 ?_
      refine lv_icmp_ge (tgt := 86) hx hb dX0_keyOf_18 (by decide) (fun c_1 => ?_) (fun c_1 => ?_)
      · skip
        have g_1 := (nI_leI (by omega) (by omega)).mp c_1
        refine lv_iload_n hx hb dX0_keyOf_86 rfl (lv_at hl 2 rfl) ?_
        refine hret _ _ _ _ _ _ ((pKy r mi i).1) (km, rm) dX0_keyOf_87 ?_ hP hD hS (Nat.le_of_ble_eq_true rfl) (Nat.le_of_ble_eq_true rfl)
        rw [show i = mny r by omega]
      · skip
        have g_1 := mt (nI_leI (by omega) (by omega)).mpr c_1
        refine lv_aload_n hx hb dX0_keyOf_21 rfl (lv_at hl 3 rfl) ?_
        refine va_get (D := G.1) (ci := 0) (v := .ref ((ad 1) 0)) (C := RX0) (T := TX0) (N := 13) hx hb hts in_X0 hown hK.1 hP 0 rfl rfl 1 (by decide) (hts _ q222) (fun _ h9 => h9) rfl dX0_keyOf_22 ?_
        refine lv_iload hx hb dX0_keyOf_25 (lv_at hl 0 rfl) ?_
        refine x_Vi (wN := fun _ => (wX G ad ho rn ln dr ro lt rf th sb ++ wR G (ad 1) kd r ++ wR G (ad 2) km rm ++ wR G (ad 3) k2 r2 ++ wK (ad 4))) ⟨C0, hK, hP, hD, hS, hA⟩ 7 rfl (ci := 7) rfl rfl ((m_isStanding l G (ad 1) (ad 4) kd r hr hk i (by omega))) (cwV 1 hts (lw_V q744 q558 q559 q94 q560) rfl rfl rfl (by decide +kernel) ⟨Nat.le_of_ble_eq_true rfl, Nat.le_of_ble_eq_true rfl⟩) [7, 8, 9, 10, 11, 12, 25, 26, 27, 28, 29, 30] [0, 2, 4, 6, 8, 10, 12, 1, 3, 5, 7, 9, 11, 26, 28, 30, 32, 34, 36, 38, 40, 42, 44, 46, 48, 13, 15, 17, 19, 21, 23] rfl (fun _ => rfl) rfl rfl hl.1 rfl (Nat.le_of_ble_eq_true rfl) dX0_keyOf_27 ⟨Nat.le_of_ble_eq_true rfl, Nat.le_of_ble_eq_true rfl⟩ (fun r_2 u_2 H locs hw_2 hP hD hS => ?_)
        have hw_2 : (bI (pSt r i) : Int32) = r_2 := hw_2.symm
        subst hw_2
        refine lv_if_eq (tgt := 80) hx hb dX0_keyOf_30 (by decide) (fun c_3 => ?_) (fun c_3 => ?_)
        · skip
          refine lv_iinc (v := nI (i + 1)) (lv' := [(4, .int (nI (i + 1))), (3, .int ((pKy r mi i).2)), (2, .int ((pKy r mi i).1)), (0, .ref (ad 0 0)), (1, .int (nI mi))]) hx hb dX0_keyOf_80 hl (k := 0) rfl (x_inc1 _) (by decide) rfl (fun ls hl => ?_)
          refine lv_goto (tgt := 9) hx hb dX0_keyOf_83 (by decide) ?_
          rw [← pKy_n (by have h9 := c_3; simpa [bI_0] using h9)] at hl
          exact ih_9 (i + 1) _ _ (by omega) (by omega) _ _ _ hP hD hS (lv_sub hl [0, 1, 2, 3, 4] rfl)
        · skip
          have hst : pSt r i = true := (by have h9 := c_3; simpa [bI_0] using h9)
          refine lv_aload_n hx hb dX0_keyOf_33 rfl (lv_at hl 3 rfl) ?_
          refine x_Vr (wN := fun _ => (wX G ad ho rn ln dr ro lt rf th sb ++ wR G (ad 1) kd r ++ wR G (ad 2) kd r ++ wR G (ad 3) k2 r2 ++ wK (ad 4))) ⟨C0, hK, hP, hD, hS, hA⟩ 0 rfl (ci := 0) rfl rfl ((m_openMind l G ad kd km k2 r rm r2 ho rn ln dr ro lt rf th sb hr hp hk )) (cwV 0 hts (lw_V q795 q797 qs25 q86 q798) rfl rfl rfl (by decide +kernel) ⟨Nat.le_of_ble_eq_true rfl, Nat.le_of_ble_eq_true rfl⟩) [0, 1, 2, 3, 4, 5, 6, 7, 8, 9, 10, 11, 12, 13, 14, 15, 16, 17, 18, 19, 20, 21, 22, 23, 24, 25, 26, 27, 28, 29, 30] [1, 3, 5, 7, 9, 11, 13, 15, 17, 19, 21, 23, 25, 27, 29, 31, 33, 35, 37, 39, 41, 43, 45, 47, 49, 51, 53, 55, 57, 59, 61] rfl (fun _ => rfl) rfl rfl hl.1 rfl (Nat.le_of_ble_eq_true rfl) dX0_keyOf_34 ⟨Nat.le_of_ble_eq_true rfl, Nat.le_of_ble_eq_true rfl⟩ (fun u_4 H locs hw_4 hP hD hS => ?_)
          have hP : va_P G.1 vwCl (wX G ad ho rn ln dr ro lt rf th sb ++ wR G (ad 1) kd r ++ wR G (ad 2) kd r ++ wR G (ad 3) k2 r2 ++ wK (ad 4)) H := hP
          have hD : va_D A (wX G ad ho rn ln dr ro lt rf th sb ++ wR G (ad 1) kd r ++ wR G (ad 2) kd r ++ wR G (ad 3) k2 r2 ++ wK (ad 4)) := hD
          refine lv_astore (lv' := [(5, .ref ((ad 2) 0)), (4, .int (nI i)), (3, .int ((pKy r mi i).2)), (2, .int ((pKy r mi i).1)), (0, .ref (ad 0 0)), (1, .int (nI mi))]) hx hb dX0_keyOf_37 hl (by decide) rfl (fun ls hl => ?_)
          refine lv_aload hx hb dX0_keyOf_39 (lv_at hl 0 rfl) ?_
          refine lv_iload hx hb dX0_keyOf_41 (lv_at hl 1 rfl) ?_
          refine lv_bipush (v := 9) hx hb dX0_keyOf_43 (by decide) ?_
          refine x_Vi (wN := fun _ => (wX G ad ho rn ln dr ro lt rf th sb ++ wR G (ad 1) kd r ++ wR G (ad 2) kd (pPull r i 9) ++ wR G (ad 3) k2 r2 ++ wK (ad 4))) ⟨C0, hK, hP, hD, hS, hA⟩ 13 rfl (ci := 7) rfl rfl ((m_pull l G (ad 2) (ad 4) kd r hr hk i 9 (by omega) hp)) (cwV 2 hts (lw_V q745 q683 q684 q94 q685) rfl rfl rfl (by decide +kernel) ⟨Nat.le_of_ble_eq_true rfl, Nat.le_of_ble_eq_true rfl⟩) [13, 14, 15, 16, 17, 18, 25, 26, 27, 28, 29, 30] [0, 2, 4, 6, 8, 10, 12, 14, 16, 18, 20, 22, 24, 1, 3, 5, 7, 9, 11, 38, 40, 42, 44, 46, 48, 13, 15, 17, 19, 21, 23] rfl (fun _ => rfl) rfl rfl hl.1 rfl (Nat.le_of_ble_eq_true rfl) dX0_keyOf_45 ⟨Nat.le_of_ble_eq_true rfl, Nat.le_of_ble_eq_true rfl⟩ (fun r_5 u_5 H locs hw_5 hP hD hS => ?_)
          have hw_5 : (pPullN r i 9 : Int32) = r_5 := hw_5.symm
          subst hw_5
          have hP : va_P G.1 vwCl (wX G ad ho rn ln dr ro lt rf th sb ++ wR G (ad 1) kd r ++ wR G (ad 2) kd (pPull r i 9) ++ wR G (ad 3) k2 r2 ++ wK (ad 4)) H := hP
          have hD : va_D A (wX G ad ho rn ln dr ro lt rf th sb ++ wR G (ad 1) kd r ++ wR G (ad 2) kd (pPull r i 9) ++ wR G (ad 3) k2 r2 ++ wK (ad 4)) := hD
          refine lv_pop hx hb dX0_keyOf_48 rfl ?_
          refine lv_aload hx hb dX0_keyOf_49 (lv_at hl 0 rfl) ?_
          refine lv_iload_n hx hb dX0_keyOf_51 rfl (lv_at hl 5 rfl) ?_
          refine x_Vr (wN := fun _ => (wX G ad ho rn ln dr ro lt rf th sb ++ wR G (ad 1) kd r ++ wR G (ad 2) kd (pMins (pPull r i 9) mi) ++ wR G (ad 3) k2 r2 ++ wK (ad 4))) ⟨C0, hK, hP, hD, hS, hA⟩ 13 rfl (ci := 7) rfl rfl ((m_minutesOn l G (ad 2) (ad 4) kd (pPull r i 9) (Ok.pull hr) (kOk.pull hk) mi hmi)) (cwV 1 hts (lw_V q770 q623 q624 q94 q625) rfl rfl rfl (by decide +kernel) ⟨Nat.le_of_ble_eq_true rfl, Nat.le_of_ble_eq_true rfl⟩) [13, 14, 15, 16, 17, 18, 25, 26, 27, 28, 29, 30] [0, 2, 4, 6, 8, 10, 12, 14, 16, 18, 20, 22, 24, 1, 3, 5, 7, 9, 11, 38, 40, 42, 44, 46, 48, 13, 15, 17, 19, 21, 23] rfl (fun _ => rfl) rfl rfl hl.1 rfl (Nat.le_of_ble_eq_true rfl) dX0_keyOf_52 ⟨Nat.le_of_ble_eq_true rfl, Nat.le_of_ble_eq_true rfl⟩ (fun u_6 H locs hw_6 hP hD hS => ?_)
          have hP : va_P G.1 vwCl (wX G ad ho rn ln dr ro lt rf th sb ++ wR G (ad 1) kd r ++ wR G (ad 2) kd (pMins (pPull r i 9) mi) ++ wR G (ad 3) k2 r2 ++ wK (ad 4)) H := hP
          have hD : va_D A (wX G ad ho rn ln dr ro lt rf th sb ++ wR G (ad 1) kd r ++ wR G (ad 2) kd (pMins (pPull r i 9) mi) ++ wR G (ad 3) k2 r2 ++ wK (ad 4)) := hD
          refine x_Vi (wN := fun _ => (wX G ad ho rn ln dr ro lt rf th sb ++ wR G (ad 1) kd r ++ wR G (ad 2) kd (pMins (pPull r i 9) mi) ++ wR G (ad 3) k2 r2 ++ wK (ad 4))) ⟨C0, hK, hP, hD, hS, hA⟩ 13 rfl (ci := 7) rfl rfl ((m_standing l G (ad 2) (ad 4) kd (pMins (pPull r i 9) mi) (Ok.mins (Ok.pull hr)) (kOk.mins (kOk.pull hk)))) (cwV 0 hts (lw_V q771 q772 q773 q94 q774) rfl rfl rfl (by decide +kernel) ⟨Nat.le_of_ble_eq_true rfl, Nat.le_of_ble_eq_true rfl⟩) [13, 14, 15, 16, 17, 18, 25, 26, 27, 28, 29, 30] [0, 2, 4, 6, 8, 10, 12, 14, 16, 18, 20, 22, 24, 1, 3, 5, 7, 9, 11, 38, 40, 42, 44, 46, 48, 13, 15, 17, 19, 21, 23] rfl (fun _ => rfl) rfl rfl hl.1 rfl (Nat.le_of_ble_eq_true rfl) dX0_keyOf_55 ⟨Nat.le_of_ble_eq_true rfl, Nat.le_of_ble_eq_true rfl⟩ (fun r_7 u_7 H locs hw_7 hP hD hS => ?_)
          have hw_7 : (pStN (pMins (pPull r i 9) mi) : Int32) = r_7 := hw_7.symm
          subst hw_7
          refine lv_istore (lv' := [(6, .int (pStN (pMins (pPull r i 9) mi))), (5, .ref ((ad 2) 0)), (4, .int (nI i)), (3, .int ((pKy r mi i).2)), (2, .int ((pKy r mi i).1)), (0, .ref (ad 0 0)), (1, .int (nI mi))]) hx hb dX0_keyOf_58 hl (by decide) rfl (fun ls hl => ?_)
          refine lv_iload hx hb dX0_keyOf_60 (lv_at hl 0 rfl) ?_
          refine lv_iload_n hx hb dX0_keyOf_62 rfl (lv_at hl 3 rfl) ?_
          refine lv_icmp_ge (tgt := 71) hx hb dX0_keyOf_63 (by decide) (fun c_8 => ?_) (fun c_8 => ?_)
          · skip
            refine lv_iload_n hx hb dX0_keyOf_71 rfl (lv_at hl 4 rfl) ?_
            rw [show ((pKy r mi i).1 : Int32) = (pKy r mi (i + 1)).1 from (by rw [pKy_1 hst]; exact (if_neg (Int32.not_lt.mpr c_8)).symm)]
            refine lv_istore_n (lv' := [(2, .int ((pKy r mi (i + 1)).1)), (6, .int (pStN (pMins (pPull r i 9) mi))), (5, .ref ((ad 2) 0)), (4, .int (nI i)), (3, .int ((pKy r mi i).2)), (0, .ref (ad 0 0)), (1, .int (nI mi))]) hx hb dX0_keyOf_72 rfl hl (by decide) rfl (fun ls hl => ?_)
            refine lv_iload_n hx hb dX0_keyOf_73 rfl (lv_at hl 4 rfl) ?_
            refine lv_iload hx hb dX0_keyOf_74 (lv_at hl 1 rfl) ?_
            refine va_mmin hx hb (by rw [hml]; exact hl.1.symm) hown (hts _ q883) (hts _ q884) (hts _ q111) (hts _ q885) (Nat.le_of_ble_eq_true rfl) (Nat.le_of_ble_eq_true rfl) (Nat.le_of_ble_eq_true rfl) (Nat.le_of_ble_eq_true rfl) dX0_keyOf_76 ?_
            rw [show (if (pStN (pMins (pPull r i 9) mi)) < ((pKy r mi i).2) then pStN (pMins (pPull r i 9) mi) else (pKy r mi i).2 : Int32) = (pKy r mi (i + 1)).2 from (pKy_2 hst).symm]
            refine lv_istore_n (lv' := [(3, .int ((pKy r mi (i + 1)).2)), (2, .int ((pKy r mi (i + 1)).1)), (6, .int (pStN (pMins (pPull r i 9) mi))), (5, .ref ((ad 2) 0)), (4, .int (nI i)), (0, .ref (ad 0 0)), (1, .int (nI mi))]) hx hb dX0_keyOf_79 rfl hl (by decide) rfl (fun ls hl => ?_)
            refine lv_iinc (v := nI (i + 1)) (lv' := [(4, .int (nI (i + 1))), (3, .int ((pKy r mi (i + 1)).2)), (2, .int ((pKy r mi (i + 1)).1)), (6, .int (pStN (pMins (pPull r i 9) mi))), (5, .ref ((ad 2) 0)), (0, .ref (ad 0 0)), (1, .int (nI mi))]) hx hb dX0_keyOf_80 hl (k := 4) rfl (x_inc1 _) (by decide) rfl (fun ls hl => ?_)
            refine lv_goto (tgt := 9) hx hb dX0_keyOf_83 (by decide) ?_
            exact ih_9 (i + 1) _ _ (by omega) (by omega) _ _ _ hP hD hS (lv_sub hl [0, 1, 2, 5, 6] rfl)
          · skip
            refine lv_iload hx hb dX0_keyOf_66 (lv_at hl 2 rfl) ?_
            refine lv_goto (tgt := 72) hx hb dX0_keyOf_68 (by decide) ?_
            rw [show (nI i : Int32) = (pKy r mi (i + 1)).1 from (by rw [pKy_1 hst]; exact (if_pos (Int32.not_le.mp c_8)).symm)]
            refine lv_istore_n (lv' := [(2, .int ((pKy r mi (i + 1)).1)), (6, .int (pStN (pMins (pPull r i 9) mi))), (5, .ref ((ad 2) 0)), (4, .int (nI i)), (3, .int ((pKy r mi i).2)), (0, .ref (ad 0 0)), (1, .int (nI mi))]) hx hb dX0_keyOf_72 rfl hl (by decide) rfl (fun ls hl => ?_)
            refine lv_iload_n hx hb dX0_keyOf_73 rfl (lv_at hl 4 rfl) ?_
            refine lv_iload hx hb dX0_keyOf_74 (lv_at hl 1 rfl) ?_
            refine va_mmin hx hb (by rw [hml]; exact hl.1.symm) hown (hts _ q883) (hts _ q884) (hts _ q111) (hts _ q885) (Nat.le_of_ble_eq_true rfl) (Nat.le_of_ble_eq_true rfl) (Nat.le_of_ble_eq_true rfl) (Nat.le_of_ble_eq_true rfl) dX0_keyOf_76 ?_
            rw [show (if (pStN (pMins (pPull r i 9) mi)) < ((pKy r mi i).2) then pStN (pMins (pPull r i 9) mi) else (pKy r mi i).2 : Int32) = (pKy r mi (i + 1)).2 from (pKy_2 hst).symm]
            refine lv_istore_n (lv' := [(3, .int ((pKy r mi (i + 1)).2)), (2, .int ((pKy r mi (i + 1)).1)), (6, .int (pStN (pMins (pPull r i 9) mi))), (5, .ref ((ad 2) 0)), (4, .int (nI i)), (0, .ref (ad 0 0)), (1, .int (nI mi))]) hx hb dX0_keyOf_79 rfl hl (by decide) rfl (fun ls hl => ?_)
            refine lv_iinc (v := nI (i + 1)) (lv' := [(4, .int (nI (i + 1))), (3, .int ((pKy r mi (i + 1)).2)), (2, .int ((pKy r mi (i + 1)).1)), (6, .int (pStN (pMins (pPull r i 9) mi))), (5, .ref ((ad 2) 0)), (0, .ref (ad 0 0)), (1, .int (nI mi))]) hx hb dX0_keyOf_80 hl (k := 4) rfl (x_inc1 _) (by decide) rfl (fun ls hl => ?_)
            refine lv_goto (tgt := 9) hx hb dX0_keyOf_83 (by decide) ?_
            exact ih_9 (i + 1) _ _ (by omega) (by omega) _ _ _ hP hD hS (lv_sub hl [0, 1, 2, 5, 6] rfl)
  exact loop_9 (mny r + 1) 0 _ _ (by omega) (by omega) _ _ _ hP hD hS (lv_sub hl [0, 1, 2, 3, 4] rfl)
set_option maxHeartbeats 4000000 in
set_option maxRecDepth 100000 in
theorem m_mostPulled (l : Launch) (G : xG) (ad : Nat → Nat → Nat) (kd k1 k2 : Nat → Option Nat) (r r1 r2 : Rw) (ho rn ln dr : Int32) (ro lt rf th sb : Nat → Int32) (hr : Ok r) (hp : r 5 3 = 0) (hk : kOk (ad 4) kd r) (t mi : Nat) (ht : t < mny r) (hmi : mi < 2 ^ 30) (w : Int32) : xCi l G yX0_mostPulled cX0_mostPulled 8 (some .int) ({ frames := 7, cells := 0, slots := 0, locals := 158 } : Room) [.ref (ad 0 0), .int (nI t), .int (nI mi), .int w] (wX G ad ho rn ln dr ro lt rf th sb ++ wR G (ad 1) kd r ++ wR G (ad 2) k1 r1 ++ wR G (ad 3) k2 r2 ++ wK (ad 4)) (S := ((Nat → Option Nat) × Rw)) (fun v _ => v = pMost r t mi w) (fun u => (wX G ad ho rn ln dr ro lt rf th sb ++ wR G (ad 1) kd r ++ wR G (ad 2) u.1 u.2 ++ wR G (ad 3) k2 r2 ++ wK (ad 4))) := by
  refine x_openi (by decide) (Nat.le_of_ble_eq_true rfl) (fun _ _ _ => rfl) ?_
  intro p e s m args below meth c A Q ls C0 hK hP hD hA hl hret
  obtain ⟨hx, hb, hml, hown, hts⟩ := id C0
  have hS : va_S A s.heap s.heap [] := va_S.rf
  have hP : va_P G.1 vwCl (wX G ad ho rn ln dr ro lt rf th sb ++ wR G (ad 1) kd r ++ wR G (ad 2) k1 r1 ++ wR G (ad 3) k2 r2 ++ wK (ad 4)) s.heap := hP
  have hD : va_D A (wX G ad ho rn ln dr ro lt rf th sb ++ wR G (ad 1) kd r ++ wR G (ad 2) k1 r1 ++ wR G (ad 3) k2 r2 ++ wK (ad 4)) := hD
  have hl : lv_has ls 8 [(0, .ref (ad 0 0)), (1, .int (nI t)), (2, .int (nI mi)), (3, .int w)] := hl
  have hr0 := hr.n
  have hN := hr.le
  have hO := pOth_lt (t := t) hN
  refine lv_aload_n hx hb dX0_mostPulled_0 rfl (lv_at hl 0 rfl) ?_
  refine va_get (D := G.1) (ci := 0) (v := .ref ((ad 1) 0)) (C := RX0) (T := TX0) (N := 13) hx hb hts in_X0 hown hK.1 hP 0 rfl rfl 1 (by decide) (hts _ q222) (fun _ h9 => h9) rfl dX0_mostPulled_1 ?_
  refine lv_iconst (v := 0) hx hb dX0_mostPulled_4 (by decide) ?_
  refine x_Vi (wN := fun _ => (wX G ad ho rn ln dr ro lt rf th sb ++ wR G (ad 1) kd r ++ wR G (ad 2) k1 r1 ++ wR G (ad 3) k2 r2 ++ wK (ad 4))) ⟨C0, hK, hP, hD, hS, hA⟩ 7 rfl (ci := 7) rfl rfl ((m_bits l G (ad 1) (ad 4) kd r hr hk 0)) (cwV 1 hts (lw_V q815 q643 q644 q94 q645) rfl rfl rfl (by decide +kernel) ⟨Nat.le_of_ble_eq_true rfl, Nat.le_of_ble_eq_true rfl⟩) [7, 8, 9, 10, 11, 12, 25, 26, 27, 28, 29, 30] [0, 2, 4, 6, 8, 10, 12, 1, 3, 5, 7, 9, 11, 26, 28, 30, 32, 34, 36, 38, 40, 42, 44, 46, 48, 13, 15, 17, 19, 21, 23] rfl (fun _ => rfl) rfl rfl hl.1 rfl (Nat.le_of_ble_eq_true rfl) dX0_mostPulled_5 ⟨Nat.le_of_ble_eq_true rfl, Nat.le_of_ble_eq_true rfl⟩ (fun r_1 u_1 H locs hw_1 hP hD hS => ?_)
  have hw_1 : (pSet r 0 : Int32) = r_1 := hw_1.symm
  subst hw_1
  rw [show (pSet r 0 : Int32) = nI (bn (pHow r 0) (mny r)) from (pSet_bn hN)]
  refine lv_iconst (v := 1) hx hb dX0_mostPulled_8 (by decide) ?_
  refine lv_iload_n hx hb dX0_mostPulled_9 rfl (lv_at hl 1 rfl) ?_
  refine x_ishl hx hb dX0_mostPulled_10 (v := b1 t) rfl ?_
  refine lv_iconst (v := (-1)) hx hb dX0_mostPulled_11 (by decide) ?_
  refine x_ixor hx hb dX0_mostPulled_12 (v := (b1 t) ^^^ (-1)) rfl ?_
  refine x_iand hx hb dX0_mostPulled_13 (v := nI (pOth r t)) (pOth_i hN (by omega)) ?_
  refine lv_istore (lv' := [(4, .int (nI (pOth r t))), (0, .ref (ad 0 0)), (1, .int (nI t)), (2, .int (nI mi)), (3, .int w)]) hx hb dX0_mostPulled_14 hl (by decide) rfl (fun ls hl => ?_)
  refine lv_bipush (v := (-9)) hx hb dX0_mostPulled_16 (by decide) ?_
  refine lv_istore (lv' := [(5, .int (-9)), (4, .int (nI (pOth r t))), (0, .ref (ad 0 0)), (1, .int (nI t)), (2, .int (nI mi)), (3, .int w)]) hx hb dX0_mostPulled_18 hl (by decide) rfl (fun ls hl => ?_)
  refine lv_iload hx hb dX0_mostPulled_20 (lv_at hl 1 rfl) ?_
  rw [show (nI (pOth r t) : Int32) = nI (pOth r t + 1) - 1 from (nI_prd _).symm]
  refine lv_istore (lv' := [(6, .int (nI (pOth r t + 1) - 1)), (5, .int (-9)), (4, .int (nI (pOth r t))), (0, .ref (ad 0 0)), (1, .int (nI t)), (2, .int (nI mi)), (3, .int w)]) hx hb dX0_mostPulled_22 hl (by decide) rfl (fun ls hl => ?_)
  have loop_24 : ∀ (n : Nat) (k : Nat) (b : Option Nat) (km : Nat → Option Nat) (rm : Rw), (k < n) → (k ≤ pOth r t + 1) → (IsB pc (pMoC r t mi) (fun j => k ≤ j ∧ j ≤ pOth r t) b) → (∀ x, b = some x → x < 1024) → ∀ (H : Heap) (locs : List Loc) (ls : Array Slot), va_P G.1 vwCl (wX G ad ho rn ln dr ro lt rf th sb ++ wR G (ad 1) kd r ++ wR G (ad 2) km rm ++ wR G (ad 3) k2 r2 ++ wK (ad 4)) H → va_D A (wX G ad ho rn ln dr ro lt rf th sb ++ wR G (ad 1) kd r ++ wR G (ad 2) km rm ++ wR G (ad 3) k2 r2 ++ wK (ad 4)) → va_S A s.heap H locs → lv_has ls 8 [(6, .int (nI k - 1)), (5, .int (enc b)), (4, .int (nI (pOth r t))), (0, .ref (ad 0 0)), (1, .int (nI t)), (2, .int (nI mi)), (3, .int w)] → W p l e ({ frames := 7, cells := 0, slots := 0, locals := 158 } : Room) s m args below meth c H locs 0 0 Q (F0 m 24 ls []) := by
    intro n
    induction n with
    | zero => intro k b km rm hi24_0 hi24_1 hi24_2 hi24_3; exact absurd hi24_0 (by omega)
    | succ n ih_24 =>
      intro k b km rm hi24_0 hi24_1 hi24_2 hi24_3 H locs ls hP hD hS hl
      refine lv_iload hx hb dX0_mostPulled_24 (lv_at hl 0 rfl) ?_
      refine lv_if_lt (tgt := 97) hx hb dX0_mostPulled_26 (by decide) (fun c_2 => ?_) (fun c_2 => ?_)
      · skip
        have ek : k = 0 := k_zero (by omega) c_2
        refine lv_iload_n hx hb dX0_mostPulled_97 rfl (lv_at hl 6 rfl) ?_
        refine lv_iconst (v := 1) hx hb dX0_mostPulled_98 (by decide) ?_
        refine lv_icmp_eq (tgt := 109) hx hb dX0_mostPulled_99 (by decide) (fun c_3 => ?_) (fun c_3 => ?_)
        · skip
          refine lv_iload hx hb dX0_mostPulled_109 (lv_at hl 1 rfl) ?_
          refine lv_goto (tgt := 119) hx hb dX0_mostPulled_111 (by decide) ?_
          refine hret _ _ _ _ _ _ (enc b) (km, rm) dX0_mostPulled_119 ?_ hP hD hS (Nat.le_of_ble_eq_true rfl) (Nat.le_of_ble_eq_true rfl)
          subst ek
          have e9 := mo_eq (w := w) hN ht hi24_2
          rw [e9]
          rcases b with _ | x
          · rfl
          · exact (if_pos c_3).symm
        · skip
          rcases b with _ | x
          · skip
            have hl : lv_has ls 8 [(6, .int (nI k - 1)), (5, .int (-9)), (4, .int (nI (pOth r t))), (0, .ref (ad 0 0)), (1, .int (nI t)), (2, .int (nI mi)), (3, .int w)] := hl
            refine lv_iload hx hb dX0_mostPulled_102 (lv_at hl 1 rfl) ?_
            refine lv_bipush (v := (-9)) hx hb dX0_mostPulled_104 (by decide) ?_
            refine lv_icmp_ne (tgt := 114) hx hb dX0_mostPulled_106 (by decide) (fun c_4 => ?_) (fun c_4 => ?_)
            · skip
              exact absurd c_4 (by decide)
            · skip
              refine lv_iload hx hb dX0_mostPulled_109 (lv_at hl 1 rfl) ?_
              refine lv_goto (tgt := 119) hx hb dX0_mostPulled_111 (by decide) ?_
              refine hret _ _ _ _ _ _ (-9) (km, rm) dX0_mostPulled_119 ?_ hP hD hS (Nat.le_of_ble_eq_true rfl) (Nat.le_of_ble_eq_true rfl)
              subst ek
              have e9 := mo_eq (w := w) hN ht hi24_2
              rw [e9]
              rfl
          · skip
            have hl : lv_has ls 8 [(6, .int (nI k - 1)), (5, .int (nI x)), (4, .int (nI (pOth r t))), (0, .ref (ad 0 0)), (1, .int (nI t)), (2, .int (nI mi)), (3, .int w)] := hl
            have hx1 := hi24_3 x rfl
            refine lv_iload hx hb dX0_mostPulled_102 (lv_at hl 1 rfl) ?_
            refine lv_bipush (v := (-9)) hx hb dX0_mostPulled_104 (by decide) ?_
            refine lv_icmp_ne (tgt := 114) hx hb dX0_mostPulled_106 (by decide) (fun c_5 => ?_) (fun c_5 => ?_)
            · skip
              refine lv_iload hx hb dX0_mostPulled_114 (lv_at hl 1 rfl) ?_
              refine x_Si (wN := fun _ => (wX G ad ho rn ln dr ro lt rf th sb ++ wR G (ad 1) kd r ++ wR G (ad 2) km rm ++ wR G (ad 3) k2 r2 ++ wK (ad 4))) ⟨C0, hK, hP, hD, hS, hA⟩ ((m_ones l G x (by omega))) (va_cwS 1 hts (lw_S q870 q776 q86 q777) rfl rfl rfl (by decide +kernel) ⟨Nat.le_of_ble_eq_true rfl, Nat.le_of_ble_eq_true rfl⟩) [] [0, 2, 4, 6, 8, 10, 12, 14, 16, 18, 20, 22, 24, 26, 28, 30, 32, 34, 36, 38, 40, 42, 44, 46, 48, 50, 52, 54, 56, 58, 60] rfl (fun _ => rfl) rfl rfl hl.1 rfl (Nat.le_of_ble_eq_true rfl) dX0_mostPulled_116 ⟨Nat.le_of_ble_eq_true rfl, Nat.le_of_ble_eq_true rfl⟩ (fun r_6 u_6 H locs hw_6 hP hD hS => ?_)
              have hw_6 : (nI (pc x) : Int32) = r_6 := hw_6.symm
              subst hw_6
              refine hret _ _ _ _ _ _ (nI (pc x)) (km, rm) dX0_mostPulled_119 ?_ hP hD hS (Nat.le_of_ble_eq_true rfl) (Nat.le_of_ble_eq_true rfl)
              subst ek
              have e9 := mo_eq (w := w) hN ht hi24_2
              rw [e9]
              exact (if_neg c_3).symm
            · skip
              exact absurd c_5 (m9_ne (by omega))
      · skip
        obtain ⟨j, rfl⟩ := k_succ c_2
        rw [nI_prd] at hl
        refine lv_iload hx hb dX0_mostPulled_29 (lv_at hl 0 rfl) ?_
        refine lv_iload hx hb dX0_mostPulled_31 (lv_at hl 2 rfl) ?_
        refine lv_iconst (v := (-1)) hx hb dX0_mostPulled_33 (by decide) ?_
        refine x_ixor hx hb dX0_mostPulled_34 (v := (nI (pOth r t)) ^^^ (-1)) rfl ?_
        refine x_iand hx hb dX0_mostPulled_35 (v := (nI j) &&& ((nI (pOth r t)) ^^^ (-1))) rfl ?_
        refine lv_if_ne (tgt := 63) hx hb dX0_mostPulled_36 (by decide) (fun c_7 => ?_) (fun c_7 => ?_)
        · skip
          refine lv_iconst (v := 0) hx hb dX0_mostPulled_63 (by decide) ?_
          refine lv_istore (lv' := [(7, .int 0), (6, .int (nI j)), (5, .int (enc b)), (4, .int (nI (pOth r t))), (0, .ref (ad 0 0)), (1, .int (nI t)), (2, .int (nI mi)), (3, .int w)]) hx hb dX0_mostPulled_64 hl (by decide) rfl (fun ls hl => ?_)
          refine lv_iload hx hb dX0_mostPulled_66 (lv_at hl 0 rfl) ?_
          refine lv_if_eq (tgt := 87) hx hb dX0_mostPulled_68 (by decide) (fun c_8 => ?_) (fun c_8 => ?_)
          · skip
            refine lv_iload hx hb dX0_mostPulled_87 (lv_at hl 2 rfl) ?_
            refine lv_istore (lv' := [(5, .int (enc b)), (7, .int 0), (6, .int (nI j)), (4, .int (nI (pOth r t))), (0, .ref (ad 0 0)), (1, .int (nI t)), (2, .int (nI mi)), (3, .int w)]) hx hb dX0_mostPulled_89 hl (by decide) rfl (fun ls hl => ?_)
            refine lv_iinc (v := nI j - 1) (lv' := [(6, .int (nI j - 1)), (5, .int (enc b)), (7, .int 0), (4, .int (nI (pOth r t))), (0, .ref (ad 0 0)), (1, .int (nI t)), (2, .int (nI mi)), (3, .int w)]) hx hb dX0_mostPulled_91 hl (k := 2) rfl (x_dec _) (by decide) rfl (fun ls hl => ?_)
            refine lv_goto (tgt := 24) hx hb dX0_mostPulled_94 (by decide) ?_
            exact ih_24 j b _ _ (by omega) (by omega) (IsB.down (by omega) hi24_2 (if_neg (fun z => c_7 ((sub_i (a := j) (by omega)).mpr (Bool.and_eq_true _ _ ▸ z.1).1))).symm) hi24_3 _ _ _ hP hD hS (lv_sub hl [0, 1, 3, 4, 5, 6, 7] rfl)
          · skip
            exact absurd c_8 (by decide)
        · skip
          rcases b with _ | x
          · skip
            have hl : lv_has ls 8 [(6, .int (nI j)), (5, .int (-9)), (4, .int (nI (pOth r t))), (0, .ref (ad 0 0)), (1, .int (nI t)), (2, .int (nI mi)), (3, .int w)] := hl
            have hj9 := pc_le j
            refine lv_iload hx hb dX0_mostPulled_39 (lv_at hl 1 rfl) ?_
            refine lv_bipush (v := (-9)) hx hb dX0_mostPulled_41 (by decide) ?_
            refine lv_icmp_eq (tgt := 59) hx hb dX0_mostPulled_43 (by decide) (fun c_9 => ?_) (fun c_9 => ?_)
            · skip
              refine lv_iconst (v := 1) hx hb dX0_mostPulled_59 (by decide) ?_
              refine lv_goto (tgt := 64) hx hb dX0_mostPulled_60 (by decide) ?_
              refine lv_istore (lv' := [(7, .int 1), (6, .int (nI j)), (5, .int (-9)), (4, .int (nI (pOth r t))), (0, .ref (ad 0 0)), (1, .int (nI t)), (2, .int (nI mi)), (3, .int w)]) hx hb dX0_mostPulled_64 hl (by decide) rfl (fun ls hl => ?_)
              refine lv_iload hx hb dX0_mostPulled_66 (lv_at hl 0 rfl) ?_
              refine lv_if_eq (tgt := 87) hx hb dX0_mostPulled_68 (by decide) (fun c_10 => ?_) (fun c_10 => ?_)
              · skip
                exact absurd c_10 (by decide)
              · skip
                refine lv_aload_n hx hb dX0_mostPulled_71 rfl (lv_at hl 4 rfl) ?_
                refine lv_iload hx hb dX0_mostPulled_72 (lv_at hl 1 rfl) ?_
                refine lv_iload_n hx hb dX0_mostPulled_74 rfl (lv_at hl 5 rfl) ?_
                refine lv_iload_n hx hb dX0_mostPulled_75 rfl (lv_at hl 6 rfl) ?_
                refine x_Vi (wN := fun u_11 => (wX G ad ho rn ln dr ro lt rf th sb ++ wR G (ad 1) kd r ++ wR G (ad 2) u_11.1 u_11.2 ++ wR G (ad 3) k2 r2 ++ wK (ad 4))) ⟨C0, hK, hP, hD, hS, hA⟩ 0 rfl (ci := 0) rfl rfl ((m_areEnough l G ad kd km k2 r rm r2 ho rn ln dr ro lt rf th sb hr hp hk (nI j) t mi (by omega) (by omega))) (cwV 3 hts (lw_V q871 q873 qs39 q86 q874) rfl rfl rfl (by decide +kernel) ⟨Nat.le_of_ble_eq_true rfl, Nat.le_of_ble_eq_true rfl⟩) [0, 1, 2, 3, 4, 5, 6, 7, 8, 9, 10, 11, 12, 13, 14, 15, 16, 17, 18, 19, 20, 21, 22, 23, 24, 25, 26, 27, 28, 29, 30] [1, 3, 5, 7, 9, 11, 13, 15, 17, 19, 21, 23, 25, 27, 29, 31, 33, 35, 37, 39, 41, 43, 45, 47, 49, 51, 53, 55, 57, 59, 61] rfl (fun _ => rfl) rfl rfl hl.1 rfl (Nat.le_of_ble_eq_true rfl) dX0_mostPulled_76 ⟨Nat.le_of_ble_eq_true rfl, Nat.le_of_ble_eq_true rfl⟩ (fun r_11 u_11 H locs hw_11 hP hD hS => ?_)
                have hw_11 : (bI (pEn r (nI j) t mi) : Int32) = r_11 := hw_11.symm
                subst hw_11
                have hP : va_P G.1 vwCl (wX G ad ho rn ln dr ro lt rf th sb ++ wR G (ad 1) kd r ++ wR G (ad 2) u_11.1 u_11.2 ++ wR G (ad 3) k2 r2 ++ wK (ad 4)) H := hP
                have hD : va_D A (wX G ad ho rn ln dr ro lt rf th sb ++ wR G (ad 1) kd r ++ wR G (ad 2) u_11.1 u_11.2 ++ wR G (ad 3) k2 r2 ++ wK (ad 4)) := hD
                refine lv_if_eq (tgt := 87) hx hb dX0_mostPulled_79 (by decide) (fun c_12 => ?_) (fun c_12 => ?_)
                · skip
                  refine lv_iload hx hb dX0_mostPulled_87 (lv_at hl 2 rfl) ?_
                  refine lv_istore (lv' := [(5, .int (-9)), (7, .int 1), (6, .int (nI j)), (4, .int (nI (pOth r t))), (0, .ref (ad 0 0)), (1, .int (nI t)), (2, .int (nI mi)), (3, .int w)]) hx hb dX0_mostPulled_89 hl (by decide) rfl (fun ls hl => ?_)
                  refine lv_iinc (v := nI j - 1) (lv' := [(6, .int (nI j - 1)), (5, .int (-9)), (7, .int 1), (4, .int (nI (pOth r t))), (0, .ref (ad 0 0)), (1, .int (nI t)), (2, .int (nI mi)), (3, .int w)]) hx hb dX0_mostPulled_91 hl (k := 2) rfl (x_dec _) (by decide) rfl (fun ls hl => ?_)
                  refine lv_goto (tgt := 24) hx hb dX0_mostPulled_94 (by decide) ?_
                  exact ih_24 j none _ _ (by omega) (by omega) (IsB.down (by omega) hi24_2 (if_neg (fun z => by have h8 := (Bool.and_eq_true _ _ ▸ z.1).2; rw [show pEn r (nI j) t mi = false from (by have h9 := c_12; simpa [bI_0] using h9)] at h8; cases h8)).symm) (fun y hy => by cases hy) _ _ _ hP hD hS (lv_sub hl [0, 1, 3, 4, 5, 6, 7] rfl)
                · skip
                  refine lv_iload hx hb dX0_mostPulled_82 (lv_at hl 1 rfl) ?_
                  refine lv_goto (tgt := 89) hx hb dX0_mostPulled_84 (by decide) ?_
                  refine lv_istore (lv' := [(5, .int (nI j)), (7, .int 1), (6, .int (nI j)), (4, .int (nI (pOth r t))), (0, .ref (ad 0 0)), (1, .int (nI t)), (2, .int (nI mi)), (3, .int w)]) hx hb dX0_mostPulled_89 hl (by decide) rfl (fun ls hl => ?_)
                  refine lv_iinc (v := nI j - 1) (lv' := [(6, .int (nI j - 1)), (5, .int (nI j)), (7, .int 1), (4, .int (nI (pOth r t))), (0, .ref (ad 0 0)), (1, .int (nI t)), (2, .int (nI mi)), (3, .int w)]) hx hb dX0_mostPulled_91 hl (k := 2) rfl (x_dec _) (by decide) rfl (fun ls hl => ?_)
                  refine lv_goto (tgt := 24) hx hb dX0_mostPulled_94 (by decide) ?_
                  exact ih_24 j (some j) _ _ (by omega) (by omega) (IsB.down (by omega) hi24_2 (if_pos ⟨by show (sub j (pOth r t) && pEn r (nI j) t mi) = true; rw [(sub_i (a := j) (by omega)).mp c_7, show pEn r (nI j) t mi = true from (by have h9 := c_12; simpa [bI_0] using h9)]; rfl, fun y hy => by cases hy⟩).symm) (fun y hy => by cases hy; omega) _ _ _ hP hD hS (lv_sub hl [0, 1, 3, 4, 5, 6, 7] rfl)
            · skip
              exact absurd c_9 (by decide)
          · skip
            have hl : lv_has ls 8 [(6, .int (nI j)), (5, .int (nI x)), (4, .int (nI (pOth r t))), (0, .ref (ad 0 0)), (1, .int (nI t)), (2, .int (nI mi)), (3, .int w)] := hl
            have hj9 := pc_le j
            have hx1 := hi24_3 x rfl
            have hx9 := pc_le x
            refine lv_iload hx hb dX0_mostPulled_39 (lv_at hl 1 rfl) ?_
            refine lv_bipush (v := (-9)) hx hb dX0_mostPulled_41 (by decide) ?_
            refine lv_icmp_eq (tgt := 59) hx hb dX0_mostPulled_43 (by decide) (fun c_13 => ?_) (fun c_13 => ?_)
            · skip
              exact absurd c_13 (m9_ne (by omega))
            · skip
              refine lv_iload hx hb dX0_mostPulled_46 (lv_at hl 0 rfl) ?_
              refine x_Si (wN := fun _ => (wX G ad ho rn ln dr ro lt rf th sb ++ wR G (ad 1) kd r ++ wR G (ad 2) km rm ++ wR G (ad 3) k2 r2 ++ wK (ad 4))) ⟨C0, hK, hP, hD, hS, hA⟩ ((m_ones l G j (by omega))) (va_cwS 1 hts (lw_S q870 q776 q86 q777) rfl rfl rfl (by decide +kernel) ⟨Nat.le_of_ble_eq_true rfl, Nat.le_of_ble_eq_true rfl⟩) [] [0, 2, 4, 6, 8, 10, 12, 14, 16, 18, 20, 22, 24, 26, 28, 30, 32, 34, 36, 38, 40, 42, 44, 46, 48, 50, 52, 54, 56, 58, 60] rfl (fun _ => rfl) rfl rfl hl.1 rfl (Nat.le_of_ble_eq_true rfl) dX0_mostPulled_48 ⟨Nat.le_of_ble_eq_true rfl, Nat.le_of_ble_eq_true rfl⟩ (fun r_14 u_14 H locs hw_14 hP hD hS => ?_)
              have hw_14 : (nI (pc j) : Int32) = r_14 := hw_14.symm
              subst hw_14
              refine lv_iload hx hb dX0_mostPulled_51 (lv_at hl 1 rfl) ?_
              refine x_Si (wN := fun _ => (wX G ad ho rn ln dr ro lt rf th sb ++ wR G (ad 1) kd r ++ wR G (ad 2) km rm ++ wR G (ad 3) k2 r2 ++ wK (ad 4))) ⟨C0, hK, hP, hD, hS, hA⟩ ((m_ones l G x (by omega))) (va_cwS 1 hts (lw_S q870 q776 q86 q777) rfl rfl rfl (by decide +kernel) ⟨Nat.le_of_ble_eq_true rfl, Nat.le_of_ble_eq_true rfl⟩) [] [0, 2, 4, 6, 8, 10, 12, 14, 16, 18, 20, 22, 24, 26, 28, 30, 32, 34, 36, 38, 40, 42, 44, 46, 48, 50, 52, 54, 56, 58, 60] rfl (fun _ => rfl) rfl rfl hl.1 rfl (Nat.le_of_ble_eq_true rfl) dX0_mostPulled_53 ⟨Nat.le_of_ble_eq_true rfl, Nat.le_of_ble_eq_true rfl⟩ (fun r_15 u_15 H locs hw_15 hP hD hS => ?_)
              have hw_15 : (nI (pc x) : Int32) = r_15 := hw_15.symm
              subst hw_15
              refine lv_icmp_lt (tgt := 63) hx hb dX0_mostPulled_56 (by decide) (fun c_16 => ?_) (fun c_16 => ?_)
              · skip
                have g_16 := (nI_ltI (by omega) (by omega)).mp c_16
                refine lv_iconst (v := 0) hx hb dX0_mostPulled_63 (by decide) ?_
                refine lv_istore (lv' := [(7, .int 0), (6, .int (nI j)), (5, .int (nI x)), (4, .int (nI (pOth r t))), (0, .ref (ad 0 0)), (1, .int (nI t)), (2, .int (nI mi)), (3, .int w)]) hx hb dX0_mostPulled_64 hl (by decide) rfl (fun ls hl => ?_)
                refine lv_iload hx hb dX0_mostPulled_66 (lv_at hl 0 rfl) ?_
                refine lv_if_eq (tgt := 87) hx hb dX0_mostPulled_68 (by decide) (fun c_17 => ?_) (fun c_17 => ?_)
                · skip
                  refine lv_iload hx hb dX0_mostPulled_87 (lv_at hl 2 rfl) ?_
                  refine lv_istore (lv' := [(5, .int (nI x)), (7, .int 0), (6, .int (nI j)), (4, .int (nI (pOth r t))), (0, .ref (ad 0 0)), (1, .int (nI t)), (2, .int (nI mi)), (3, .int w)]) hx hb dX0_mostPulled_89 hl (by decide) rfl (fun ls hl => ?_)
                  refine lv_iinc (v := nI j - 1) (lv' := [(6, .int (nI j - 1)), (5, .int (nI x)), (7, .int 0), (4, .int (nI (pOth r t))), (0, .ref (ad 0 0)), (1, .int (nI t)), (2, .int (nI mi)), (3, .int w)]) hx hb dX0_mostPulled_91 hl (k := 2) rfl (x_dec _) (by decide) rfl (fun ls hl => ?_)
                  refine lv_goto (tgt := 24) hx hb dX0_mostPulled_94 (by decide) ?_
                  exact ih_24 j (some x) _ _ (by omega) (by omega) (IsB.down (by omega) hi24_2 (if_neg (fun z => absurd (z.2 x rfl) (by omega))).symm) (fun y hy => by cases hy; omega) _ _ _ hP hD hS (lv_sub hl [0, 1, 3, 4, 5, 6, 7] rfl)
                · skip
                  exact absurd c_17 (by decide)
              · skip
                have g_16 := mt (nI_ltI (by omega) (by omega)).mpr c_16
                refine lv_iconst (v := 1) hx hb dX0_mostPulled_59 (by decide) ?_
                refine lv_goto (tgt := 64) hx hb dX0_mostPulled_60 (by decide) ?_
                refine lv_istore (lv' := [(7, .int 1), (6, .int (nI j)), (5, .int (nI x)), (4, .int (nI (pOth r t))), (0, .ref (ad 0 0)), (1, .int (nI t)), (2, .int (nI mi)), (3, .int w)]) hx hb dX0_mostPulled_64 hl (by decide) rfl (fun ls hl => ?_)
                refine lv_iload hx hb dX0_mostPulled_66 (lv_at hl 0 rfl) ?_
                refine lv_if_eq (tgt := 87) hx hb dX0_mostPulled_68 (by decide) (fun c_18 => ?_) (fun c_18 => ?_)
                · skip
                  exact absurd c_18 (by decide)
                · skip
                  refine lv_aload_n hx hb dX0_mostPulled_71 rfl (lv_at hl 4 rfl) ?_
                  refine lv_iload hx hb dX0_mostPulled_72 (lv_at hl 1 rfl) ?_
                  refine lv_iload_n hx hb dX0_mostPulled_74 rfl (lv_at hl 5 rfl) ?_
                  refine lv_iload_n hx hb dX0_mostPulled_75 rfl (lv_at hl 6 rfl) ?_
                  refine x_Vi (wN := fun u_19 => (wX G ad ho rn ln dr ro lt rf th sb ++ wR G (ad 1) kd r ++ wR G (ad 2) u_19.1 u_19.2 ++ wR G (ad 3) k2 r2 ++ wK (ad 4))) ⟨C0, hK, hP, hD, hS, hA⟩ 0 rfl (ci := 0) rfl rfl ((m_areEnough l G ad kd km k2 r rm r2 ho rn ln dr ro lt rf th sb hr hp hk (nI j) t mi (by omega) (by omega))) (cwV 3 hts (lw_V q871 q873 qs39 q86 q874) rfl rfl rfl (by decide +kernel) ⟨Nat.le_of_ble_eq_true rfl, Nat.le_of_ble_eq_true rfl⟩) [0, 1, 2, 3, 4, 5, 6, 7, 8, 9, 10, 11, 12, 13, 14, 15, 16, 17, 18, 19, 20, 21, 22, 23, 24, 25, 26, 27, 28, 29, 30] [1, 3, 5, 7, 9, 11, 13, 15, 17, 19, 21, 23, 25, 27, 29, 31, 33, 35, 37, 39, 41, 43, 45, 47, 49, 51, 53, 55, 57, 59, 61] rfl (fun _ => rfl) rfl rfl hl.1 rfl (Nat.le_of_ble_eq_true rfl) dX0_mostPulled_76 ⟨Nat.le_of_ble_eq_true rfl, Nat.le_of_ble_eq_true rfl⟩ (fun r_19 u_19 H locs hw_19 hP hD hS => ?_)
                  have hw_19 : (bI (pEn r (nI j) t mi) : Int32) = r_19 := hw_19.symm
                  subst hw_19
                  have hP : va_P G.1 vwCl (wX G ad ho rn ln dr ro lt rf th sb ++ wR G (ad 1) kd r ++ wR G (ad 2) u_19.1 u_19.2 ++ wR G (ad 3) k2 r2 ++ wK (ad 4)) H := hP
                  have hD : va_D A (wX G ad ho rn ln dr ro lt rf th sb ++ wR G (ad 1) kd r ++ wR G (ad 2) u_19.1 u_19.2 ++ wR G (ad 3) k2 r2 ++ wK (ad 4)) := hD
                  refine lv_if_eq (tgt := 87) hx hb dX0_mostPulled_79 (by decide) (fun c_20 => ?_) (fun c_20 => ?_)
                  · skip
                    refine lv_iload hx hb dX0_mostPulled_87 (lv_at hl 2 rfl) ?_
                    refine lv_istore (lv' := [(5, .int (nI x)), (7, .int 1), (6, .int (nI j)), (4, .int (nI (pOth r t))), (0, .ref (ad 0 0)), (1, .int (nI t)), (2, .int (nI mi)), (3, .int w)]) hx hb dX0_mostPulled_89 hl (by decide) rfl (fun ls hl => ?_)
                    refine lv_iinc (v := nI j - 1) (lv' := [(6, .int (nI j - 1)), (5, .int (nI x)), (7, .int 1), (4, .int (nI (pOth r t))), (0, .ref (ad 0 0)), (1, .int (nI t)), (2, .int (nI mi)), (3, .int w)]) hx hb dX0_mostPulled_91 hl (k := 2) rfl (x_dec _) (by decide) rfl (fun ls hl => ?_)
                    refine lv_goto (tgt := 24) hx hb dX0_mostPulled_94 (by decide) ?_
                    exact ih_24 j (some x) _ _ (by omega) (by omega) (IsB.down (by omega) hi24_2 (if_neg (fun z => by have h8 := (Bool.and_eq_true _ _ ▸ z.1).2; rw [show pEn r (nI j) t mi = false from (by have h9 := c_20; simpa [bI_0] using h9)] at h8; cases h8)).symm) (fun y hy => by cases hy; omega) _ _ _ hP hD hS (lv_sub hl [0, 1, 3, 4, 5, 6, 7] rfl)
                  · skip
                    refine lv_iload hx hb dX0_mostPulled_82 (lv_at hl 1 rfl) ?_
                    refine lv_goto (tgt := 89) hx hb dX0_mostPulled_84 (by decide) ?_
                    refine lv_istore (lv' := [(5, .int (nI j)), (7, .int 1), (6, .int (nI j)), (4, .int (nI (pOth r t))), (0, .ref (ad 0 0)), (1, .int (nI t)), (2, .int (nI mi)), (3, .int w)]) hx hb dX0_mostPulled_89 hl (by decide) rfl (fun ls hl => ?_)
                    refine lv_iinc (v := nI j - 1) (lv' := [(6, .int (nI j - 1)), (5, .int (nI j)), (7, .int 1), (4, .int (nI (pOth r t))), (0, .ref (ad 0 0)), (1, .int (nI t)), (2, .int (nI mi)), (3, .int w)]) hx hb dX0_mostPulled_91 hl (k := 2) rfl (x_dec _) (by decide) rfl (fun ls hl => ?_)
                    refine lv_goto (tgt := 24) hx hb dX0_mostPulled_94 (by decide) ?_
                    exact ih_24 j (some j) _ _ (by omega) (by omega) (IsB.down (by omega) hi24_2 (if_pos ⟨by show (sub j (pOth r t) && pEn r (nI j) t mi) = true; rw [(sub_i (a := j) (by omega)).mp c_7, show pEn r (nI j) t mi = true from (by have h9 := c_20; simpa [bI_0] using h9)]; rfl, fun y hy => by cases hy; omega⟩).symm) (fun y hy => by cases hy; omega) _ _ _ hP hD hS (lv_sub hl [0, 1, 3, 4, 5, 6, 7] rfl)
  exact loop_24 (pOth r t + 2) (pOth r t + 1) none _ _ (by omega) (by omega) (fun j hj => by have hj : pOth r t + 1 ≤ j ∧ j ≤ pOth r t := hj; omega) (fun y hy => by cases hy) _ _ _ hP hD hS (lv_sub hl [0, 1, 2, 3, 4, 5, 6] rfl)
set_option maxHeartbeats 4000000 in
set_option maxRecDepth 100000 in
theorem m_fewestProps (l : Launch) (G : xG) (ad : Nat → Nat → Nat) (kd k1 k2 : Nat → Option Nat) (r r1 r2 : Rw) (ho rn ln dr : Int32) (ro lt rf th sb : Nat → Int32) (hr : Ok r) (hp : r 5 3 = 0) (hk : kOk (ad 4) kd r) (mi : Nat) (hmi : mi < 2 ^ 30) : xCi l G yX0_fewestProps cX0_fewestProps 6 (some .int) ({ frames := 6, cells := 0, slots := 0, locals := 133 } : Room) [.ref (ad 0 0), .int (nI mi)] (wX G ad ho rn ln dr ro lt rf th sb ++ wR G (ad 1) kd r ++ wR G (ad 2) k1 r1 ++ wR G (ad 3) k2 r2 ++ wK (ad 4)) (S := ((Nat → Option Nat) × Rw)) (fun v _ => v = nI (pProp r mi)) (fun u => (wX G ad ho rn ln dr ro lt rf th sb ++ wR G (ad 1) kd r ++ wR G (ad 2) u.1 u.2 ++ wR G (ad 3) k2 r2 ++ wK (ad 4))) := by
  refine x_openi (by decide) (Nat.le_of_ble_eq_true rfl) (fun _ _ _ => rfl) ?_
  intro p e s m args below meth c A Q ls C0 hK hP hD hA hl hret
  obtain ⟨hx, hb, hml, hown, hts⟩ := id C0
  have hS : va_S A s.heap s.heap [] := va_S.rf
  have hP : va_P G.1 vwCl (wX G ad ho rn ln dr ro lt rf th sb ++ wR G (ad 1) kd r ++ wR G (ad 2) k1 r1 ++ wR G (ad 3) k2 r2 ++ wK (ad 4)) s.heap := hP
  have hD : va_D A (wX G ad ho rn ln dr ro lt rf th sb ++ wR G (ad 1) kd r ++ wR G (ad 2) k1 r1 ++ wR G (ad 3) k2 r2 ++ wK (ad 4)) := hD
  have hl : lv_has ls 6 [(0, .ref (ad 0 0)), (1, .int (nI mi))] := hl
  have hr0 := hr.n
  have hN := hr.le
  have hW : pW r < 1024 := bn_1024 hN
  refine lv_aload_n hx hb dX0_fewestProps_0 rfl (lv_at hl 0 rfl) ?_
  refine va_get (D := G.1) (ci := 0) (v := .ref ((ad 1) 0)) (C := RX0) (T := TX0) (N := 13) hx hb hts in_X0 hown hK.1 hP 0 rfl rfl 1 (by decide) (hts _ q222) (fun _ h9 => h9) rfl dX0_fewestProps_1 ?_
  refine lv_iconst (v := 0) hx hb dX0_fewestProps_4 (by decide) ?_
  refine x_Vi (wN := fun _ => (wX G ad ho rn ln dr ro lt rf th sb ++ wR G (ad 1) kd r ++ wR G (ad 2) k1 r1 ++ wR G (ad 3) k2 r2 ++ wK (ad 4))) ⟨C0, hK, hP, hD, hS, hA⟩ 7 rfl (ci := 7) rfl rfl ((m_bits l G (ad 1) (ad 4) kd r hr hk 0)) (cwV 1 hts (lw_V q815 q643 q644 q94 q645) rfl rfl rfl (by decide +kernel) ⟨Nat.le_of_ble_eq_true rfl, Nat.le_of_ble_eq_true rfl⟩) [7, 8, 9, 10, 11, 12, 25, 26, 27, 28, 29, 30] [0, 2, 4, 6, 8, 10, 12, 1, 3, 5, 7, 9, 11, 26, 28, 30, 32, 34, 36, 38, 40, 42, 44, 46, 48, 13, 15, 17, 19, 21, 23] rfl (fun _ => rfl) rfl rfl hl.1 rfl (Nat.le_of_ble_eq_true rfl) dX0_fewestProps_5 ⟨Nat.le_of_ble_eq_true rfl, Nat.le_of_ble_eq_true rfl⟩ (fun r_1 u_1 H locs hw_1 hP hD hS => ?_)
  have hw_1 : (pSet r 0 : Int32) = r_1 := hw_1.symm
  subst hw_1
  rw [show (pSet r 0 : Int32) = nI (pW r) from (pSet_bn hN)]
  refine lv_istore_n (lv' := [(2, .int (nI (pW r))), (0, .ref (ad 0 0)), (1, .int (nI mi))]) hx hb dX0_fewestProps_8 rfl hl (by decide) rfl (fun ls hl => ?_)
  refine lv_iload_n hx hb dX0_fewestProps_9 rfl (lv_at hl 0 rfl) ?_
  refine lv_istore_n (lv' := [(3, .int (nI (pW r))), (2, .int (nI (pW r))), (0, .ref (ad 0 0)), (1, .int (nI mi))]) hx hb dX0_fewestProps_10 rfl hl (by decide) rfl (fun ls hl => ?_)
  refine lv_iload_n hx hb dX0_fewestProps_11 rfl (lv_at hl 1 rfl) ?_
  rw [show (nI (pW r) : Int32) = nI (pW r + 1) - 1 from (nI_prd _).symm]
  refine lv_istore (lv' := [(4, .int (nI (pW r + 1) - 1)), (3, .int (nI (pW r))), (2, .int (nI (pW r))), (0, .ref (ad 0 0)), (1, .int (nI mi))]) hx hb dX0_fewestProps_12 hl (by decide) rfl (fun ls hl => ?_)
  have loop_14 : ∀ (n : Nat) (k : Nat) (b : Option Nat) (km : Nat → Option Nat) (rm : Rw), (k < n) → (k ≤ pW r + 1) → (IsB wP (pPrP r mi) (fun j => k ≤ j ∧ j ≤ pW r) b) → (b.getD (pW r) < 1024) → ∀ (H : Heap) (locs : List Loc) (ls : Array Slot), va_P G.1 vwCl (wX G ad ho rn ln dr ro lt rf th sb ++ wR G (ad 1) kd r ++ wR G (ad 2) km rm ++ wR G (ad 3) k2 r2 ++ wK (ad 4)) H → va_D A (wX G ad ho rn ln dr ro lt rf th sb ++ wR G (ad 1) kd r ++ wR G (ad 2) km rm ++ wR G (ad 3) k2 r2 ++ wK (ad 4)) → va_S A s.heap H locs → lv_has ls 6 [(4, .int (nI k - 1)), (3, .int (nI (b.getD (pW r)))), (2, .int (nI (pW r))), (0, .ref (ad 0 0)), (1, .int (nI mi))] → W p l e ({ frames := 6, cells := 0, slots := 0, locals := 133 } : Room) s m args below meth c H locs 0 0 Q (F0 m 14 ls []) := by
    intro n
    induction n with
    | zero => intro k b km rm hi14_0 hi14_1 hi14_2 hi14_3; exact absurd hi14_0 (by omega)
    | succ n ih_14 =>
      intro k b km rm hi14_0 hi14_1 hi14_2 hi14_3 H locs ls hP hD hS hl
      refine lv_iload hx hb dX0_fewestProps_14 (lv_at hl 0 rfl) ?_
      refine lv_if_lt (tgt := 80) hx hb dX0_fewestProps_16 (by decide) (fun c_2 => ?_) (fun c_2 => ?_)
      · skip
        have ek : k = 0 := k_zero (by omega) c_2
        refine lv_iload_n hx hb dX0_fewestProps_80 rfl (lv_at hl 1 rfl) ?_
        refine hret _ _ _ _ _ _ (nI (b.getD (pW r))) (km, rm) dX0_fewestProps_81 ?_ hP hD hS (Nat.le_of_ble_eq_true rfl) (Nat.le_of_ble_eq_true rfl)
        subst ek
        exact congrArg nI (pProp_eq hN hi14_2)
      · skip
        obtain ⟨j, rfl⟩ := k_succ c_2
        rw [nI_prd] at hl
        refine lv_iload hx hb dX0_fewestProps_19 (lv_at hl 0 rfl) ?_
        refine lv_iload_n hx hb dX0_fewestProps_21 rfl (lv_at hl 2 rfl) ?_
        refine lv_iconst (v := (-1)) hx hb dX0_fewestProps_22 (by decide) ?_
        refine x_ixor hx hb dX0_fewestProps_23 (v := (nI (pW r)) ^^^ (-1)) rfl ?_
        refine x_iand hx hb dX0_fewestProps_24 (v := (nI j) &&& ((nI (pW r)) ^^^ (-1))) rfl ?_
        refine lv_if_ne (tgt := 74) hx hb dX0_fewestProps_25 (by decide) (fun c_3 => ?_) (fun c_3 => ?_)
        · skip
          refine lv_iinc (v := nI j - 1) (lv' := [(4, .int (nI j - 1)), (3, .int (nI (b.getD (pW r)))), (2, .int (nI (pW r))), (0, .ref (ad 0 0)), (1, .int (nI mi))]) hx hb dX0_fewestProps_74 hl (k := 0) rfl (x_dec _) (by decide) rfl (fun ls hl => ?_)
          refine lv_goto (tgt := 14) hx hb dX0_fewestProps_77 (by decide) ?_
          exact ih_14 j b _ _ (by omega) (by omega) (IsB.down (by omega) hi14_2 (if_neg (fun z => c_3 ((sub_i (a := j) (b := pW r) (by omega)).mpr (Bool.and_eq_true _ _ ▸ z.1).1))).symm) hi14_3 _ _ _ hP hD hS (lv_sub hl [0, 1, 2, 3, 4] rfl)
        · skip
          have hj9 := pc_le j
          have hx9 := pc_le (b.getD (pW r))
          refine lv_iload hx hb dX0_fewestProps_28 (lv_at hl 0 rfl) ?_
          refine x_Si (wN := fun _ => (wX G ad ho rn ln dr ro lt rf th sb ++ wR G (ad 1) kd r ++ wR G (ad 2) km rm ++ wR G (ad 3) k2 r2 ++ wK (ad 4))) ⟨C0, hK, hP, hD, hS, hA⟩ ((m_ones l G j (by omega))) (va_cwS 1 hts (lw_S q870 q776 q86 q777) rfl rfl rfl (by decide +kernel) ⟨Nat.le_of_ble_eq_true rfl, Nat.le_of_ble_eq_true rfl⟩) [] [0, 2, 4, 6, 8, 10, 12, 14, 16, 18, 20, 22, 24, 26, 28, 30, 32, 34, 36, 38, 40, 42, 44, 46, 48, 50, 52, 54, 56, 58, 60] rfl (fun _ => rfl) rfl rfl hl.1 rfl (Nat.le_of_ble_eq_true rfl) dX0_fewestProps_30 ⟨Nat.le_of_ble_eq_true rfl, Nat.le_of_ble_eq_true rfl⟩ (fun r_4 u_4 H locs hw_4 hP hD hS => ?_)
          have hw_4 : (nI (pc j) : Int32) = r_4 := hw_4.symm
          subst hw_4
          refine lv_iload_n hx hb dX0_fewestProps_33 rfl (lv_at hl 1 rfl) ?_
          refine x_Si (wN := fun _ => (wX G ad ho rn ln dr ro lt rf th sb ++ wR G (ad 1) kd r ++ wR G (ad 2) km rm ++ wR G (ad 3) k2 r2 ++ wK (ad 4))) ⟨C0, hK, hP, hD, hS, hA⟩ ((m_ones l G (b.getD (pW r)) (by omega))) (va_cwS 1 hts (lw_S q870 q776 q86 q777) rfl rfl rfl (by decide +kernel) ⟨Nat.le_of_ble_eq_true rfl, Nat.le_of_ble_eq_true rfl⟩) [] [0, 2, 4, 6, 8, 10, 12, 14, 16, 18, 20, 22, 24, 26, 28, 30, 32, 34, 36, 38, 40, 42, 44, 46, 48, 50, 52, 54, 56, 58, 60] rfl (fun _ => rfl) rfl rfl hl.1 rfl (Nat.le_of_ble_eq_true rfl) dX0_fewestProps_34 ⟨Nat.le_of_ble_eq_true rfl, Nat.le_of_ble_eq_true rfl⟩ (fun r_5 u_5 H locs hw_5 hP hD hS => ?_)
          have hw_5 : (nI (pc (b.getD (pW r))) : Int32) = r_5 := hw_5.symm
          subst hw_5
          refine lv_icmp_gt (tgt := 74) hx hb dX0_fewestProps_37 (by decide) (fun c_6 => ?_) (fun c_6 => ?_)
          · skip
            have g_6 := (nI_ltI (by omega) (by omega)).mp c_6
            refine lv_iinc (v := nI j - 1) (lv' := [(4, .int (nI j - 1)), (3, .int (nI (b.getD (pW r)))), (2, .int (nI (pW r))), (0, .ref (ad 0 0)), (1, .int (nI mi))]) hx hb dX0_fewestProps_74 hl (k := 0) rfl (x_dec _) (by decide) rfl (fun ls hl => ?_)
            refine lv_goto (tgt := 14) hx hb dX0_fewestProps_77 (by decide) ?_
            exact ih_14 j b _ _ (by omega) (by omega) (IsB.down (by omega) hi14_2 (if_neg (fun z => FP_n (by omega) (show ¬ pc j ≤ pc (b.getD (pW r)) by omega) ((sub_i (a := j) (b := pW r) (by omega)).mp c_3) z.2)).symm) hi14_3 _ _ _ hP hD hS (lv_sub hl [0, 1, 2, 3, 4] rfl)
          · skip
            have g_6 := mt (nI_ltI (by omega) (by omega)).mpr c_6
            refine lv_aload_n hx hb dX0_fewestProps_40 rfl (lv_at hl 3 rfl) ?_
            refine x_Vr (wN := fun _ => (wX G ad ho rn ln dr ro lt rf th sb ++ wR G (ad 1) kd r ++ wR G (ad 2) kd r ++ wR G (ad 3) k2 r2 ++ wK (ad 4))) ⟨C0, hK, hP, hD, hS, hA⟩ 0 rfl (ci := 0) rfl rfl ((m_openMind l G ad kd km k2 r rm r2 ho rn ln dr ro lt rf th sb hr hp hk )) (cwV 0 hts (lw_V q795 q797 qs25 q86 q798) rfl rfl rfl (by decide +kernel) ⟨Nat.le_of_ble_eq_true rfl, Nat.le_of_ble_eq_true rfl⟩) [0, 1, 2, 3, 4, 5, 6, 7, 8, 9, 10, 11, 12, 13, 14, 15, 16, 17, 18, 19, 20, 21, 22, 23, 24, 25, 26, 27, 28, 29, 30] [1, 3, 5, 7, 9, 11, 13, 15, 17, 19, 21, 23, 25, 27, 29, 31, 33, 35, 37, 39, 41, 43, 45, 47, 49, 51, 53, 55, 57, 59, 61] rfl (fun _ => rfl) rfl rfl hl.1 rfl (Nat.le_of_ble_eq_true rfl) dX0_fewestProps_41 ⟨Nat.le_of_ble_eq_true rfl, Nat.le_of_ble_eq_true rfl⟩ (fun u_7 H locs hw_7 hP hD hS => ?_)
            have hP : va_P G.1 vwCl (wX G ad ho rn ln dr ro lt rf th sb ++ wR G (ad 1) kd r ++ wR G (ad 2) kd r ++ wR G (ad 3) k2 r2 ++ wK (ad 4)) H := hP
            have hD : va_D A (wX G ad ho rn ln dr ro lt rf th sb ++ wR G (ad 1) kd r ++ wR G (ad 2) kd r ++ wR G (ad 3) k2 r2 ++ wK (ad 4)) := hD
            refine lv_astore (lv' := [(5, .ref ((ad 2) 0)), (4, .int (nI j)), (3, .int (nI (b.getD (pW r)))), (2, .int (nI (pW r))), (0, .ref (ad 0 0)), (1, .int (nI mi))]) hx hb dX0_fewestProps_44 hl (by decide) rfl (fun ls hl => ?_)
            refine lv_aload hx hb dX0_fewestProps_46 (lv_at hl 0 rfl) ?_
            refine lv_iload hx hb dX0_fewestProps_48 (lv_at hl 1 rfl) ?_
            refine va_putN (D := G.1) (ci := 7) (v := .int (nI j)) (ty := .int) (C := RX8) (T := TX8) (N := 9) hx hb hts in_X8 tyX8 tyX8_ok nmX8 hown hK.1 hP hD hS 13 rfl rfl 8 (by decide) (va_Nw.use rfl (hK.2.F 16 rfl)) (fun _ h9 => h9) rfl (by decide +kernel) rfl rfl (Nat.le_of_ble_eq_true rfl) dX0_fewestProps_50 (fun H locs hP hD hS => ?_)
            have hP : va_P G.1 vwCl (wX G ad ho rn ln dr ro lt rf th sb ++ wR G (ad 1) kd r ++ wR G (ad 2) kd (sf r 5 (upd (r 5) 3 (nI j))) ++ wR G (ad 3) k2 r2 ++ wK (ad 4)) H := hP
            have hD : va_D A (wX G ad ho rn ln dr ro lt rf th sb ++ wR G (ad 1) kd r ++ wR G (ad 2) kd (sf r 5 (upd (r 5) 3 (nI j))) ++ wR G (ad 3) k2 r2 ++ wK (ad 4)) := hD
            refine lv_aload hx hb dX0_fewestProps_53 (lv_at hl 0 rfl) ?_
            refine lv_iload_n hx hb dX0_fewestProps_55 rfl (lv_at hl 5 rfl) ?_
            refine x_Vr (wN := fun _ => (wX G ad ho rn ln dr ro lt rf th sb ++ wR G (ad 1) kd r ++ wR G (ad 2) kd (pMins (sf r 5 (upd (r 5) 3 (nI j))) mi) ++ wR G (ad 3) k2 r2 ++ wK (ad 4))) ⟨C0, hK, hP, hD, hS, hA⟩ 13 rfl (ci := 7) rfl rfl ((m_minutesOn l G (ad 2) (ad 4) kd (sf r 5 (upd (r 5) 3 (nI j))) (Ok.h3 hr) (kOk.h3 hk) mi hmi)) (cwV 1 hts (lw_V q770 q623 q624 q94 q625) rfl rfl rfl (by decide +kernel) ⟨Nat.le_of_ble_eq_true rfl, Nat.le_of_ble_eq_true rfl⟩) [13, 14, 15, 16, 17, 18, 25, 26, 27, 28, 29, 30] [0, 2, 4, 6, 8, 10, 12, 14, 16, 18, 20, 22, 24, 1, 3, 5, 7, 9, 11, 38, 40, 42, 44, 46, 48, 13, 15, 17, 19, 21, 23] rfl (fun _ => rfl) rfl rfl hl.1 rfl (Nat.le_of_ble_eq_true rfl) dX0_fewestProps_56 ⟨Nat.le_of_ble_eq_true rfl, Nat.le_of_ble_eq_true rfl⟩ (fun u_8 H locs hw_8 hP hD hS => ?_)
            have hP : va_P G.1 vwCl (wX G ad ho rn ln dr ro lt rf th sb ++ wR G (ad 1) kd r ++ wR G (ad 2) kd (pMins (sf r 5 (upd (r 5) 3 (nI j))) mi) ++ wR G (ad 3) k2 r2 ++ wK (ad 4)) H := hP
            have hD : va_D A (wX G ad ho rn ln dr ro lt rf th sb ++ wR G (ad 1) kd r ++ wR G (ad 2) kd (pMins (sf r 5 (upd (r 5) 3 (nI j))) mi) ++ wR G (ad 3) k2 r2 ++ wK (ad 4)) := hD
            refine lv_iconst (v := 0) hx hb dX0_fewestProps_59 (by decide) ?_
            refine x_Vi (wN := fun _ => (wX G ad ho rn ln dr ro lt rf th sb ++ wR G (ad 1) kd r ++ wR G (ad 2) kd (pMins (sf r 5 (upd (r 5) 3 (nI j))) mi) ++ wR G (ad 3) k2 r2 ++ wK (ad 4))) ⟨C0, hK, hP, hD, hS, hA⟩ 13 rfl (ci := 7) rfl rfl ((m_bits l G (ad 2) (ad 4) kd (pMins (sf r 5 (upd (r 5) 3 (nI j))) mi) (Ok.mins (Ok.h3 hr)) (kOk.mins (kOk.h3 hk)) 0)) (cwV 1 hts (lw_V q815 q643 q644 q94 q645) rfl rfl rfl (by decide +kernel) ⟨Nat.le_of_ble_eq_true rfl, Nat.le_of_ble_eq_true rfl⟩) [13, 14, 15, 16, 17, 18, 25, 26, 27, 28, 29, 30] [0, 2, 4, 6, 8, 10, 12, 14, 16, 18, 20, 22, 24, 1, 3, 5, 7, 9, 11, 38, 40, 42, 44, 46, 48, 13, 15, 17, 19, 21, 23] rfl (fun _ => rfl) rfl rfl hl.1 rfl (Nat.le_of_ble_eq_true rfl) dX0_fewestProps_60 ⟨Nat.le_of_ble_eq_true rfl, Nat.le_of_ble_eq_true rfl⟩ (fun r_9 u_9 H locs hw_9 hP hD hS => ?_)
            have hw_9 : (pSet (pMins (sf r 5 (upd (r 5) 3 (nI j))) mi) 0 : Int32) = r_9 := hw_9.symm
            subst hw_9
            refine lv_iload_n hx hb dX0_fewestProps_63 rfl (lv_at hl 3 rfl) ?_
            refine lv_icmp_ne (tgt := 72) hx hb dX0_fewestProps_64 (by decide) (fun c_10 => ?_) (fun c_10 => ?_)
            · skip
              refine lv_iload_n hx hb dX0_fewestProps_72 rfl (lv_at hl 2 rfl) ?_
              refine lv_istore_n (lv' := [(3, .int (nI (b.getD (pW r)))), (5, .ref ((ad 2) 0)), (4, .int (nI j)), (2, .int (nI (pW r))), (0, .ref (ad 0 0)), (1, .int (nI mi))]) hx hb dX0_fewestProps_73 rfl hl (by decide) rfl (fun ls hl => ?_)
              refine lv_iinc (v := nI j - 1) (lv' := [(4, .int (nI j - 1)), (3, .int (nI (b.getD (pW r)))), (5, .ref ((ad 2) 0)), (2, .int (nI (pW r))), (0, .ref (ad 0 0)), (1, .int (nI mi))]) hx hb dX0_fewestProps_74 hl (k := 2) rfl (x_dec _) (by decide) rfl (fun ls hl => ?_)
              refine lv_goto (tgt := 14) hx hb dX0_fewestProps_77 (by decide) ?_
              exact ih_14 j b _ _ (by omega) (by omega) (IsB.down (by omega) hi14_2 (if_neg (fun z => c_10 (of_decide_eq_true (Bool.and_eq_true _ _ ▸ z.1).2))).symm) hi14_3 _ _ _ hP hD hS (lv_sub hl [0, 1, 3, 4, 5] rfl)
            · skip
              refine lv_iload hx hb dX0_fewestProps_67 (lv_at hl 1 rfl) ?_
              refine lv_goto (tgt := 73) hx hb dX0_fewestProps_69 (by decide) ?_
              refine lv_istore_n (lv' := [(3, .int (nI j)), (5, .ref ((ad 2) 0)), (4, .int (nI j)), (2, .int (nI (pW r))), (0, .ref (ad 0 0)), (1, .int (nI mi))]) hx hb dX0_fewestProps_73 rfl hl (by decide) rfl (fun ls hl => ?_)
              refine lv_iinc (v := nI j - 1) (lv' := [(4, .int (nI j - 1)), (3, .int (nI j)), (5, .ref ((ad 2) 0)), (2, .int (nI (pW r))), (0, .ref (ad 0 0)), (1, .int (nI mi))]) hx hb dX0_fewestProps_74 hl (k := 2) rfl (x_dec _) (by decide) rfl (fun ls hl => ?_)
              refine lv_goto (tgt := 14) hx hb dX0_fewestProps_77 (by decide) ?_
              exact ih_14 j (some j) _ _ (by omega) (by omega) (IsB.down (by omega) hi14_2 (if_pos ⟨by show (sub j (pW r) && decide (pSet (pMins (pPrS r j) mi) 0 = nI (pW r))) = true; rw [(sub_i (a := j) (b := pW r) (by omega)).mp c_3, decide_eq_true (show pSet (pMins (pPrS r j) mi) 0 = nI (pW r) from c_10)]; rfl, FP_y (show pc j ≤ pc (b.getD (pW r)) by omega)⟩).symm) (by show j < 1024; omega) _ _ _ hP hD hS (lv_sub hl [0, 1, 3, 4, 5] rfl)
  exact loop_14 (pW r + 2) (pW r + 1) none _ _ (by omega) (by omega) (fun j hj => by have hj : pW r + 1 ≤ j ∧ j ≤ pW r := hj; omega) (by show pW r < 1024; omega) _ _ _ hP hD hS (lv_sub hl [0, 1, 2, 3, 4] rfl)

/-! methods in mind, 4 (printed by tools/mind4.py) -/
set_option maxHeartbeats 4000000 in
set_option maxRecDepth 100000 in
theorem m_drawBelow (l : Launch) (G : xG) (ad : Nat → Nat → Nat) (kd k1 k2 : Nat → Option Nat) (r r1 r2 : Rw) (ho rn ln dr : Int32) (ro lt rf th sb : Nat → Int32) (hr : Ok r) (hp : r 5 3 = 0) (hk : kOk (ad 4) kd r) (q : Nat) (hq0 : 0 < q) (hq1 : q < 2 ^ 31) : xCi l G yX0_drawBelow cX0_drawBelow 2 (some .int) ({ frames := 0, cells := 0, slots := 0, locals := 0 } : Room) [.ref (ad 0 0), .int (nI q)] (wX G ad ho rn ln dr ro lt rf th sb ++ wR G (ad 1) kd r ++ wR G (ad 2) k1 r1 ++ wR G (ad 3) k2 r2 ++ wK (ad 4)) (S := Unit) (fun v _ => v = nI (dJ (dS dr) q)) (fun _ => (wX G ad ho rn ln (dS dr) ro lt rf th sb ++ wR G (ad 1) kd r ++ wR G (ad 2) k1 r1 ++ wR G (ad 3) k2 r2 ++ wK (ad 4))) := by
  refine x_openi (by decide) (Nat.le_of_ble_eq_true rfl) (fun _ _ _ => rfl) ?_
  intro p e s m args below meth c A Q ls C0 hK hP hD hA hl hret
  obtain ⟨hx, hb, hml, hown, hts⟩ := id C0
  have hS : va_S A s.heap s.heap [] := va_S.rf
  have hP : va_P G.1 vwCl (wX G ad ho rn ln dr ro lt rf th sb ++ wR G (ad 1) kd r ++ wR G (ad 2) k1 r1 ++ wR G (ad 3) k2 r2 ++ wK (ad 4)) s.heap := hP
  have hD : va_D A (wX G ad ho rn ln dr ro lt rf th sb ++ wR G (ad 1) kd r ++ wR G (ad 2) k1 r1 ++ wR G (ad 3) k2 r2 ++ wK (ad 4)) := hD
  have hl : lv_has ls 2 [(0, .ref (ad 0 0)), (1, .int (nI q))] := hl
  have hr0 := hr.n
  have hN := hr.le
  refine lv_aload_n hx hb dX0_drawBelow_0 rfl (lv_at hl 0 rfl) ?_
  refine lv_aload_n hx hb dX0_drawBelow_1 rfl (lv_at hl 0 rfl) ?_
  refine va_get (D := G.1) (ci := 0) (v := .int dr) (C := RX0) (T := TX0) (N := 13) hx hb hts in_X0 hown hK.1 hP 0 rfl rfl 12 (by decide) (hts _ q235) (fun _ h9 => h9) rfl dX0_drawBelow_2 ?_
  refine lv_ldc (v := 1664525) hx hb hown (hts _ q987) dX0_drawBelow_5 ?_
  refine x_imul hx hb dX0_drawBelow_7 (v := dr * 1664525) rfl ?_
  refine lv_ldc (v := 1013904223) hx hb hown (hts _ q988) dX0_drawBelow_8 ?_
  refine x_iadd hx hb dX0_drawBelow_10 (v := dS dr) rfl ?_
  refine va_put (D := G.1) (ci := 0) (v := .int (dS dr)) (ty := .int) (C := RX0) (T := TX0) (N := 13) hx hb hts in_X0 tyX0 tyX0_ok nmX0 hown hK.1 hP hD hS 0 rfl rfl 12 (by decide) (hts _ q235) (fun _ h9 => h9) rfl (by decide +kernel) rfl rfl (Nat.le_of_ble_eq_true rfl) dX0_drawBelow_11 (fun H locs hP hD hS => ?_)
  have hP : va_P G.1 vwCl (wX G ad ho rn ln (dS dr) ro lt rf th sb ++ wR G (ad 1) kd r ++ wR G (ad 2) k1 r1 ++ wR G (ad 3) k2 r2 ++ wK (ad 4)) H := hP
  have hD : va_D A (wX G ad ho rn ln (dS dr) ro lt rf th sb ++ wR G (ad 1) kd r ++ wR G (ad 2) k1 r1 ++ wR G (ad 3) k2 r2 ++ wK (ad 4)) := hD
  refine lv_aload_n hx hb dX0_drawBelow_14 rfl (lv_at hl 0 rfl) ?_
  refine va_get (D := G.1) (ci := 0) (v := .int (dS dr)) (C := RX0) (T := TX0) (N := 13) hx hb hts in_X0 hown hK.1 hP 0 rfl rfl 12 (by decide) (hts _ q235) (fun _ h9 => h9) rfl dX0_drawBelow_15 ?_
  refine lv_ldc (v := 2147483647) hx hb hown (hts _ q989) dX0_drawBelow_18 ?_
  refine x_iand hx hb dX0_drawBelow_20 (v := (dS dr) &&& 2147483647) rfl ?_
  refine lv_sipush (v := 256) hx hb dX0_drawBelow_21 (by decide) ?_
  refine x_idiv hx hb dX0_drawBelow_24 (by decide) (v := nI ((dS dr).toBitVec.toNat % 2 ^ 31 / 256)) (dB_i _) ?_
  refine lv_iload_n hx hb dX0_drawBelow_25 rfl (lv_at hl 1 rfl) ?_
  refine x_irem hx hb dX0_drawBelow_26 (nI_n0 hq0 hq1) (v := nI (dJ (dS dr) q)) (dJ_i _ hq0 hq1) ?_
  refine hret _ _ _ _ _ _ (nI (dJ (dS dr) q)) () dX0_drawBelow_27 ?_ hP hD hS (Nat.le_of_ble_eq_true rfl) (Nat.le_of_ble_eq_true rfl)
  rfl
set_option maxHeartbeats 4000000 in
set_option maxRecDepth 100000 in
theorem m_byLots (l : Launch) (G : xG) (ad : Nat → Nat → Nat) (kd k1 k2 : Nat → Option Nat) (r r1 r2 : Rw) (ho rn ln dr : Int32) (ro lt rf th sb : Nat → Int32) (hr : Ok r) (hp : r 5 3 = 0) (hk : kOk (ad 4) kd r) (cnt : Nat) (hcnt : cnt < 2 ^ 30) (z w : Int32) (hm0 : 0 < mny r) : xCi l G yX0_byLots cX0_byLots 10 (some .int) ({ frames := 6, cells := 0, slots := 0, locals := 130 } : Room) [.ref (ad 0 0), .int (nI cnt), .int z, .int w] (wX G ad ho rn ln dr ro lt rf th sb ++ wR G (ad 1) kd r ++ wR G (ad 2) k1 r1 ++ wR G (ad 3) k2 r2 ++ wK (ad 4)) (S := (((Nat → Option Nat) × Rw) × Int32)) (fun v _ => v = (lSum r w z cnt).2) (fun u => (wX G ad ho rn ln u.2 ro lt rf th sb ++ wR G (ad 1) kd r ++ wR G (ad 2) u.1.1 u.1.2 ++ wR G (ad 3) k2 r2 ++ wK (ad 4))) := by
  refine x_openi (by decide) (Nat.le_of_ble_eq_true rfl) (fun _ _ _ => rfl) ?_
  intro p e s m args below meth c A Q ls C0 hK hP hD hA hl hret
  obtain ⟨hx, hb, hml, hown, hts⟩ := id C0
  have hS : va_S A s.heap s.heap [] := va_S.rf
  have hP : va_P G.1 vwCl (wX G ad ho rn ln dr ro lt rf th sb ++ wR G (ad 1) kd r ++ wR G (ad 2) k1 r1 ++ wR G (ad 3) k2 r2 ++ wK (ad 4)) s.heap := hP
  have hD : va_D A (wX G ad ho rn ln dr ro lt rf th sb ++ wR G (ad 1) kd r ++ wR G (ad 2) k1 r1 ++ wR G (ad 3) k2 r2 ++ wK (ad 4)) := hD
  have hl : lv_has ls 10 [(0, .ref (ad 0 0)), (1, .int (nI cnt)), (2, .int z), (3, .int w)] := hl
  have hr0 := hr.n
  have hN := hr.le
  refine lv_aload_n hx hb dX0_byLots_0 rfl (lv_at hl 0 rfl) ?_
  refine lv_iload_n hx hb dX0_byLots_1 rfl (lv_at hl 2 rfl) ?_
  refine va_put (D := G.1) (ci := 0) (v := .int z) (ty := .int) (C := RX0) (T := TX0) (N := 13) hx hb hts in_X0 tyX0 tyX0_ok nmX0 hown hK.1 hP hD hS 0 rfl rfl 12 (by decide) (hts _ q235) (fun _ h9 => h9) rfl (by decide +kernel) rfl rfl (Nat.le_of_ble_eq_true rfl) dX0_byLots_2 (fun H locs hP hD hS => ?_)
  have hP : va_P G.1 vwCl (wX G ad ho rn ln z ro lt rf th sb ++ wR G (ad 1) kd r ++ wR G (ad 2) k1 r1 ++ wR G (ad 3) k2 r2 ++ wK (ad 4)) H := hP
  have hD : va_D A (wX G ad ho rn ln z ro lt rf th sb ++ wR G (ad 1) kd r ++ wR G (ad 2) k1 r1 ++ wR G (ad 3) k2 r2 ++ wK (ad 4)) := hD
  refine lv_iconst (v := 0) hx hb dX0_byLots_5 (by decide) ?_
  refine lv_istore (lv' := [(4, .int 0), (0, .ref (ad 0 0)), (1, .int (nI cnt)), (2, .int z), (3, .int w)]) hx hb dX0_byLots_6 hl (by decide) rfl (fun ls hl => ?_)
  refine lv_iconst (v := 0) hx hb dX0_byLots_8 (by decide) ?_
  refine lv_istore (lv' := [(5, .int 0), (4, .int 0), (0, .ref (ad 0 0)), (1, .int (nI cnt)), (2, .int z), (3, .int w)]) hx hb dX0_byLots_9 hl (by decide) rfl (fun ls hl => ?_)
  have loop_11 : ∀ (n : Nat) (k : Nat) (km : Nat → Option Nat) (rm : Rw), (k ≤ cnt) → (cnt < k + n) → ∀ (H : Heap) (locs : List Loc) (ls : Array Slot), va_P G.1 vwCl (wX G ad ho rn ln ((lSum r w z k).1) ro lt rf th sb ++ wR G (ad 1) kd r ++ wR G (ad 2) km rm ++ wR G (ad 3) k2 r2 ++ wK (ad 4)) H → va_D A (wX G ad ho rn ln ((lSum r w z k).1) ro lt rf th sb ++ wR G (ad 1) kd r ++ wR G (ad 2) km rm ++ wR G (ad 3) k2 r2 ++ wK (ad 4)) → va_S A s.heap H locs → lv_has ls 10 [(5, .int (nI k)), (4, .int ((lSum r w z k).2)), (0, .ref (ad 0 0)), (1, .int (nI cnt)), (2, .int z), (3, .int w)] → W p l e ({ frames := 6, cells := 0, slots := 0, locals := 130 } : Room) s m args below meth c H locs 0 0 Q (F0 m 11 ls []) := by
    intro n
    induction n with
    | zero => intro k km rm hi11_0 hi11_1; exact absurd hi11_1 (by omega)
    | succ n ih_11 =>
      intro k km rm hi11_0 hi11_1 H locs ls hP hD hS hl
      refine lv_iload hx hb dX0_byLots_11 (lv_at hl 0 rfl) ?_
      refine lv_iload_n hx hb dX0_byLots_13 rfl (lv_at hl 3 rfl) ?_
      refine lv_icmp_ge (tgt := 111) hx hb dX0_byLots_14 (by decide) (fun c_1 => ?_) (fun c_1 => ?_)
      · skip
        have g_1 := (nI_leI (by omega) (by omega)).mp c_1
        refine lv_iload hx hb dX0_byLots_111 (lv_at hl 1 rfl) ?_
        refine hret _ _ _ _ _ _ ((lSum r w z k).2) ((km, rm), (lSum r w z k).1) dX0_byLots_113 ?_ hP hD hS (Nat.le_of_ble_eq_true rfl) (Nat.le_of_ble_eq_true rfl)
        rw [show k = cnt by omega]
      · skip
        have g_1 := mt (nI_leI (by omega) (by omega)).mpr c_1
        refine lv_aload_n hx hb dX0_byLots_17 rfl (lv_at hl 2 rfl) ?_
        refine x_Vr (wN := fun _ => (wX G ad ho rn ln ((lSum r w z k).1) ro lt rf th sb ++ wR G (ad 1) kd r ++ wR G (ad 2) kd r ++ wR G (ad 3) k2 r2 ++ wK (ad 4))) ⟨C0, hK, hP, hD, hS, hA⟩ 0 rfl (ci := 0) rfl rfl ((m_openMind l G ad kd km k2 r rm r2 ho rn ln ((lSum r w z k).1) ro lt rf th sb hr hp hk )) (cwV 0 hts (lw_V q795 q797 qs25 q86 q798) rfl rfl rfl (by decide +kernel) ⟨Nat.le_of_ble_eq_true rfl, Nat.le_of_ble_eq_true rfl⟩) [0, 1, 2, 3, 4, 5, 6, 7, 8, 9, 10, 11, 12, 13, 14, 15, 16, 17, 18, 19, 20, 21, 22, 23, 24, 25, 26, 27, 28, 29, 30] [1, 3, 5, 7, 9, 11, 13, 15, 17, 19, 21, 23, 25, 27, 29, 31, 33, 35, 37, 39, 41, 43, 45, 47, 49, 51, 53, 55, 57, 59, 61] rfl (fun _ => rfl) rfl rfl hl.1 rfl (Nat.le_of_ble_eq_true rfl) dX0_byLots_18 ⟨(Nat.le_of_ble_eq_true rfl), (Nat.le_of_ble_eq_true rfl)⟩ (fun u_2 H locs hw_2 hP hD hS => ?_)
        have hP : va_P G.1 vwCl (wX G ad ho rn ln ((lSum r w z k).1) ro lt rf th sb ++ wR G (ad 1) kd r ++ wR G (ad 2) kd r ++ wR G (ad 3) k2 r2 ++ wK (ad 4)) H := hP
        have hD : va_D A (wX G ad ho rn ln ((lSum r w z k).1) ro lt rf th sb ++ wR G (ad 1) kd r ++ wR G (ad 2) kd r ++ wR G (ad 3) k2 r2 ++ wK (ad 4)) := hD
        refine lv_astore (lv' := [(6, .ref ((ad 2) 0)), (5, .int (nI k)), (4, .int ((lSum r w z k).2)), (0, .ref (ad 0 0)), (1, .int (nI cnt)), (2, .int z), (3, .int w)]) hx hb dX0_byLots_21 hl (by decide) rfl (fun ls hl => ?_)
        refine lv_iconst (v := 0) hx hb dX0_byLots_23 (by decide) ?_
        refine lv_istore (lv' := [(7, .int 0), (6, .ref ((ad 2) 0)), (5, .int (nI k)), (4, .int ((lSum r w z k).2)), (0, .ref (ad 0 0)), (1, .int (nI cnt)), (2, .int z), (3, .int w)]) hx hb dX0_byLots_24 hl (by decide) rfl (fun ls hl => ?_)
        have loop_26 : ∀ (n : Nat) (i : Nat) (sd : Int32) (q : Rw), (i ≤ 5) → (5 < i + n) → (Ok q) → (kOk (ad 4) kd q) → (q 5 3 = 0) → (mny q = mny r) → (lRun r (lSum r w z k).1 i = (sd, q)) → ∀ (H : Heap) (locs : List Loc) (ls : Array Slot), va_P G.1 vwCl (wX G ad ho rn ln sd ro lt rf th sb ++ wR G (ad 1) kd r ++ wR G (ad 2) kd q ++ wR G (ad 3) k2 r2 ++ wK (ad 4)) H → va_D A (wX G ad ho rn ln sd ro lt rf th sb ++ wR G (ad 1) kd r ++ wR G (ad 2) kd q ++ wR G (ad 3) k2 r2 ++ wK (ad 4)) → va_S A s.heap H locs → lv_has ls 10 [(7, .int (nI i)), (6, .ref ((ad 2) 0)), (5, .int (nI k)), (4, .int ((lSum r w z k).2)), (0, .ref (ad 0 0)), (1, .int (nI cnt)), (2, .int z), (3, .int w)] → W p l e ({ frames := 6, cells := 0, slots := 0, locals := 130 } : Room) s m args below meth c H locs 0 0 Q (F0 m 26 ls []) := by
          intro n
          induction n with
          | zero => intro i sd q hi26_0 hi26_1 hi26_2 hi26_3 hi26_4 hi26_5 hi26_6; exact absurd hi26_1 (by omega)
          | succ n ih_26 =>
            intro i sd q hi26_0 hi26_1 hi26_2 hi26_3 hi26_4 hi26_5 hi26_6 H locs ls hP hD hS hl
            refine lv_iload hx hb dX0_byLots_26 (lv_at hl 0 rfl) ?_
            refine lv_iconst (v := 5) hx hb dX0_byLots_28 (by decide) ?_
            refine lv_icmp_ge (tgt := 83) hx hb dX0_byLots_29 (by decide) (fun c_3 => ?_) (fun c_3 => ?_)
            · skip
              have g_3 := (nI_leI (by omega) (by omega)).mp (show nI i ≥ nI 5 from c_3)
              obtain rfl : i = 5 := by omega
              refine lv_iload hx hb dX0_byLots_83 (lv_at hl 3 rfl) ?_
              refine lv_aload hx hb dX0_byLots_85 (lv_at hl 1 rfl) ?_
              refine lv_iload_n hx hb dX0_byLots_87 rfl (lv_at hl 7 rfl) ?_
              refine lv_if_ne (tgt := 95) hx hb dX0_byLots_88 (by decide) (fun c_4 => ?_) (fun c_4 => ?_)
              · skip
                refine lv_iconst (v := 1) hx hb dX0_byLots_95 (by decide) ?_
                refine x_Vi (wN := fun _ => (wX G ad ho rn ln sd ro lt rf th sb ++ wR G (ad 1) kd r ++ wR G (ad 2) kd q ++ wR G (ad 3) k2 r2 ++ wK (ad 4))) ⟨C0, hK, hP, hD, hS, hA⟩ 13 rfl (ci := 7) rfl rfl ((m_bits l G (ad 2) (ad 4) kd q hi26_2 hi26_3 1)) (cwV 1 hts (lw_V q815 q643 q644 q94 q645) rfl rfl rfl (by decide +kernel) ⟨Nat.le_of_ble_eq_true rfl, Nat.le_of_ble_eq_true rfl⟩) [13, 14, 15, 16, 17, 18, 25, 26, 27, 28, 29, 30] [0, 2, 4, 6, 8, 10, 12, 14, 16, 18, 20, 22, 24, 1, 3, 5, 7, 9, 11, 38, 40, 42, 44, 46, 48, 13, 15, 17, 19, 21, 23] rfl (fun _ => rfl) rfl rfl hl.1 rfl (Nat.le_of_ble_eq_true rfl) dX0_byLots_96 ⟨(Nat.le_of_ble_eq_true rfl), (Nat.le_of_ble_eq_true rfl)⟩ (fun r_5 u_5 H locs hw_5 hP hD hS => ?_)
                have hw_5 : (pSet q 1 : Int32) = r_5 := hw_5.symm
                subst hw_5
                have hNq := hi26_2.le
                rw [show (pSet q 1 : Int32) = nI (bn (pHow q 1) (mny q)) from (pSet_bn hNq)]
                refine x_Si (wN := fun _ => (wX G ad ho rn ln sd ro lt rf th sb ++ wR G (ad 1) kd r ++ wR G (ad 2) kd q ++ wR G (ad 3) k2 r2 ++ wK (ad 4))) ⟨C0, hK, hP, hD, hS, hA⟩ ((m_ones l G (bn (pHow q 1) (mny q)) (bn_1024 hNq))) (va_cwS 1 hts (lw_S q870 q776 q86 q777) rfl rfl rfl (by decide +kernel) ⟨Nat.le_of_ble_eq_true rfl, Nat.le_of_ble_eq_true rfl⟩) [] [0, 2, 4, 6, 8, 10, 12, 14, 16, 18, 20, 22, 24, 26, 28, 30, 32, 34, 36, 38, 40, 42, 44, 46, 48, 50, 52, 54, 56, 58, 60] rfl (fun _ => rfl) rfl rfl hl.1 rfl (Nat.le_of_ble_eq_true rfl) dX0_byLots_99 ⟨(Nat.le_of_ble_eq_true rfl), (Nat.le_of_ble_eq_true rfl)⟩ (fun r_6 u_6 H locs hw_6 hP hD hS => ?_)
                have hw_6 : (nI (pc (bn (pHow q 1) (mny q))) : Int32) = r_6 := hw_6.symm
                subst hw_6
                refine x_iadd hx hb dX0_byLots_102 (v := (lSum r w z (k + 1)).2) (lSum_2 hi26_6 hNq (if_neg c_4)) ?_
                refine lv_istore (lv' := [(4, .int ((lSum r w z (k + 1)).2)), (7, .int (nI 5)), (6, .ref ((ad 2) 0)), (5, .int (nI k)), (0, .ref (ad 0 0)), (1, .int (nI cnt)), (2, .int z), (3, .int w)]) hx hb dX0_byLots_103 hl (by decide) rfl (fun ls hl => ?_)
                refine lv_iinc (v := nI (k + 1)) (lv' := [(5, .int (nI (k + 1))), (4, .int ((lSum r w z (k + 1)).2)), (7, .int (nI 5)), (6, .ref ((ad 2) 0)), (0, .ref (ad 0 0)), (1, .int (nI cnt)), (2, .int z), (3, .int w)]) hx hb dX0_byLots_105 hl (k := 3) rfl (x_inc1 _) (by decide) rfl (fun ls hl => ?_)
                refine lv_goto (tgt := 11) hx hb dX0_byLots_108 (by decide) ?_
                rw [lSum_1 hi26_6] at hP hD
                exact ih_11 (k + 1) _ _ (by omega) (by omega) _ _ _ hP hD hS (lv_sub hl [0, 1, 4, 5, 6, 7] rfl)
              · skip
                refine lv_iconst (v := 0) hx hb dX0_byLots_91 (by decide) ?_
                refine lv_goto (tgt := 96) hx hb dX0_byLots_92 (by decide) ?_
                refine x_Vi (wN := fun _ => (wX G ad ho rn ln sd ro lt rf th sb ++ wR G (ad 1) kd r ++ wR G (ad 2) kd q ++ wR G (ad 3) k2 r2 ++ wK (ad 4))) ⟨C0, hK, hP, hD, hS, hA⟩ 13 rfl (ci := 7) rfl rfl ((m_bits l G (ad 2) (ad 4) kd q hi26_2 hi26_3 0)) (cwV 1 hts (lw_V q815 q643 q644 q94 q645) rfl rfl rfl (by decide +kernel) ⟨Nat.le_of_ble_eq_true rfl, Nat.le_of_ble_eq_true rfl⟩) [13, 14, 15, 16, 17, 18, 25, 26, 27, 28, 29, 30] [0, 2, 4, 6, 8, 10, 12, 14, 16, 18, 20, 22, 24, 1, 3, 5, 7, 9, 11, 38, 40, 42, 44, 46, 48, 13, 15, 17, 19, 21, 23] rfl (fun _ => rfl) rfl rfl hl.1 rfl (Nat.le_of_ble_eq_true rfl) dX0_byLots_96 ⟨(Nat.le_of_ble_eq_true rfl), (Nat.le_of_ble_eq_true rfl)⟩ (fun r_7 u_7 H locs hw_7 hP hD hS => ?_)
                have hw_7 : (pSet q 0 : Int32) = r_7 := hw_7.symm
                subst hw_7
                have hNq := hi26_2.le
                rw [show (pSet q 0 : Int32) = nI (bn (pHow q 0) (mny q)) from (pSet_bn hNq)]
                refine x_Si (wN := fun _ => (wX G ad ho rn ln sd ro lt rf th sb ++ wR G (ad 1) kd r ++ wR G (ad 2) kd q ++ wR G (ad 3) k2 r2 ++ wK (ad 4))) ⟨C0, hK, hP, hD, hS, hA⟩ ((m_ones l G (bn (pHow q 0) (mny q)) (bn_1024 hNq))) (va_cwS 1 hts (lw_S q870 q776 q86 q777) rfl rfl rfl (by decide +kernel) ⟨Nat.le_of_ble_eq_true rfl, Nat.le_of_ble_eq_true rfl⟩) [] [0, 2, 4, 6, 8, 10, 12, 14, 16, 18, 20, 22, 24, 26, 28, 30, 32, 34, 36, 38, 40, 42, 44, 46, 48, 50, 52, 54, 56, 58, 60] rfl (fun _ => rfl) rfl rfl hl.1 rfl (Nat.le_of_ble_eq_true rfl) dX0_byLots_99 ⟨(Nat.le_of_ble_eq_true rfl), (Nat.le_of_ble_eq_true rfl)⟩ (fun r_8 u_8 H locs hw_8 hP hD hS => ?_)
                have hw_8 : (nI (pc (bn (pHow q 0) (mny q))) : Int32) = r_8 := hw_8.symm
                subst hw_8
                refine x_iadd hx hb dX0_byLots_102 (v := (lSum r w z (k + 1)).2) (lSum_2 hi26_6 hNq (if_pos c_4)) ?_
                refine lv_istore (lv' := [(4, .int ((lSum r w z (k + 1)).2)), (7, .int (nI 5)), (6, .ref ((ad 2) 0)), (5, .int (nI k)), (0, .ref (ad 0 0)), (1, .int (nI cnt)), (2, .int z), (3, .int w)]) hx hb dX0_byLots_103 hl (by decide) rfl (fun ls hl => ?_)
                refine lv_iinc (v := nI (k + 1)) (lv' := [(5, .int (nI (k + 1))), (4, .int ((lSum r w z (k + 1)).2)), (7, .int (nI 5)), (6, .ref ((ad 2) 0)), (0, .ref (ad 0 0)), (1, .int (nI cnt)), (2, .int z), (3, .int w)]) hx hb dX0_byLots_105 hl (k := 3) rfl (x_inc1 _) (by decide) rfl (fun ls hl => ?_)
                refine lv_goto (tgt := 11) hx hb dX0_byLots_108 (by decide) ?_
                rw [lSum_1 hi26_6] at hP hD
                exact ih_11 (k + 1) _ _ (by omega) (by omega) _ _ _ hP hD hS (lv_sub hl [0, 1, 4, 5, 6, 7] rfl)
            · skip
              have g_3 := mt (nI_leI (by omega) (by omega)).mpr (show ¬ (nI i ≥ nI 5) from c_3)
              refine lv_aload_n hx hb dX0_byLots_32 rfl (lv_at hl 4 rfl) ?_
              refine lv_aload hx hb dX0_byLots_33 (lv_at hl 1 rfl) ?_
              refine va_getN (D := G.1) (ci := 7) (v := .int (nI (mny r))) (C := RX8) (T := TX8) (N := 9) hx hb hts in_X8 hown hK.1 hP 13 rfl rfl 0 (by decide) (va_Nw.use rfl (hK.2.F 4 rfl)) (fun _ h9 => h9) (x_some (hi26_2.n.trans (congrArg nI hi26_5))) dX0_byLots_35 ?_
              refine x_Vi (wN := fun _ => (wX G ad ho rn ln (dS sd) ro lt rf th sb ++ wR G (ad 1) kd r ++ wR G (ad 2) kd q ++ wR G (ad 3) k2 r2 ++ wK (ad 4))) ⟨C0, hK, hP, hD, hS, hA⟩ 0 rfl (ci := 0) rfl rfl ((m_drawBelow l G ad kd kd k2 r q r2 ho rn ln sd ro lt rf th sb hr hp hk (mny r) (by omega) (by omega))) (cwV 1 hts (lw_V q983 q985 qs61 q86 q986) rfl rfl rfl (by decide +kernel) ⟨Nat.le_of_ble_eq_true rfl, Nat.le_of_ble_eq_true rfl⟩) [0, 1, 2, 3, 4, 5, 6, 7, 8, 9, 10, 11, 12, 13, 14, 15, 16, 17, 18, 19, 20, 21, 22, 23, 24, 25, 26, 27, 28, 29, 30] [1, 3, 5, 7, 9, 11, 13, 15, 17, 19, 21, 23, 25, 27, 29, 31, 33, 35, 37, 39, 41, 43, 45, 47, 49, 51, 53, 55, 57, 59, 61] rfl (fun _ => rfl) rfl rfl hl.1 rfl (Nat.le_of_ble_eq_true rfl) dX0_byLots_38 ⟨(Nat.le_of_ble_eq_true rfl), (Nat.le_of_ble_eq_true rfl)⟩ (fun r_9 u_9 H locs hw_9 hP hD hS => ?_)
              have hw_9 : (nI (dJ (dS sd) (mny r)) : Int32) = r_9 := hw_9.symm
              subst hw_9
              have hP : va_P G.1 vwCl (wX G ad ho rn ln (dS sd) ro lt rf th sb ++ wR G (ad 1) kd r ++ wR G (ad 2) kd q ++ wR G (ad 3) k2 r2 ++ wK (ad 4)) H := hP
              have hD : va_D A (wX G ad ho rn ln (dS sd) ro lt rf th sb ++ wR G (ad 1) kd r ++ wR G (ad 2) kd q ++ wR G (ad 3) k2 r2 ++ wK (ad 4)) := hD
              have hd1 := dJ_lt (dS sd) hm0
              refine lv_istore (lv' := [(8, .int (nI (dJ (dS sd) (mny r)))), (7, .int (nI i)), (6, .ref ((ad 2) 0)), (5, .int (nI k)), (4, .int ((lSum r w z k).2)), (0, .ref (ad 0 0)), (1, .int (nI cnt)), (2, .int z), (3, .int w)]) hx hb dX0_byLots_41 hl (by decide) rfl (fun ls hl => ?_)
              refine lv_aload_n hx hb dX0_byLots_43 rfl (lv_at hl 5 rfl) ?_
              refine lv_bipush (v := 10) hx hb dX0_byLots_44 (by decide) ?_
              refine x_Vi (wN := fun _ => (wX G ad ho rn ln (dS (dS sd)) ro lt rf th sb ++ wR G (ad 1) kd r ++ wR G (ad 2) kd q ++ wR G (ad 3) k2 r2 ++ wK (ad 4))) ⟨C0, hK, hP, hD, hS, hA⟩ 0 rfl (ci := 0) rfl rfl ((m_drawBelow l G ad kd kd k2 r q r2 ho rn ln (dS sd) ro lt rf th sb hr hp hk 10 (by omega) (by omega))) (cwV 1 hts (lw_V q983 q985 qs61 q86 q986) rfl rfl rfl (by decide +kernel) ⟨Nat.le_of_ble_eq_true rfl, Nat.le_of_ble_eq_true rfl⟩) [0, 1, 2, 3, 4, 5, 6, 7, 8, 9, 10, 11, 12, 13, 14, 15, 16, 17, 18, 19, 20, 21, 22, 23, 24, 25, 26, 27, 28, 29, 30] [1, 3, 5, 7, 9, 11, 13, 15, 17, 19, 21, 23, 25, 27, 29, 31, 33, 35, 37, 39, 41, 43, 45, 47, 49, 51, 53, 55, 57, 59, 61] rfl (fun _ => rfl) rfl rfl hl.1 rfl (Nat.le_of_ble_eq_true rfl) dX0_byLots_46 ⟨(Nat.le_of_ble_eq_true rfl), (Nat.le_of_ble_eq_true rfl)⟩ (fun r_10 u_10 H locs hw_10 hP hD hS => ?_)
              have hw_10 : (nI (dJ (dS (dS sd)) 10) : Int32) = r_10 := hw_10.symm
              subst hw_10
              have hP : va_P G.1 vwCl (wX G ad ho rn ln (dS (dS sd)) ro lt rf th sb ++ wR G (ad 1) kd r ++ wR G (ad 2) kd q ++ wR G (ad 3) k2 r2 ++ wK (ad 4)) H := hP
              have hD : va_D A (wX G ad ho rn ln (dS (dS sd)) ro lt rf th sb ++ wR G (ad 1) kd r ++ wR G (ad 2) kd q ++ wR G (ad 3) k2 r2 ++ wK (ad 4)) := hD
              refine lv_istore (lv' := [(9, .int (nI (dJ (dS (dS sd)) 10))), (8, .int (nI (dJ (dS sd) (mny r)))), (7, .int (nI i)), (6, .ref ((ad 2) 0)), (5, .int (nI k)), (4, .int ((lSum r w z k).2)), (0, .ref (ad 0 0)), (1, .int (nI cnt)), (2, .int z), (3, .int w)]) hx hb dX0_byLots_49 hl (by decide) rfl (fun ls hl => ?_)
              refine lv_aload hx hb dX0_byLots_51 (lv_at hl 3 rfl) ?_
              refine lv_iload hx hb dX0_byLots_53 (lv_at hl 1 rfl) ?_
              refine x_Vi (wN := fun _ => (wX G ad ho rn ln (dS (dS sd)) ro lt rf th sb ++ wR G (ad 1) kd r ++ wR G (ad 2) kd q ++ wR G (ad 3) k2 r2 ++ wK (ad 4))) ⟨C0, hK, hP, hD, hS, hA⟩ 13 rfl (ci := 7) rfl rfl ((m_isStanding l G (ad 2) (ad 4) kd q hi26_2 hi26_3 (dJ (dS sd) (mny r)) (by omega))) (cwV 1 hts (lw_V q744 q558 q559 q94 q560) rfl rfl rfl (by decide +kernel) ⟨Nat.le_of_ble_eq_true rfl, Nat.le_of_ble_eq_true rfl⟩) [13, 14, 15, 16, 17, 18, 25, 26, 27, 28, 29, 30] [0, 2, 4, 6, 8, 10, 12, 14, 16, 18, 20, 22, 24, 1, 3, 5, 7, 9, 11, 38, 40, 42, 44, 46, 48, 13, 15, 17, 19, 21, 23] rfl (fun _ => rfl) rfl rfl hl.1 rfl (Nat.le_of_ble_eq_true rfl) dX0_byLots_55 ⟨(Nat.le_of_ble_eq_true rfl), (Nat.le_of_ble_eq_true rfl)⟩ (fun r_11 u_11 H locs hw_11 hP hD hS => ?_)
              have hw_11 : (bI (pSt q (dJ (dS sd) (mny r))) : Int32) = r_11 := hw_11.symm
              subst hw_11
              refine lv_if_eq (tgt := 71) hx hb dX0_byLots_58 (by decide) (fun c_12 => ?_) (fun c_12 => ?_)
              · skip
                refine lv_aload hx hb dX0_byLots_71 (lv_at hl 3 rfl) ?_
                refine lv_iconst (v := 0) hx hb dX0_byLots_73 (by decide) ?_
                refine x_Vv (wN := fun _ => (wX G ad ho rn ln (dS (dS sd)) ro lt rf th sb ++ wR G (ad 1) kd r ++ wR G (ad 2) kd (pMin q 0) ++ wR G (ad 3) k2 r2 ++ wK (ad 4))) ⟨C0, hK, hP, hD, hS, hA⟩ 13 rfl (ci := 7) rfl rfl ((m_minuteOn l G (ad 2) (ad 4) kd q hi26_2 hi26_3 0)) (cwV 1 hts (lw_V q807 q627 q628 q94 q629) rfl rfl rfl (by decide +kernel) ⟨Nat.le_of_ble_eq_true rfl, Nat.le_of_ble_eq_true rfl⟩) [13, 14, 15, 16, 17, 18, 25, 26, 27, 28, 29, 30] [0, 2, 4, 6, 8, 10, 12, 14, 16, 18, 20, 22, 24, 1, 3, 5, 7, 9, 11, 38, 40, 42, 44, 46, 48, 13, 15, 17, 19, 21, 23] rfl (fun _ => rfl) rfl rfl hl.1 rfl (Nat.le_of_ble_eq_true rfl) dX0_byLots_74 ⟨(Nat.le_of_ble_eq_true rfl), (Nat.le_of_ble_eq_true rfl)⟩ (fun u_13 H locs hw_13 hP hD hS => ?_)
                have hP : va_P G.1 vwCl (wX G ad ho rn ln (dS (dS sd)) ro lt rf th sb ++ wR G (ad 1) kd r ++ wR G (ad 2) kd (pMin q 0) ++ wR G (ad 3) k2 r2 ++ wK (ad 4)) H := hP
                have hD : va_D A (wX G ad ho rn ln (dS (dS sd)) ro lt rf th sb ++ wR G (ad 1) kd r ++ wR G (ad 2) kd (pMin q 0) ++ wR G (ad 3) k2 r2 ++ wK (ad 4)) := hD
                refine lv_iinc (v := nI (i + 1)) (lv' := [(7, .int (nI (i + 1))), (9, .int (nI (dJ (dS (dS sd)) 10))), (8, .int (nI (dJ (dS sd) (mny r)))), (6, .ref ((ad 2) 0)), (5, .int (nI k)), (4, .int ((lSum r w z k).2)), (0, .ref (ad 0 0)), (1, .int (nI cnt)), (2, .int z), (3, .int w)]) hx hb dX0_byLots_77 hl (k := 2) rfl (x_inc1 _) (by decide) rfl (fun ls hl => ?_)
                refine lv_goto (tgt := 26) hx hb dX0_byLots_80 (by decide) ?_
                exact ih_26 (i + 1) (dS (dS sd)) (pMin q 0) (by omega) (by omega) (Ok.min hi26_2) (kOk.min hi26_3) hi26_4 hi26_5 (by show lStep (lRun r (lSum r w z k).1 i) (mny r) = _; rw [hi26_6]; exact lStep_n (show pSt q (dJ (dS sd) (mny r)) = false from (by have h9 := c_12; simpa [bI_0] using h9))) _ _ _ hP hD hS (lv_sub hl [0, 3, 4, 5, 6, 7, 8, 9] rfl)
              · skip
                refine lv_aload hx hb dX0_byLots_61 (lv_at hl 3 rfl) ?_
                refine lv_iload hx hb dX0_byLots_63 (lv_at hl 1 rfl) ?_
                refine lv_iload hx hb dX0_byLots_65 (lv_at hl 0 rfl) ?_
                refine x_Vi (wN := fun _ => (wX G ad ho rn ln (dS (dS sd)) ro lt rf th sb ++ wR G (ad 1) kd r ++ wR G (ad 2) kd (pPull q (dJ (dS sd) (mny r)) (nI (dJ (dS (dS sd)) 10))) ++ wR G (ad 3) k2 r2 ++ wK (ad 4))) ⟨C0, hK, hP, hD, hS, hA⟩ 13 rfl (ci := 7) rfl rfl ((m_pull l G (ad 2) (ad 4) kd q hi26_2 hi26_3 (dJ (dS sd) (mny r)) (nI (dJ (dS (dS sd)) 10)) (by omega) hi26_4)) (cwV 2 hts (lw_V q745 q683 q684 q94 q685) rfl rfl rfl (by decide +kernel) ⟨Nat.le_of_ble_eq_true rfl, Nat.le_of_ble_eq_true rfl⟩) [13, 14, 15, 16, 17, 18, 25, 26, 27, 28, 29, 30] [0, 2, 4, 6, 8, 10, 12, 14, 16, 18, 20, 22, 24, 1, 3, 5, 7, 9, 11, 38, 40, 42, 44, 46, 48, 13, 15, 17, 19, 21, 23] rfl (fun _ => rfl) rfl rfl hl.1 rfl (Nat.le_of_ble_eq_true rfl) dX0_byLots_67 ⟨(Nat.le_of_ble_eq_true rfl), (Nat.le_of_ble_eq_true rfl)⟩ (fun r_14 u_14 H locs hw_14 hP hD hS => ?_)
                have hw_14 : (pPullN q (dJ (dS sd) (mny r)) (nI (dJ (dS (dS sd)) 10)) : Int32) = r_14 := hw_14.symm
                subst hw_14
                have hP : va_P G.1 vwCl (wX G ad ho rn ln (dS (dS sd)) ro lt rf th sb ++ wR G (ad 1) kd r ++ wR G (ad 2) kd (pPull q (dJ (dS sd) (mny r)) (nI (dJ (dS (dS sd)) 10))) ++ wR G (ad 3) k2 r2 ++ wK (ad 4)) H := hP
                have hD : va_D A (wX G ad ho rn ln (dS (dS sd)) ro lt rf th sb ++ wR G (ad 1) kd r ++ wR G (ad 2) kd (pPull q (dJ (dS sd) (mny r)) (nI (dJ (dS (dS sd)) 10))) ++ wR G (ad 3) k2 r2 ++ wK (ad 4)) := hD
                refine lv_pop hx hb dX0_byLots_70 rfl ?_
                refine lv_aload hx hb dX0_byLots_71 (lv_at hl 3 rfl) ?_
                refine lv_iconst (v := 0) hx hb dX0_byLots_73 (by decide) ?_
                refine x_Vv (wN := fun _ => (wX G ad ho rn ln (dS (dS sd)) ro lt rf th sb ++ wR G (ad 1) kd r ++ wR G (ad 2) kd (pMin (pPull q (dJ (dS sd) (mny r)) (nI (dJ (dS (dS sd)) 10))) 0) ++ wR G (ad 3) k2 r2 ++ wK (ad 4))) ⟨C0, hK, hP, hD, hS, hA⟩ 13 rfl (ci := 7) rfl rfl ((m_minuteOn l G (ad 2) (ad 4) kd (pPull q (dJ (dS sd) (mny r)) (nI (dJ (dS (dS sd)) 10))) (Ok.pull hi26_2) (kOk.pull hi26_3) 0)) (cwV 1 hts (lw_V q807 q627 q628 q94 q629) rfl rfl rfl (by decide +kernel) ⟨Nat.le_of_ble_eq_true rfl, Nat.le_of_ble_eq_true rfl⟩) [13, 14, 15, 16, 17, 18, 25, 26, 27, 28, 29, 30] [0, 2, 4, 6, 8, 10, 12, 14, 16, 18, 20, 22, 24, 1, 3, 5, 7, 9, 11, 38, 40, 42, 44, 46, 48, 13, 15, 17, 19, 21, 23] rfl (fun _ => rfl) rfl rfl hl.1 rfl (Nat.le_of_ble_eq_true rfl) dX0_byLots_74 ⟨(Nat.le_of_ble_eq_true rfl), (Nat.le_of_ble_eq_true rfl)⟩ (fun u_15 H locs hw_15 hP hD hS => ?_)
                have hP : va_P G.1 vwCl (wX G ad ho rn ln (dS (dS sd)) ro lt rf th sb ++ wR G (ad 1) kd r ++ wR G (ad 2) kd (pMin (pPull q (dJ (dS sd) (mny r)) (nI (dJ (dS (dS sd)) 10))) 0) ++ wR G (ad 3) k2 r2 ++ wK (ad 4)) H := hP
                have hD : va_D A (wX G ad ho rn ln (dS (dS sd)) ro lt rf th sb ++ wR G (ad 1) kd r ++ wR G (ad 2) kd (pMin (pPull q (dJ (dS sd) (mny r)) (nI (dJ (dS (dS sd)) 10))) 0) ++ wR G (ad 3) k2 r2 ++ wK (ad 4)) := hD
                refine lv_iinc (v := nI (i + 1)) (lv' := [(7, .int (nI (i + 1))), (9, .int (nI (dJ (dS (dS sd)) 10))), (8, .int (nI (dJ (dS sd) (mny r)))), (6, .ref ((ad 2) 0)), (5, .int (nI k)), (4, .int ((lSum r w z k).2)), (0, .ref (ad 0 0)), (1, .int (nI cnt)), (2, .int z), (3, .int w)]) hx hb dX0_byLots_77 hl (k := 2) rfl (x_inc1 _) (by decide) rfl (fun ls hl => ?_)
                refine lv_goto (tgt := 26) hx hb dX0_byLots_80 (by decide) ?_
                exact ih_26 (i + 1) (dS (dS sd)) (pMin (pPull q (dJ (dS sd) (mny r)) (nI (dJ (dS (dS sd)) 10))) 0) (by omega) (by omega) (Ok.min (Ok.pull hi26_2)) (kOk.min (kOk.pull hi26_3)) hi26_4 hi26_5 (by show lStep (lRun r (lSum r w z k).1 i) (mny r) = _; rw [hi26_6]; exact lStep_y (show pSt q (dJ (dS sd) (mny r)) = true from (by have h9 := c_12; simpa [bI_0] using h9))) _ _ _ hP hD hS (lv_sub hl [0, 3, 4, 5, 6, 7, 8, 9] rfl)
        exact loop_26 6 0 _ r (by omega) (by omega) hr hk hp rfl rfl _ _ _ hP hD hS (lv_sub hl [0, 1, 2, 3, 4, 5, 6, 7] rfl)
  exact loop_11 (cnt + 1) 0 _ _ (by omega) (by omega) _ _ _ hP hD hS (lv_sub hl [0, 1, 2, 3, 4, 5] rfl)
set_option maxHeartbeats 4000000 in
set_option maxRecDepth 100000 in
theorem m_judgeRow (l : Launch) (G : xG) (ad : Nat → Nat → Nat) (kd k1 k2 : Nat → Option Nat) (r r1 r2 : Rw) (ho rn ln dr : Int32) (ro lt rf th sb : Nat → Int32) (hr : Ok r) (hp : r 5 3 = 0) (hk : kOk (ad 4) kd r) (jn : Nat) (hjn : rn = nI jn) (hjm : jn ≤ 16) : xCi l G yX0_judgeRow cX0_judgeRow 4 (some .int) ({ frames := 6, cells := 0, slots := 0, locals := 133 } : Room) [.ref (ad 0 0)] (wX G ad ho rn ln dr ro lt rf th sb ++ wR G (ad 1) kd r ++ wR G (ad 2) k1 r1 ++ wR G (ad 3) k2 r2 ++ wK (ad 4)) (S := ((Nat → Option Nat) × Rw)) (fun v _ => v = jdN r ro jn) (fun u => (wX G ad ho 0 ln dr ro lt rf th sb ++ wR G (ad 1) kd r ++ wR G (ad 2) u.1 u.2 ++ wR G (ad 3) k2 r2 ++ wK (ad 4))) := by
  refine x_openi (by decide) (Nat.le_of_ble_eq_true rfl) (fun _ _ _ => rfl) ?_
  intro p e s m args below meth c A Q ls C0 hK hP hD hA hl hret
  obtain ⟨hx, hb, hml, hown, hts⟩ := id C0
  have hS : va_S A s.heap s.heap [] := va_S.rf
  have hP : va_P G.1 vwCl (wX G ad ho rn ln dr ro lt rf th sb ++ wR G (ad 1) kd r ++ wR G (ad 2) k1 r1 ++ wR G (ad 3) k2 r2 ++ wK (ad 4)) s.heap := hP
  have hD : va_D A (wX G ad ho rn ln dr ro lt rf th sb ++ wR G (ad 1) kd r ++ wR G (ad 2) k1 r1 ++ wR G (ad 3) k2 r2 ++ wK (ad 4)) := hD
  have hl : lv_has ls 4 [(0, .ref (ad 0 0))] := hl
  have hr0 := hr.n
  have hN := hr.le
  refine lv_aload_n hx hb dX0_judgeRow_0 rfl (lv_at hl 0 rfl) ?_
  refine va_get (D := G.1) (ci := 0) (v := .int rn) (C := RX0) (T := TX0) (N := 13) hx hb hts in_X0 hown hK.1 hP 0 rfl rfl 6 (by decide) (hts _ q227) (fun _ h9 => h9) rfl dX0_judgeRow_1 ?_
  rw [show (rn : Int32) = nI jn from hjn]
  refine lv_istore_n (lv' := [(1, .int (nI jn)), (0, .ref (ad 0 0))]) hx hb dX0_judgeRow_4 rfl hl (by decide) rfl (fun ls hl => ?_)
  refine lv_aload_n hx hb dX0_judgeRow_5 rfl (lv_at hl 1 rfl) ?_
  refine lv_iconst (v := 0) hx hb dX0_judgeRow_6 (by decide) ?_
  refine va_put (D := G.1) (ci := 0) (v := .int 0) (ty := .int) (C := RX0) (T := TX0) (N := 13) hx hb hts in_X0 tyX0 tyX0_ok nmX0 hown hK.1 hP hD hS 0 rfl rfl 6 (by decide) (hts _ q227) (fun _ h9 => h9) rfl (by decide +kernel) rfl rfl (Nat.le_of_ble_eq_true rfl) dX0_judgeRow_7 (fun H locs hP hD hS => ?_)
  have hP : va_P G.1 vwCl (wX G ad ho 0 ln dr ro lt rf th sb ++ wR G (ad 1) kd r ++ wR G (ad 2) k1 r1 ++ wR G (ad 3) k2 r2 ++ wK (ad 4)) H := hP
  have hD : va_D A (wX G ad ho 0 ln dr ro lt rf th sb ++ wR G (ad 1) kd r ++ wR G (ad 2) k1 r1 ++ wR G (ad 3) k2 r2 ++ wK (ad 4)) := hD
  refine lv_aload_n hx hb dX0_judgeRow_10 rfl (lv_at hl 1 rfl) ?_
  refine x_Vr (wN := fun _ => (wX G ad ho 0 ln dr ro lt rf th sb ++ wR G (ad 1) kd r ++ wR G (ad 2) kd r ++ wR G (ad 3) k2 r2 ++ wK (ad 4))) ⟨C0, hK, hP, hD, hS, hA⟩ 0 rfl (ci := 0) rfl rfl ((m_openMind l G ad kd k1 k2 r r1 r2 ho 0 ln dr ro lt rf th sb hr hp hk )) (cwV 0 hts (lw_V q795 q797 qs25 q86 q798) rfl rfl rfl (by decide +kernel) ⟨Nat.le_of_ble_eq_true rfl, Nat.le_of_ble_eq_true rfl⟩) [0, 1, 2, 3, 4, 5, 6, 7, 8, 9, 10, 11, 12, 13, 14, 15, 16, 17, 18, 19, 20, 21, 22, 23, 24, 25, 26, 27, 28, 29, 30] [1, 3, 5, 7, 9, 11, 13, 15, 17, 19, 21, 23, 25, 27, 29, 31, 33, 35, 37, 39, 41, 43, 45, 47, 49, 51, 53, 55, 57, 59, 61] rfl (fun _ => rfl) rfl rfl hl.1 rfl (Nat.le_of_ble_eq_true rfl) dX0_judgeRow_11 ⟨(Nat.le_of_ble_eq_true rfl), (Nat.le_of_ble_eq_true rfl)⟩ (fun u_1 H locs hw_1 hP hD hS => ?_)
  have hP : va_P G.1 vwCl (wX G ad ho 0 ln dr ro lt rf th sb ++ wR G (ad 1) kd r ++ wR G (ad 2) kd r ++ wR G (ad 3) k2 r2 ++ wK (ad 4)) H := hP
  have hD : va_D A (wX G ad ho 0 ln dr ro lt rf th sb ++ wR G (ad 1) kd r ++ wR G (ad 2) kd r ++ wR G (ad 3) k2 r2 ++ wK (ad 4)) := hD
  refine lv_astore_n (lv' := [(2, .ref ((ad 2) 0)), (1, .int (nI jn)), (0, .ref (ad 0 0))]) hx hb dX0_judgeRow_14 rfl hl (by decide) rfl (fun ls hl => ?_)
  refine lv_iconst (v := 0) hx hb dX0_judgeRow_15 (by decide) ?_
  refine lv_istore_n (lv' := [(3, .int 0), (2, .ref ((ad 2) 0)), (1, .int (nI jn)), (0, .ref (ad 0 0))]) hx hb dX0_judgeRow_16 rfl hl (by decide) rfl (fun ls hl => ?_)
  have loop_17 : ∀ (n : Nat) (k : Nat), (k ≤ jn) → (jn < k + n) → (∀ j, j < k → jdP r ro j = false) → ∀ (H : Heap) (locs : List Loc) (ls : Array Slot), va_P G.1 vwCl (wX G ad ho 0 ln dr ro lt rf th sb ++ wR G (ad 1) kd r ++ wR G (ad 2) kd (pMins r (k - 1)) ++ wR G (ad 3) k2 r2 ++ wK (ad 4)) H → va_D A (wX G ad ho 0 ln dr ro lt rf th sb ++ wR G (ad 1) kd r ++ wR G (ad 2) kd (pMins r (k - 1)) ++ wR G (ad 3) k2 r2 ++ wK (ad 4)) → va_S A s.heap H locs → lv_has ls 4 [(3, .int (nI k)), (2, .ref ((ad 2) 0)), (1, .int (nI jn)), (0, .ref (ad 0 0))] → W p l e ({ frames := 6, cells := 0, slots := 0, locals := 133 } : Room) s m args below meth c H locs 0 0 Q (F0 m 17 ls []) := by
    intro n
    induction n with
    | zero => intro k hi17_0 hi17_1 hi17_2; exact absurd hi17_1 (by omega)
    | succ n ih_17 =>
      intro k hi17_0 hi17_1 hi17_2 H locs ls hP hD hS hl
      refine lv_iload_n hx hb dX0_judgeRow_17 rfl (lv_at hl 0 rfl) ?_
      refine lv_iload_n hx hb dX0_judgeRow_18 rfl (lv_at hl 2 rfl) ?_
      refine lv_icmp_ge (tgt := 57) hx hb dX0_judgeRow_19 (by decide) (fun c_2 => ?_) (fun c_2 => ?_)
      · skip
        have g_2 := (nI_leI (by omega) (by omega)).mp c_2
        refine lv_bipush (v := (-9)) hx hb dX0_judgeRow_57 (by decide) ?_
        refine hret _ _ _ _ _ _ (-9) (kd, (pMins r (k - 1))) dX0_judgeRow_59 ?_ hP hD hS (Nat.le_of_ble_eq_true rfl) (Nat.le_of_ble_eq_true rfl)
        exact jdN_no (fun j hj => hi17_2 j (by omega))
      · skip
        have g_2 := mt (nI_leI (by omega) (by omega)).mpr c_2
        refine lv_aload_n hx hb dX0_judgeRow_22 rfl (lv_at hl 1 rfl) ?_
        refine lv_iload_n hx hb dX0_judgeRow_23 rfl (lv_at hl 0 rfl) ?_
        refine lv_if_ne (tgt := 31) hx hb dX0_judgeRow_24 (by decide) (fun c_3 => ?_) (fun c_3 => ?_)
        · skip
          have g_3 := mt (nI_eq (by omega) (by omega)).mpr (show ¬ (nI k = nI 0) from c_3)
          refine lv_iconst (v := 1) hx hb dX0_judgeRow_31 (by decide) ?_
          refine x_Vr (wN := fun _ => (wX G ad ho 0 ln dr ro lt rf th sb ++ wR G (ad 1) kd r ++ wR G (ad 2) kd (pMins (pMins r (k - 1)) 1) ++ wR G (ad 3) k2 r2 ++ wK (ad 4))) ⟨C0, hK, hP, hD, hS, hA⟩ 13 rfl (ci := 7) rfl rfl ((m_minutesOn l G (ad 2) (ad 4) kd (pMins r (k - 1)) (hr.mins) (hk.mins) 1 (by decide))) (cwV 1 hts (lw_V q770 q623 q624 q94 q625) rfl rfl rfl (by decide +kernel) ⟨Nat.le_of_ble_eq_true rfl, Nat.le_of_ble_eq_true rfl⟩) [13, 14, 15, 16, 17, 18, 25, 26, 27, 28, 29, 30] [0, 2, 4, 6, 8, 10, 12, 14, 16, 18, 20, 22, 24, 1, 3, 5, 7, 9, 11, 38, 40, 42, 44, 46, 48, 13, 15, 17, 19, 21, 23] rfl (fun _ => rfl) rfl rfl hl.1 rfl (Nat.le_of_ble_eq_true rfl) dX0_judgeRow_32 ⟨(Nat.le_of_ble_eq_true rfl), (Nat.le_of_ble_eq_true rfl)⟩ (fun u_4 H locs hw_4 hP hD hS => ?_)
          have hP : va_P G.1 vwCl (wX G ad ho 0 ln dr ro lt rf th sb ++ wR G (ad 1) kd r ++ wR G (ad 2) kd (pMins (pMins r (k - 1)) 1) ++ wR G (ad 3) k2 r2 ++ wK (ad 4)) H := hP
          have hD : va_D A (wX G ad ho 0 ln dr ro lt rf th sb ++ wR G (ad 1) kd r ++ wR G (ad 2) kd (pMins (pMins r (k - 1)) 1) ++ wR G (ad 3) k2 r2 ++ wK (ad 4)) := hD
          rw [pMins_k1 (fun q => c_3 (by rw [q]; rfl))] at hP hD
          have hP : va_P G.1 vwCl (wX G ad ho 0 ln dr ro lt rf th sb ++ wR G (ad 1) kd r ++ wR G (ad 2) kd (pMins r k) ++ wR G (ad 3) k2 r2 ++ wK (ad 4)) H := hP
          have hD : va_D A (wX G ad ho 0 ln dr ro lt rf th sb ++ wR G (ad 1) kd r ++ wR G (ad 2) kd (pMins r k) ++ wR G (ad 3) k2 r2 ++ wK (ad 4)) := hD
          refine lv_pop hx hb dX0_judgeRow_35 rfl ?_
          refine lv_aload_n hx hb dX0_judgeRow_36 rfl (lv_at hl 1 rfl) ?_
          refine x_Vi (wN := fun _ => (wX G ad ho 0 ln dr ro lt rf th sb ++ wR G (ad 1) kd r ++ wR G (ad 2) kd (pMins r k) ++ wR G (ad 3) k2 r2 ++ wK (ad 4))) ⟨C0, hK, hP, hD, hS, hA⟩ 13 rfl (ci := 7) rfl rfl ((m_standing l G (ad 2) (ad 4) kd (pMins r k) (hr.mins) (hk.mins))) (cwV 0 hts (lw_V q771 q772 q773 q94 q774) rfl rfl rfl (by decide +kernel) ⟨Nat.le_of_ble_eq_true rfl, Nat.le_of_ble_eq_true rfl⟩) [13, 14, 15, 16, 17, 18, 25, 26, 27, 28, 29, 30] [0, 2, 4, 6, 8, 10, 12, 14, 16, 18, 20, 22, 24, 1, 3, 5, 7, 9, 11, 38, 40, 42, 44, 46, 48, 13, 15, 17, 19, 21, 23] rfl (fun _ => rfl) rfl rfl hl.1 rfl (Nat.le_of_ble_eq_true rfl) dX0_judgeRow_37 ⟨(Nat.le_of_ble_eq_true rfl), (Nat.le_of_ble_eq_true rfl)⟩ (fun r_5 u_5 H locs hw_5 hP hD hS => ?_)
          have hw_5 : (pStN (pMins r k) : Int32) = r_5 := hw_5.symm
          subst hw_5
          refine lv_aload_n hx hb dX0_judgeRow_40 rfl (lv_at hl 3 rfl) ?_
          refine va_get (D := G.1) (ci := 0) (v := .ref (ad 0 2)) (C := RX0) (T := TX0) (N := 13) hx hb hts in_X0 hown hK.1 hP 0 rfl rfl 5 (by decide) (hts _ q226) (fun _ h9 => h9) rfl dX0_judgeRow_41 ?_
          refine lv_iload_n hx hb dX0_judgeRow_44 rfl (lv_at hl 0 rfl) ?_
          refine x_baldn (k := k) hx hb hK.1 hP 2 1 rfl rfl (by omega) (by decide) (v := ro k) rfl dX0_judgeRow_45 ?_
          refine lv_icmp_eq (tgt := 51) hx hb dX0_judgeRow_46 (by decide) (fun c_6 => ?_) (fun c_6 => ?_)
          · skip
            refine lv_iinc (v := nI (k + 1)) (lv' := [(3, .int (nI (k + 1))), (2, .ref ((ad 2) 0)), (1, .int (nI jn)), (0, .ref (ad 0 0))]) hx hb dX0_judgeRow_51 hl (k := 0) rfl (x_inc1 _) (by decide) rfl (fun ls hl => ?_)
            refine lv_goto (tgt := 17) hx hb dX0_judgeRow_54 (by decide) ?_
            exact ih_17 (k + 1) (by omega) (by omega) (fun j hj => if q : j = k then q ▸ (decide_eq_false (fun z => z c_6)) else hi17_2 j (by omega)) _ _ _ hP hD hS (lv_sub hl [0, 1, 2, 3] rfl)
          · skip
            refine lv_iload_n hx hb dX0_judgeRow_49 rfl (lv_at hl 0 rfl) ?_
            refine hret _ _ _ _ _ _ (nI k) (kd, (pMins r k)) dX0_judgeRow_50 ?_ hP hD hS (Nat.le_of_ble_eq_true rfl) (Nat.le_of_ble_eq_true rfl)
            exact jdN_at (by omega) hi17_2 c_6
        · skip
          have g_3 := (nI_eq (by omega) (by omega)).mp (show nI k = nI 0 from c_3)
          refine lv_iconst (v := 0) hx hb dX0_judgeRow_27 (by decide) ?_
          refine lv_goto (tgt := 32) hx hb dX0_judgeRow_28 (by decide) ?_
          refine x_Vr (wN := fun _ => (wX G ad ho 0 ln dr ro lt rf th sb ++ wR G (ad 1) kd r ++ wR G (ad 2) kd (pMins (pMins r (k - 1)) 0) ++ wR G (ad 3) k2 r2 ++ wK (ad 4))) ⟨C0, hK, hP, hD, hS, hA⟩ 13 rfl (ci := 7) rfl rfl ((m_minutesOn l G (ad 2) (ad 4) kd (pMins r (k - 1)) (hr.mins) (hk.mins) 0 (by decide))) (cwV 1 hts (lw_V q770 q623 q624 q94 q625) rfl rfl rfl (by decide +kernel) ⟨Nat.le_of_ble_eq_true rfl, Nat.le_of_ble_eq_true rfl⟩) [13, 14, 15, 16, 17, 18, 25, 26, 27, 28, 29, 30] [0, 2, 4, 6, 8, 10, 12, 14, 16, 18, 20, 22, 24, 1, 3, 5, 7, 9, 11, 38, 40, 42, 44, 46, 48, 13, 15, 17, 19, 21, 23] rfl (fun _ => rfl) rfl rfl hl.1 rfl (Nat.le_of_ble_eq_true rfl) dX0_judgeRow_32 ⟨(Nat.le_of_ble_eq_true rfl), (Nat.le_of_ble_eq_true rfl)⟩ (fun u_7 H locs hw_7 hP hD hS => ?_)
          have hP : va_P G.1 vwCl (wX G ad ho 0 ln dr ro lt rf th sb ++ wR G (ad 1) kd r ++ wR G (ad 2) kd (pMins (pMins r (k - 1)) 0) ++ wR G (ad 3) k2 r2 ++ wK (ad 4)) H := hP
          have hD : va_D A (wX G ad ho 0 ln dr ro lt rf th sb ++ wR G (ad 1) kd r ++ wR G (ad 2) kd (pMins (pMins r (k - 1)) 0) ++ wR G (ad 3) k2 r2 ++ wK (ad 4)) := hD
          rw [pMins_k0 ((nI_eq (b := 0) (by omega) (by omega)).mp c_3)] at hP hD
          have hP : va_P G.1 vwCl (wX G ad ho 0 ln dr ro lt rf th sb ++ wR G (ad 1) kd r ++ wR G (ad 2) kd (pMins r k) ++ wR G (ad 3) k2 r2 ++ wK (ad 4)) H := hP
          have hD : va_D A (wX G ad ho 0 ln dr ro lt rf th sb ++ wR G (ad 1) kd r ++ wR G (ad 2) kd (pMins r k) ++ wR G (ad 3) k2 r2 ++ wK (ad 4)) := hD
          refine lv_pop hx hb dX0_judgeRow_35 rfl ?_
          refine lv_aload_n hx hb dX0_judgeRow_36 rfl (lv_at hl 1 rfl) ?_
          refine x_Vi (wN := fun _ => (wX G ad ho 0 ln dr ro lt rf th sb ++ wR G (ad 1) kd r ++ wR G (ad 2) kd (pMins r k) ++ wR G (ad 3) k2 r2 ++ wK (ad 4))) ⟨C0, hK, hP, hD, hS, hA⟩ 13 rfl (ci := 7) rfl rfl ((m_standing l G (ad 2) (ad 4) kd (pMins r k) (hr.mins) (hk.mins))) (cwV 0 hts (lw_V q771 q772 q773 q94 q774) rfl rfl rfl (by decide +kernel) ⟨Nat.le_of_ble_eq_true rfl, Nat.le_of_ble_eq_true rfl⟩) [13, 14, 15, 16, 17, 18, 25, 26, 27, 28, 29, 30] [0, 2, 4, 6, 8, 10, 12, 14, 16, 18, 20, 22, 24, 1, 3, 5, 7, 9, 11, 38, 40, 42, 44, 46, 48, 13, 15, 17, 19, 21, 23] rfl (fun _ => rfl) rfl rfl hl.1 rfl (Nat.le_of_ble_eq_true rfl) dX0_judgeRow_37 ⟨(Nat.le_of_ble_eq_true rfl), (Nat.le_of_ble_eq_true rfl)⟩ (fun r_8 u_8 H locs hw_8 hP hD hS => ?_)
          have hw_8 : (pStN (pMins r k) : Int32) = r_8 := hw_8.symm
          subst hw_8
          refine lv_aload_n hx hb dX0_judgeRow_40 rfl (lv_at hl 3 rfl) ?_
          refine va_get (D := G.1) (ci := 0) (v := .ref (ad 0 2)) (C := RX0) (T := TX0) (N := 13) hx hb hts in_X0 hown hK.1 hP 0 rfl rfl 5 (by decide) (hts _ q226) (fun _ h9 => h9) rfl dX0_judgeRow_41 ?_
          refine lv_iload_n hx hb dX0_judgeRow_44 rfl (lv_at hl 0 rfl) ?_
          refine x_baldn (k := k) hx hb hK.1 hP 2 1 rfl rfl (by omega) (by decide) (v := ro k) rfl dX0_judgeRow_45 ?_
          refine lv_icmp_eq (tgt := 51) hx hb dX0_judgeRow_46 (by decide) (fun c_9 => ?_) (fun c_9 => ?_)
          · skip
            refine lv_iinc (v := nI (k + 1)) (lv' := [(3, .int (nI (k + 1))), (2, .ref ((ad 2) 0)), (1, .int (nI jn)), (0, .ref (ad 0 0))]) hx hb dX0_judgeRow_51 hl (k := 0) rfl (x_inc1 _) (by decide) rfl (fun ls hl => ?_)
            refine lv_goto (tgt := 17) hx hb dX0_judgeRow_54 (by decide) ?_
            exact ih_17 (k + 1) (by omega) (by omega) (fun j hj => if q : j = k then q ▸ (decide_eq_false (fun z => z c_9)) else hi17_2 j (by omega)) _ _ _ hP hD hS (lv_sub hl [0, 1, 2, 3] rfl)
          · skip
            refine lv_iload_n hx hb dX0_judgeRow_49 rfl (lv_at hl 0 rfl) ?_
            refine hret _ _ _ _ _ _ (nI k) (kd, (pMins r k)) dX0_judgeRow_50 ?_ hP hD hS (Nat.le_of_ble_eq_true rfl) (Nat.le_of_ble_eq_true rfl)
            exact jdN_at (by omega) hi17_2 c_9
  exact loop_17 (jn + 1) 0 (by omega) (by omega) (fun j hj => absurd hj (Nat.not_lt_zero j)) _ _ _ hP hD hS (lv_sub hl [0, 1, 2, 3] rfl)
set_option maxHeartbeats 4000000 in
set_option maxRecDepth 100000 in
theorem m_isRow (l : Launch) (G : xG) (ad : Nat → Nat → Nat) (kd k1 k2 : Nat → Option Nat) (r r1 r2 : Rw) (ho rn ln dr : Int32) (ro lt rf th sb : Nat → Int32) (hr : Ok r) (hp : r 5 3 = 0) (hk : kOk (ad 4) kd r) (hr1 : Ok r1) (hk1 : kOk (ad 4) k1 r1) : xCi l G yX0_isRow cX0_isRow 5 (some .boolean) ({ frames := 5, cells := 1, slots := 10, locals := 111 } : Room) [.ref (ad 0 0), .ref ((ad 2) 0)] (wX G ad ho rn ln dr ro lt rf th sb ++ wR G (ad 1) kd r ++ wR G (ad 2) k1 r1 ++ wR G (ad 3) k2 r2 ++ wK (ad 4)) (S := Unit) (fun v _ => v = bI (isRw ro r1)) (fun _ => (wX G ad ho rn ln dr ro lt rf th sb ++ wR G (ad 1) kd r ++ wR G (ad 2) k1 (pMins r1 99) ++ wR G (ad 3) k2 r2 ++ wK (ad 4))) := by
  refine x_openi (by decide) (Nat.le_of_ble_eq_true rfl) (fun _ _ h => by rw [h]; exact bI_z _) ?_
  intro p e s m args below meth c A Q ls C0 hK hP hD hA hl hret
  obtain ⟨hx, hb, hml, hown, hts⟩ := id C0
  have hS : va_S A s.heap s.heap [] := va_S.rf
  have hP : va_P G.1 vwCl (wX G ad ho rn ln dr ro lt rf th sb ++ wR G (ad 1) kd r ++ wR G (ad 2) k1 r1 ++ wR G (ad 3) k2 r2 ++ wK (ad 4)) s.heap := hP
  have hD : va_D A (wX G ad ho rn ln dr ro lt rf th sb ++ wR G (ad 1) kd r ++ wR G (ad 2) k1 r1 ++ wR G (ad 3) k2 r2 ++ wK (ad 4)) := hD
  have hl : lv_has ls 5 [(0, .ref (ad 0 0)), (1, .ref ((ad 2) 0))] := hl
  have hr0 := hr.n
  have hN := hr.le
  have hr10 := hr1.n
  have hN1 := hr1.le
  refine lv_bipush (v := 10) hx hb dX0_isRow_0 (by decide) ?_
  refine x_newa (atype := .int) (ty := .int) (a0 := (10, .inl (fun _ => 0))) hx hb (hts _ q219) rfl hK.1 hP hD hS hA 0 rfl (fun _ => rfl) (by decide) (by decide) (Nat.le_of_ble_eq_true rfl) (Nat.le_of_ble_eq_true rfl) (Nat.le_of_ble_eq_true rfl) dX0_isRow_2 (fun q_1 H hP hD hS => ?_)
  have hP : va_P G.1 vwCl (wX G ad ho rn ln dr ro lt rf th sb ++ wR G (ad 1) kd r ++ wR G (ad 2) k1 r1 ++ wR G (ad 3) k2 r2 ++ wK (ad 4) ++ [(q_1, .inl (G.2 0, 10, .inl (fun _ => 0)))]) H := hP
  have hD : va_D A (wX G ad ho rn ln dr ro lt rf th sb ++ wR G (ad 1) kd r ++ wR G (ad 2) k1 r1 ++ wR G (ad 3) k2 r2 ++ wK (ad 4) ++ [(q_1, .inl (G.2 0, 10, .inl (fun _ => 0)))]) := hD
  refine W.widen (k := 1) (n := 10) (Nat.le_of_ble_eq_true rfl) (Nat.le_of_ble_eq_true rfl) ?_
  refine lv_astore_n (lv' := [(2, .ref q_1), (0, .ref (ad 0 0)), (1, .ref ((ad 2) 0))]) hx hb dX0_isRow_4 rfl hl (by decide) rfl (fun ls hl => ?_)
  refine lv_iconst (v := 0) hx hb dX0_isRow_5 (by decide) ?_
  refine lv_istore_n (lv' := [(3, .int 0), (2, .ref q_1), (0, .ref (ad 0 0)), (1, .ref ((ad 2) 0))]) hx hb dX0_isRow_6 rfl hl (by decide) rfl (fun ls hl => ?_)
  have loop_7 : ∀ (n : Nat) (t : Nat), (t ≤ mny r1) → (mny r1 < t + n) → ∀ (H : Heap) (locs : List Loc) (ls : Array Slot), va_P G.1 vwCl (wX G ad ho rn ln dr ro lt rf th sb ++ wR G (ad 1) kd r ++ wR G (ad 2) k1 r1 ++ wR G (ad 3) k2 r2 ++ wK (ad 4) ++ [(q_1, .inl (G.2 0, 10, .inl (wI t)))]) H → va_D A (wX G ad ho rn ln dr ro lt rf th sb ++ wR G (ad 1) kd r ++ wR G (ad 2) k1 r1 ++ wR G (ad 3) k2 r2 ++ wK (ad 4) ++ [(q_1, .inl (G.2 0, 10, .inl (wI t)))]) → va_S A s.heap H locs → lv_has ls 5 [(3, .int (nI t)), (2, .ref q_1), (0, .ref (ad 0 0)), (1, .ref ((ad 2) 0))] → W p l e ({ frames := 5, cells := 1, slots := 10, locals := 111 } : Room) s m args below meth c H locs 1 10 Q (F0 m 7 ls []) := by
    intro n
    induction n with
    | zero => intro t hi7_0 hi7_1; exact absurd hi7_1 (by omega)
    | succ n ih_7 =>
      intro t hi7_0 hi7_1 H locs ls hP hD hS hl
      refine lv_iload_n hx hb dX0_isRow_7 rfl (lv_at hl 0 rfl) ?_
      refine lv_aload_n hx hb dX0_isRow_8 rfl (lv_at hl 3 rfl) ?_
      refine va_getN (D := G.1) (ci := 7) (v := .int (nI (mny r1))) (C := RX8) (T := TX8) (N := 9) hx hb hts in_X8 hown hK.1 hP 13 rfl rfl 0 (by decide) (va_Nw.use rfl (hK.2.F 4 rfl)) (fun _ h9 => h9) (x_some hr10) dX0_isRow_9 ?_
      refine lv_icmp_ge (tgt := 26) hx hb dX0_isRow_12 (by decide) (fun c_2 => ?_) (fun c_2 => ?_)
      · skip
        have g_2 := (nI_leI (by omega) (by omega)).mp c_2
        obtain rfl : t = mny r1 := by omega
        rw [wI_G] at hP hD
        refine lv_iconst (v := 0) hx hb dX0_isRow_26 (by decide) ?_
        refine lv_istore_n (lv' := [(3, .int 0), (2, .ref q_1), (0, .ref (ad 0 0)), (1, .ref ((ad 2) 0))]) hx hb dX0_isRow_27 rfl hl (by decide) rfl (fun ls hl => ?_)
        have loop_28 : ∀ (n : Nat) (z : Nat), (z ≤ 99) → (99 < z + n) → ∀ (H : Heap) (locs : List Loc) (ls : Array Slot), va_P G.1 vwCl (wX G ad ho rn ln dr ro lt rf th sb ++ wR G (ad 1) kd r ++ wR G (ad 2) k1 (pMins r1 z) ++ wR G (ad 3) k2 r2 ++ wK (ad 4) ++ [(q_1, .inl (G.2 0, 10, .inl (wG r1 z)))]) H → va_D A (wX G ad ho rn ln dr ro lt rf th sb ++ wR G (ad 1) kd r ++ wR G (ad 2) k1 (pMins r1 z) ++ wR G (ad 3) k2 r2 ++ wK (ad 4) ++ [(q_1, .inl (G.2 0, 10, .inl (wG r1 z)))]) → va_S A s.heap H locs → lv_has ls 5 [(3, .int (nI z)), (2, .ref q_1), (0, .ref (ad 0 0)), (1, .ref ((ad 2) 0))] → W p l e ({ frames := 5, cells := 1, slots := 10, locals := 111 } : Room) s m args below meth c H locs 1 10 Q (F0 m 28 ls []) := by
          intro n
          induction n with
          | zero => intro z hi28_0 hi28_1; exact absurd hi28_1 (by omega)
          | succ n ih_28 =>
            intro z hi28_0 hi28_1 H locs ls hP hD hS hl
            refine lv_iload_n hx hb dX0_isRow_28 rfl (lv_at hl 0 rfl) ?_
            refine lv_bipush (v := 99) hx hb dX0_isRow_29 (by decide) ?_
            refine lv_icmp_ge (tgt := 93) hx hb dX0_isRow_31 (by decide) (fun c_3 => ?_) (fun c_3 => ?_)
            · skip
              have g_3 := (nI_leI (by omega) (by omega)).mp (show nI z ≥ nI 99 from c_3)
              obtain rfl : z = 99 := by omega
              refine lv_iconst (v := 1) hx hb dX0_isRow_93 (by decide) ?_
              refine lv_istore_n (lv' := [(3, .int 1), (2, .ref q_1), (0, .ref (ad 0 0)), (1, .ref ((ad 2) 0))]) hx hb dX0_isRow_94 rfl hl (by decide) rfl (fun ls hl => ?_)
              refine lv_iconst (v := 0) hx hb dX0_isRow_95 (by decide) ?_
              refine lv_istore (lv' := [(4, .int 0), (3, .int 1), (2, .ref q_1), (0, .ref (ad 0 0)), (1, .ref ((ad 2) 0))]) hx hb dX0_isRow_96 hl (by decide) rfl (fun ls hl => ?_)
              have loop_98 : ∀ (n : Nat) (t : Nat), (t ≤ mny r1) → (mny r1 < t + n) → ∀ (H : Heap) (locs : List Loc) (ls : Array Slot), va_P G.1 vwCl (wX G ad ho rn ln dr ro lt rf th sb ++ wR G (ad 1) kd r ++ wR G (ad 2) k1 (pMins r1 99) ++ wR G (ad 3) k2 r2 ++ wK (ad 4) ++ [(q_1, .inl (G.2 0, 10, .inl (wG r1 99)))]) H → va_D A (wX G ad ho rn ln dr ro lt rf th sb ++ wR G (ad 1) kd r ++ wR G (ad 2) k1 (pMins r1 99) ++ wR G (ad 3) k2 r2 ++ wK (ad 4) ++ [(q_1, .inl (G.2 0, 10, .inl (wG r1 99)))]) → va_S A s.heap H locs → lv_has ls 5 [(4, .int (nI t)), (3, .int (bI (pAll (rwP ro r1) t))), (2, .ref q_1), (0, .ref (ad 0 0)), (1, .ref ((ad 2) 0))] → W p l e ({ frames := 5, cells := 1, slots := 10, locals := 111 } : Room) s m args below meth c H locs 1 10 Q (F0 m 98 ls []) := by
                intro n
                induction n with
                | zero => intro t hi98_0 hi98_1; exact absurd hi98_1 (by omega)
                | succ n ih_98 =>
                  intro t hi98_0 hi98_1 H locs ls hP hD hS hl
                  refine lv_iload hx hb dX0_isRow_98 (lv_at hl 0 rfl) ?_
                  refine lv_aload_n hx hb dX0_isRow_100 rfl (lv_at hl 4 rfl) ?_
                  refine va_getN (D := G.1) (ci := 7) (v := .int (nI (mny r1))) (C := RX8) (T := TX8) (N := 9) hx hb hts in_X8 hown hK.1 hP 13 rfl rfl 0 (by decide) (va_Nw.use rfl (hK.2.F 4 rfl)) (fun _ h9 => h9) (x_some (pMins_r0 hr1)) dX0_isRow_101 ?_
                  refine lv_icmp_ge (tgt := 135) hx hb dX0_isRow_104 (by decide) (fun c_4 => ?_) (fun c_4 => ?_)
                  · skip
                    have g_4 := (nI_leI (by omega) (by omega)).mp c_4
                    refine lv_iload_n hx hb dX0_isRow_135 rfl (lv_at hl 1 rfl) ?_
                    have hP := x_dropP hP
                    have hD := x_dropD hD
                    refine hret _ _ _ _ _ _ (bI (pAll (rwP ro r1) t)) () dX0_isRow_136 ?_ hP hD hS (Nat.le_of_ble_eq_true rfl) (Nat.le_of_ble_eq_true rfl)
                    show bI (pAll (rwP ro r1) t) = bI (pAll (rwP ro r1) (mny r1))
                    rw [show t = mny r1 by omega]
                  · skip
                    have g_4 := mt (nI_leI (by omega) (by omega)).mpr c_4
                    refine lv_iload_n hx hb dX0_isRow_107 rfl (lv_at hl 1 rfl) ?_
                    refine lv_aload_n hx hb dX0_isRow_108 rfl (lv_at hl 3 rfl) ?_
                    refine va_get (D := G.1) (ci := 0) (v := .ref (ad 0 2)) (C := RX0) (T := TX0) (N := 13) hx hb hts in_X0 hown hK.1 hP 0 rfl rfl 5 (by decide) (hts _ q226) (fun _ h9 => h9) rfl dX0_isRow_109 ?_
                    refine lv_iload hx hb dX0_isRow_112 (lv_at hl 0 rfl) ?_
                    refine x_baldn (k := t) hx hb hK.1 hP 2 1 rfl rfl (by omega) (by decide) (v := ro t) rfl dX0_isRow_114 ?_
                    refine lv_aload_n hx hb dX0_isRow_115 rfl (lv_at hl 2 rfl) ?_
                    refine lv_iload hx hb dX0_isRow_116 (lv_at hl 0 rfl) ?_
                    refine x_ialdn (k := t) hx hb hK.1 hP 31 0 rfl rfl (by omega) (by decide) (v := wA r1 99 t) (if_pos (by omega)) dX0_isRow_118 ?_
                    refine lv_icmp_ne (tgt := 126) hx hb dX0_isRow_119 (by decide) (fun c_5 => ?_) (fun c_5 => ?_)
                    · skip
                      refine lv_iconst (v := 0) hx hb dX0_isRow_126 (by decide) ?_
                      refine x_iand hx hb dX0_isRow_127 (v := bI (pAll (rwP ro r1) (t + 1))) (pAll_f (decide_eq_false c_5)) ?_
                      refine lv_istore_n (lv' := [(3, .int (bI (pAll (rwP ro r1) (t + 1)))), (4, .int (nI t)), (2, .ref q_1), (0, .ref (ad 0 0)), (1, .ref ((ad 2) 0))]) hx hb dX0_isRow_128 rfl hl (by decide) rfl (fun ls hl => ?_)
                      refine lv_iinc (v := nI (t + 1)) (lv' := [(4, .int (nI (t + 1))), (3, .int (bI (pAll (rwP ro r1) (t + 1)))), (2, .ref q_1), (0, .ref (ad 0 0)), (1, .ref ((ad 2) 0))]) hx hb dX0_isRow_129 hl (k := 1) rfl (x_inc1 _) (by decide) rfl (fun ls hl => ?_)
                      refine lv_goto (tgt := 98) hx hb dX0_isRow_132 (by decide) ?_
                      exact ih_98 (t + 1) (by omega) (by omega) _ _ _ hP hD hS (lv_sub hl [0, 1, 2, 3, 4] rfl)
                    · skip
                      refine lv_iconst (v := 1) hx hb dX0_isRow_122 (by decide) ?_
                      refine lv_goto (tgt := 127) hx hb dX0_isRow_123 (by decide) ?_
                      refine x_iand hx hb dX0_isRow_127 (v := bI (pAll (rwP ro r1) (t + 1))) (pAll_t (decide_eq_true c_5)) ?_
                      refine lv_istore_n (lv' := [(3, .int (bI (pAll (rwP ro r1) (t + 1)))), (4, .int (nI t)), (2, .ref q_1), (0, .ref (ad 0 0)), (1, .ref ((ad 2) 0))]) hx hb dX0_isRow_128 rfl hl (by decide) rfl (fun ls hl => ?_)
                      refine lv_iinc (v := nI (t + 1)) (lv' := [(4, .int (nI (t + 1))), (3, .int (bI (pAll (rwP ro r1) (t + 1)))), (2, .ref q_1), (0, .ref (ad 0 0)), (1, .ref ((ad 2) 0))]) hx hb dX0_isRow_129 hl (k := 1) rfl (x_inc1 _) (by decide) rfl (fun ls hl => ?_)
                      refine lv_goto (tgt := 98) hx hb dX0_isRow_132 (by decide) ?_
                      exact ih_98 (t + 1) (by omega) (by omega) _ _ _ hP hD hS (lv_sub hl [0, 1, 2, 3, 4] rfl)
              exact loop_98 (mny r1 + 1) 0 (by omega) (by omega) _ _ _ hP hD hS (lv_sub hl [0, 1, 2, 3, 4] rfl)
            · skip
              have g_3 := mt (nI_leI (by omega) (by omega)).mpr (show ¬ (nI z ≥ nI 99) from c_3)
              refine lv_iconst (v := 0) hx hb dX0_isRow_34 (by decide) ?_
              refine lv_istore (lv' := [(4, .int 0), (3, .int (nI z)), (2, .ref q_1), (0, .ref (ad 0 0)), (1, .ref ((ad 2) 0))]) hx hb dX0_isRow_35 hl (by decide) rfl (fun ls hl => ?_)
              have loop_37 : ∀ (n : Nat) (t : Nat), (t ≤ mny r1) → (mny r1 < t + n) → ∀ (H : Heap) (locs : List Loc) (ls : Array Slot), va_P G.1 vwCl (wX G ad ho rn ln dr ro lt rf th sb ++ wR G (ad 1) kd r ++ wR G (ad 2) k1 (pMins r1 z) ++ wR G (ad 3) k2 r2 ++ wK (ad 4) ++ [(q_1, .inl (G.2 0, 10, .inl (wF r1 z t)))]) H → va_D A (wX G ad ho rn ln dr ro lt rf th sb ++ wR G (ad 1) kd r ++ wR G (ad 2) k1 (pMins r1 z) ++ wR G (ad 3) k2 r2 ++ wK (ad 4) ++ [(q_1, .inl (G.2 0, 10, .inl (wF r1 z t)))]) → va_S A s.heap H locs → lv_has ls 5 [(4, .int (nI t)), (3, .int (nI z)), (2, .ref q_1), (0, .ref (ad 0 0)), (1, .ref ((ad 2) 0))] → W p l e ({ frames := 5, cells := 1, slots := 10, locals := 111 } : Room) s m args below meth c H locs 1 10 Q (F0 m 37 ls []) := by
                intro n
                induction n with
                | zero => intro t hi37_0 hi37_1; exact absurd hi37_1 (by omega)
                | succ n ih_37 =>
                  intro t hi37_0 hi37_1 H locs ls hP hD hS hl
                  refine lv_iload hx hb dX0_isRow_37 (lv_at hl 0 rfl) ?_
                  refine lv_aload_n hx hb dX0_isRow_39 rfl (lv_at hl 4 rfl) ?_
                  refine va_getN (D := G.1) (ci := 7) (v := .int (nI (mny r1))) (C := RX8) (T := TX8) (N := 9) hx hb hts in_X8 hown hK.1 hP 13 rfl rfl 0 (by decide) (va_Nw.use rfl (hK.2.F 4 rfl)) (fun _ h9 => h9) (x_some (pMins_r0 hr1)) dX0_isRow_40 ?_
                  refine lv_icmp_ge (tgt := 82) hx hb dX0_isRow_43 (by decide) (fun c_6 => ?_) (fun c_6 => ?_)
                  · skip
                    have g_6 := (nI_leI (by omega) (by omega)).mp c_6
                    obtain rfl : t = mny r1 := by omega
                    rw [wF_m] at hP hD
                    refine lv_aload_n hx hb dX0_isRow_82 rfl (lv_at hl 4 rfl) ?_
                    refine lv_iconst (v := 0) hx hb dX0_isRow_83 (by decide) ?_
                    refine x_Vv (wN := fun _ => (wX G ad ho rn ln dr ro lt rf th sb ++ wR G (ad 1) kd r ++ wR G (ad 2) k1 (pMin (pMins r1 z) 0) ++ wR G (ad 3) k2 r2 ++ wK (ad 4) ++ [(q_1, .inl (G.2 0, 10, .inl (wG r1 (z + 1))))])) ⟨C0, hK, hP, hD, hS, hA⟩ 13 rfl (ci := 7) rfl rfl ((m_minuteOn l G (ad 2) (ad 4) k1 (pMins r1 z) (hr1.mins) (hk1.mins) 0)) (cwV 1 hts (lw_V q807 q627 q628 q94 q629) rfl rfl rfl (by decide +kernel) ⟨Nat.le_of_ble_eq_true rfl, Nat.le_of_ble_eq_true rfl⟩) [13, 14, 15, 16, 17, 18, 25, 26, 27, 28, 29, 30] [0, 2, 4, 6, 8, 10, 12, 14, 16, 18, 20, 22, 24, 1, 3, 5, 7, 9, 11, 38, 40, 42, 44, 46, 48, 13, 15, 17, 19, 21, 23, 62] rfl (fun _ => rfl) rfl rfl hl.1 rfl (Nat.le_of_ble_eq_true rfl) dX0_isRow_84 ⟨(Nat.le_of_ble_eq_true rfl), (Nat.le_of_ble_eq_true rfl)⟩ (fun u_7 H locs hw_7 hP hD hS => ?_)
                    have hP : va_P G.1 vwCl (wX G ad ho rn ln dr ro lt rf th sb ++ wR G (ad 1) kd r ++ wR G (ad 2) k1 (pMin (pMins r1 z) 0) ++ wR G (ad 3) k2 r2 ++ wK (ad 4) ++ [(q_1, .inl (G.2 0, 10, .inl (wG r1 (z + 1))))]) H := hP
                    have hD : va_D A (wX G ad ho rn ln dr ro lt rf th sb ++ wR G (ad 1) kd r ++ wR G (ad 2) k1 (pMin (pMins r1 z) 0) ++ wR G (ad 3) k2 r2 ++ wK (ad 4) ++ [(q_1, .inl (G.2 0, 10, .inl (wG r1 (z + 1))))]) := hD
                    refine lv_iinc (v := nI (z + 1)) (lv' := [(3, .int (nI (z + 1))), (4, .int (nI (mny r1))), (2, .ref q_1), (0, .ref (ad 0 0)), (1, .ref ((ad 2) 0))]) hx hb dX0_isRow_87 hl (k := 1) rfl (x_inc1 _) (by decide) rfl (fun ls hl => ?_)
                    refine lv_goto (tgt := 28) hx hb dX0_isRow_90 (by decide) ?_
                    exact ih_28 (z + 1) (by omega) (by omega) _ _ _ hP hD hS (lv_sub hl [0, 2, 3, 4] rfl)
                  · skip
                    have g_6 := mt (nI_leI (by omega) (by omega)).mpr c_6
                    refine lv_aload_n hx hb dX0_isRow_46 rfl (lv_at hl 2 rfl) ?_
                    refine lv_iload hx hb dX0_isRow_47 (lv_at hl 0 rfl) ?_
                    refine lv_aload_n hx hb dX0_isRow_49 rfl (lv_at hl 4 rfl) ?_
                    refine va_getN (D := G.1) (ci := 7) (v := .ref ((ad 2) 4)) (C := RX8) (T := TX8) (N := 9) hx hb hts in_X8 hown hK.1 hP 13 rfl rfl 4 (by decide) (va_Nw.use rfl (hK.2.F 9 rfl)) (fun _ h9 => h9) rfl dX0_isRow_50 ?_
                    refine lv_iload hx hb dX0_isRow_53 (lv_at hl 0 rfl) ?_
                    refine x_ialdn (k := t) hx hb hK.1 hP 17 0 rfl rfl (by omega) (by decide) (v := ((pMins r1 z) 3) t) rfl dX0_isRow_55 ?_
                    refine lv_iconst (v := 1) hx hb dX0_isRow_56 (by decide) ?_
                    refine lv_icmp_ne (tgt := 71) hx hb dX0_isRow_57 (by decide) (fun c_8 => ?_) (fun c_8 => ?_)
                    · skip
                      refine lv_aload_n hx hb dX0_isRow_71 rfl (lv_at hl 2 rfl) ?_
                      refine lv_iload hx hb dX0_isRow_72 (lv_at hl 0 rfl) ?_
                      refine x_ialdn (k := t) hx hb hK.1 hP 31 0 rfl rfl (by omega) (by decide) (v := wA r1 z t) (wF_at (by omega)) dX0_isRow_74 ?_
                      rw [show (wA r1 z t : Int32) = wA r1 (z + 1) t from wA_n c_8]
                      refine x_iastn (k := t) hx hb hK.1 hP hD hS 31 0 rfl rfl (by omega) (by decide) (g := upd (wF r1 z t) t (wA r1 (z + 1) t)) rfl dX0_isRow_75 (fun H locs hP hD hS => ?_)
                      have hP : va_P G.1 vwCl (wX G ad ho rn ln dr ro lt rf th sb ++ wR G (ad 1) kd r ++ wR G (ad 2) k1 (pMins r1 z) ++ wR G (ad 3) k2 r2 ++ wK (ad 4) ++ [(q_1, .inl (G.2 0, 10, .inl (upd (wF r1 z t) t (wA r1 (z + 1) t))))]) H := hP
                      have hD : va_D A (wX G ad ho rn ln dr ro lt rf th sb ++ wR G (ad 1) kd r ++ wR G (ad 2) k1 (pMins r1 z) ++ wR G (ad 3) k2 r2 ++ wK (ad 4) ++ [(q_1, .inl (G.2 0, 10, .inl (upd (wF r1 z t) t (wA r1 (z + 1) t))))]) := hD
                      refine lv_iinc (v := nI (t + 1)) (lv' := [(4, .int (nI (t + 1))), (3, .int (nI z)), (2, .ref q_1), (0, .ref (ad 0 0)), (1, .ref ((ad 2) 0))]) hx hb dX0_isRow_76 hl (k := 0) rfl (x_inc1 _) (by decide) rfl (fun ls hl => ?_)
                      refine lv_goto (tgt := 37) hx hb dX0_isRow_79 (by decide) ?_
                      rw [wF_s] at hP hD
                      exact ih_37 (t + 1) (by omega) (by omega) _ _ _ hP hD hS (lv_sub hl [0, 1, 2, 3, 4] rfl)
                    · skip
                      refine lv_aload_n hx hb dX0_isRow_60 rfl (lv_at hl 2 rfl) ?_
                      refine lv_iload hx hb dX0_isRow_61 (lv_at hl 0 rfl) ?_
                      refine x_ialdn (k := t) hx hb hK.1 hP 31 0 rfl rfl (by omega) (by decide) (v := wA r1 z t) (wF_at (by omega)) dX0_isRow_63 ?_
                      refine lv_iload_n hx hb dX0_isRow_64 rfl (lv_at hl 1 rfl) ?_
                      refine va_mmin hx hb (by rw [hml]; exact hl.1.symm) hown (hts _ q883) (hts _ q884) (hts _ q111) (hts _ q885) (Nat.le_of_ble_eq_true rfl) (Nat.le_of_ble_eq_true rfl) (Nat.le_of_ble_eq_true rfl) (Nat.le_of_ble_eq_true rfl) dX0_isRow_65 ?_
                      refine lv_goto (tgt := 75) hx hb dX0_isRow_68 (by decide) ?_
                      rw [show (if (nI z) < (wA r1 z t) then nI z else wA r1 z t : Int32) = wA r1 (z + 1) t from (wA_y (by omega) c_8)]
                      refine x_iastn (k := t) hx hb hK.1 hP hD hS 31 0 rfl rfl (by omega) (by decide) (g := upd (wF r1 z t) t (wA r1 (z + 1) t)) rfl dX0_isRow_75 (fun H locs hP hD hS => ?_)
                      have hP : va_P G.1 vwCl (wX G ad ho rn ln dr ro lt rf th sb ++ wR G (ad 1) kd r ++ wR G (ad 2) k1 (pMins r1 z) ++ wR G (ad 3) k2 r2 ++ wK (ad 4) ++ [(q_1, .inl (G.2 0, 10, .inl (upd (wF r1 z t) t (wA r1 (z + 1) t))))]) H := hP
                      have hD : va_D A (wX G ad ho rn ln dr ro lt rf th sb ++ wR G (ad 1) kd r ++ wR G (ad 2) k1 (pMins r1 z) ++ wR G (ad 3) k2 r2 ++ wK (ad 4) ++ [(q_1, .inl (G.2 0, 10, .inl (upd (wF r1 z t) t (wA r1 (z + 1) t))))]) := hD
                      refine lv_iinc (v := nI (t + 1)) (lv' := [(4, .int (nI (t + 1))), (3, .int (nI z)), (2, .ref q_1), (0, .ref (ad 0 0)), (1, .ref ((ad 2) 0))]) hx hb dX0_isRow_76 hl (k := 0) rfl (x_inc1 _) (by decide) rfl (fun ls hl => ?_)
                      refine lv_goto (tgt := 37) hx hb dX0_isRow_79 (by decide) ?_
                      rw [wF_s] at hP hD
                      exact ih_37 (t + 1) (by omega) (by omega) _ _ _ hP hD hS (lv_sub hl [0, 1, 2, 3, 4] rfl)
              exact loop_37 (mny r1 + 1) 0 (by omega) (by omega) _ _ _ (by rw [wF_0]; exact hP) (by rw [wF_0]; exact hD) hS (lv_sub hl [0, 1, 2, 3, 4] rfl)
        exact loop_28 100 0 (by omega) (by omega) _ _ _ hP hD hS (lv_sub hl [0, 1, 2, 3] rfl)
      · skip
        have g_2 := mt (nI_leI (by omega) (by omega)).mpr c_2
        refine lv_aload_n hx hb dX0_isRow_15 rfl (lv_at hl 1 rfl) ?_
        refine lv_iload_n hx hb dX0_isRow_16 rfl (lv_at hl 0 rfl) ?_
        refine lv_bipush (v := 99) hx hb dX0_isRow_17 (by decide) ?_
        refine x_iastn (k := t) hx hb hK.1 hP hD hS 31 0 rfl rfl (by omega) (by decide) (g := upd (wI t) t 99) rfl dX0_isRow_19 (fun H locs hP hD hS => ?_)
        have hP : va_P G.1 vwCl (wX G ad ho rn ln dr ro lt rf th sb ++ wR G (ad 1) kd r ++ wR G (ad 2) k1 r1 ++ wR G (ad 3) k2 r2 ++ wK (ad 4) ++ [(q_1, .inl (G.2 0, 10, .inl (upd (wI t) t 99)))]) H := hP
        have hD : va_D A (wX G ad ho rn ln dr ro lt rf th sb ++ wR G (ad 1) kd r ++ wR G (ad 2) k1 r1 ++ wR G (ad 3) k2 r2 ++ wK (ad 4) ++ [(q_1, .inl (G.2 0, 10, .inl (upd (wI t) t 99)))]) := hD
        refine lv_iinc (v := nI (t + 1)) (lv' := [(3, .int (nI (t + 1))), (2, .ref q_1), (0, .ref (ad 0 0)), (1, .ref ((ad 2) 0))]) hx hb dX0_isRow_20 hl (k := 0) rfl (x_inc1 _) (by decide) rfl (fun ls hl => ?_)
        refine lv_goto (tgt := 7) hx hb dX0_isRow_23 (by decide) ?_
        rw [wI_s] at hP hD
        exact ih_7 (t + 1) (by omega) (by omega) _ _ _ hP hD hS (lv_sub hl [0, 1, 2, 3] rfl)
  exact loop_7 (mny r1 + 1) 0 (by omega) (by omega) _ _ _ (by rw [wI_0]; exact hP) (by rw [wI_0]; exact hD) hS (lv_sub hl [0, 1, 2, 3] rfl)

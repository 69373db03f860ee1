/-! methods in mind, 5 (printed by tools/mind5.py) -/
set_option maxHeartbeats 4000000 in
set_option maxRecDepth 100000 in
theorem m_fitting (l : Launch) (G : xG) (ad : Nat → Nat → Nat) (kd k1 k2 : Nat → Option Nat) (r r1 r2 : Rw) (ho rn ln dr : Int32) (ro lt rf th sb : Nat → Int32) (hr : Ok r) (hp : r 5 3 = 0) (hk : kOk (ad 4) kd r) (t : Nat) (ht : t < mny r) (w : Int32) (hw : w = 0 ∨ w = 1) : xCi l G yX0_fitting cX0_fitting 6 (some .int) ({ frames := 6, cells := 10, slots := 100, locals := 135 } : Room) [.ref (ad 0 0), .int (nI t), .int w] (wX G ad ho rn ln dr ro lt rf th sb ++ wR G (ad 1) kd r ++ wR G (ad 2) k1 r1 ++ wR G (ad 3) k2 r2 ++ wK (ad 4)) (S := ((Nat → Option Nat) × Rw)) (fun v _ => v = pFits r ro t w) (fun u => (wX G ad ho rn ln dr ro lt rf th sb ++ wR G (ad 1) kd r ++ wR G (ad 2) u.1 u.2 ++ wR G (ad 3) k2 r2 ++ wK (ad 4))) := by
  refine x_openi (by decide) (Nat.le_of_ble_eq_true rfl) (fun _ _ _ => rfl) ?_
  intro p e s m args below meth c A Q ls C0 hK hP hD hA hl hret
  obtain ⟨hx, hb, hml, hown, hts⟩ := id C0
  have hS : va_S A s.heap s.heap [] := va_S.rf
  have hP : va_P G.1 vwCl (wX G ad ho rn ln dr ro lt rf th sb ++ wR G (ad 1) kd r ++ wR G (ad 2) k1 r1 ++ wR G (ad 3) k2 r2 ++ wK (ad 4)) s.heap := hP
  have hD : va_D A (wX G ad ho rn ln dr ro lt rf th sb ++ wR G (ad 1) kd r ++ wR G (ad 2) k1 r1 ++ wR G (ad 3) k2 r2 ++ wK (ad 4)) := hD
  have hl : lv_has ls 6 [(0, .ref (ad 0 0)), (1, .int (nI t)), (2, .int w)] := hl
  have hr0 := hr.n
  have hN := hr.le
  rcases hw with rfl | rfl
  · skip
    refine lv_iconst (v := 0) hx hb dX0_fitting_0 (by decide) ?_
    refine lv_istore_n (lv' := [(3, .int 0), (0, .ref (ad 0 0)), (1, .int (nI t)), (2, .int 0)]) hx hb dX0_fitting_1 rfl hl (by decide) rfl (fun ls hl => ?_)
    refine lv_iconst (v := 0) hx hb dX0_fitting_2 (by decide) ?_
    refine lv_istore (lv' := [(4, .int 0), (3, .int 0), (0, .ref (ad 0 0)), (1, .int (nI t)), (2, .int 0)]) hx hb dX0_fitting_3 hl (by decide) rfl (fun ls hl => ?_)
    have loop_5 : ∀ (n : Nat) (k : Nat) (km : Nat → Option Nat) (rm : Rw), (k ≤ 6) → (6 < k + n) → ∀ (H : Heap) (locs : List Loc) (ls : Array Slot), va_P G.1 vwCl (wX G ad ho rn ln dr ro lt rf th sb ++ wR G (ad 1) kd r ++ wR G (ad 2) km rm ++ wR G (ad 3) k2 r2 ++ wK (ad 4)) H → va_D A (wX G ad ho rn ln dr ro lt rf th sb ++ wR G (ad 1) kd r ++ wR G (ad 2) km rm ++ wR G (ad 3) k2 r2 ++ wK (ad 4)) → va_S A s.heap H locs → lv_has ls 6 [(4, .int (nI k)), (3, .int (bs (fun j => isRw ro (pFit r t 0 j)) k)), (0, .ref (ad 0 0)), (1, .int (nI t)), (2, .int 0)] → W p l e ({ frames := 6, cells := 10, slots := 100, locals := 135 } : Room) s m args below meth c H locs k (10 * k) Q (F0 m 5 ls []) := by
      intro n
      induction n with
      | zero => intro k km rm hi5_0 hi5_1; exact absurd hi5_1 (by omega)
      | succ n ih_5 =>
        intro k km rm hi5_0 hi5_1 H locs ls hP hD hS hl
        refine lv_iload hx hb dX0_fitting_5 (lv_at hl 0 rfl) ?_
        refine lv_iload_n hx hb dX0_fitting_7 rfl (lv_at hl 4 rfl) ?_
        refine lv_if_ne (tgt := 16) hx hb dX0_fitting_8 (by decide) (fun c_1 => ?_) (fun c_1 => ?_)
        · skip
          exact absurd c_1 (by decide)
        · skip
          refine lv_bipush (v := 6) hx hb dX0_fitting_11 (by decide) ?_
          refine lv_goto (tgt := 18) hx hb dX0_fitting_13 (by decide) ?_
          refine lv_icmp_ge (tgt := 105) hx hb dX0_fitting_18 (by decide) (fun c_2 => ?_) (fun c_2 => ?_)
          · skip
            have g_2 := (nI_leI (by omega) (by omega)).mp (show nI k ≥ nI 6 from c_2)
            refine lv_iload_n hx hb dX0_fitting_105 rfl (lv_at hl 1 rfl) ?_
            refine hret _ _ _ _ _ _ (bs (fun j => isRw ro (pFit r t 0 j)) k) (km, rm) dX0_fitting_106 ?_ hP hD hS (show k ≤ 10 by omega) (show 10 * k ≤ 100 by omega)
            rw [show k = 6 by omega]
            exact pFits_0 r ro t
          · skip
            have g_2 := mt (nI_leI (by omega) (by omega)).mpr (show ¬ (nI k ≥ nI 6) from c_2)
            refine lv_aload_n hx hb dX0_fitting_21 rfl (lv_at hl 2 rfl) ?_
            refine x_Vr (wN := fun _ => (wX G ad ho rn ln dr ro lt rf th sb ++ wR G (ad 1) kd r ++ wR G (ad 2) kd r ++ wR G (ad 3) k2 r2 ++ wK (ad 4))) ⟨C0, hK, hP, hD, hS, hA⟩ 0 rfl (ci := 0) rfl rfl ((m_openMind l G ad kd km k2 r rm r2 ho rn ln dr ro lt rf th sb hr hp hk )) (cwV 0 hts (lw_V q795 q797 qs25 q86 q798) rfl rfl rfl (by decide +kernel) ⟨Nat.le_of_ble_eq_true rfl, Nat.le_of_ble_eq_true rfl⟩) [0, 1, 2, 3, 4, 5, 6, 7, 8, 9, 10, 11, 12, 13, 14, 15, 16, 17, 18, 19, 20, 21, 22, 23, 24, 25, 26, 27, 28, 29, 30] [1, 3, 5, 7, 9, 11, 13, 15, 17, 19, 21, 23, 25, 27, 29, 31, 33, 35, 37, 39, 41, 43, 45, 47, 49, 51, 53, 55, 57, 59, 61] rfl (fun _ => rfl) rfl rfl hl.1 rfl (Nat.le_of_ble_eq_true rfl) dX0_fitting_22 ⟨(show k ≤ 10 by omega), (show 10 * k ≤ 100 by omega)⟩ (fun u_3 H locs hw_3 hP hD hS => ?_)
            have hP : va_P G.1 vwCl (wX G ad ho rn ln dr ro lt rf th sb ++ wR G (ad 1) kd r ++ wR G (ad 2) kd r ++ wR G (ad 3) k2 r2 ++ wK (ad 4)) H := hP
            have hD : va_D A (wX G ad ho rn ln dr ro lt rf th sb ++ wR G (ad 1) kd r ++ wR G (ad 2) kd r ++ wR G (ad 3) k2 r2 ++ wK (ad 4)) := hD
            refine lv_astore (lv' := [(5, .ref ((ad 2) 0)), (4, .int (nI k)), (3, .int (bs (fun j => isRw ro (pFit r t 0 j)) k)), (0, .ref (ad 0 0)), (1, .int (nI t)), (2, .int 0)]) hx hb dX0_fitting_25 hl (by decide) rfl (fun ls hl => ?_)
            refine lv_aload hx hb dX0_fitting_27 (lv_at hl 0 rfl) ?_
            refine va_getN (D := G.1) (ci := 7) (v := .ref ((ad 2) 1)) (C := RX8) (T := TX8) (N := 9) hx hb hts in_X8 hown hK.1 hP 13 rfl rfl 1 (by decide) (va_Nw.use rfl (hK.2.F 5 rfl)) (fun _ h9 => h9) rfl dX0_fitting_29 ?_
            refine lv_iload_n hx hb dX0_fitting_32 rfl (lv_at hl 4 rfl) ?_
            refine lv_iload_n hx hb dX0_fitting_33 rfl (lv_at hl 5 rfl) ?_
            refine lv_if_ne (tgt := 47) hx hb dX0_fitting_34 (by decide) (fun c_4 => ?_) (fun c_4 => ?_)
            · skip
              exact absurd c_4 (by decide)
            · skip
              refine lv_aload_n hx hb dX0_fitting_37 rfl (lv_at hl 3 rfl) ?_
              refine va_get (D := G.1) (ci := 0) (v := .ref (ad 0 1)) (C := RX0) (T := TX0) (N := 13) hx hb hts in_X0 hown hK.1 hP 0 rfl rfl 0 (by decide) (hts _ q221) (fun _ h9 => h9) rfl dX0_fitting_38 ?_
              refine lv_iload hx hb dX0_fitting_41 (lv_at hl 1 rfl) ?_
              refine x_aald hx hb hK.1 hP 1 3 rfl rfl (vp_in_nI (by omega) (by decide)) (x := (ad 4) k) (congrArg (fun j => some (ad 4 j)) (nI_clamp (by omega))) dX0_fitting_43 ?_
              refine lv_goto (tgt := 54) hx hb dX0_fitting_44 (by decide) ?_
              refine x_aastn (k := t) hx hb hK.1 hP hD hS 14 3 rfl rfl (kAny hK hP 25 (fun c hc => by rcases (show c = 0 ∨ c = 1 ∨ c = 2 ∨ c = 3 ∨ c = 4 ∨ c = 5 by omega) with rfl | rfl | rfl | rfl | rfl | rfl <;> rfl) (show k < 6 by omega)) (by omega) (by decide) dX0_fitting_54 (fun H locs hP hD hS => ?_)
              have hP : va_P G.1 vwCl (wX G ad ho rn ln dr ro lt rf th sb ++ wR G (ad 1) kd r ++ wR G (ad 2) (va_up kd t (some ((ad 4) k))) r ++ wR G (ad 3) k2 r2 ++ wK (ad 4)) H := hP
              have hD : va_D A (wX G ad ho rn ln dr ro lt rf th sb ++ wR G (ad 1) kd r ++ wR G (ad 2) (va_up kd t (some ((ad 4) k))) r ++ wR G (ad 3) k2 r2 ++ wK (ad 4)) := hD
              refine lv_aload hx hb dX0_fitting_55 (lv_at hl 0 rfl) ?_
              refine va_getN (D := G.1) (ci := 7) (v := .ref ((ad 2) 2)) (C := RX8) (T := TX8) (N := 9) hx hb hts in_X8 hown hK.1 hP 13 rfl rfl 2 (by decide) (va_Nw.use rfl (hK.2.F 6 rfl)) (fun _ h9 => h9) rfl dX0_fitting_57 ?_
              refine lv_iload_n hx hb dX0_fitting_60 rfl (lv_at hl 4 rfl) ?_
              refine lv_iload_n hx hb dX0_fitting_61 rfl (lv_at hl 5 rfl) ?_
              refine lv_iconst (v := 1) hx hb dX0_fitting_62 (by decide) ?_
              refine lv_icmp_ne (tgt := 71) hx hb dX0_fitting_63 (by decide) (fun c_5 => ?_) (fun c_5 => ?_)
              · skip
                refine lv_aload hx hb dX0_fitting_71 (lv_at hl 0 rfl) ?_
                refine va_getN (D := G.1) (ci := 7) (v := .ref ((ad 2) 2)) (C := RX8) (T := TX8) (N := 9) hx hb hts in_X8 hown hK.1 hP 13 rfl rfl 2 (by decide) (va_Nw.use rfl (hK.2.F 6 rfl)) (fun _ h9 => h9) rfl dX0_fitting_73 ?_
                refine lv_iload_n hx hb dX0_fitting_76 rfl (lv_at hl 4 rfl) ?_
                refine x_ialdn (k := t) hx hb hK.1 hP 15 0 rfl rfl (by omega) (by decide) (v := (r 1) t) rfl dX0_fitting_77 ?_
                refine x_iastn (k := t) hx hb hK.1 hP hD hS 15 0 rfl rfl (by omega) (by decide) (g := upd (r 1) t ((r 1) t)) rfl dX0_fitting_78 (fun H locs hP hD hS => ?_)
                have hP : va_P G.1 vwCl (wX G ad ho rn ln dr ro lt rf th sb ++ wR G (ad 1) kd r ++ wR G (ad 2) (va_up kd t (some ((ad 4) k))) (sf r 1 (upd (r 1) t ((r 1) t))) ++ wR G (ad 3) k2 r2 ++ wK (ad 4)) H := hP
                have hD : va_D A (wX G ad ho rn ln dr ro lt rf th sb ++ wR G (ad 1) kd r ++ wR G (ad 2) (va_up kd t (some ((ad 4) k))) (sf r 1 (upd (r 1) t ((r 1) t))) ++ wR G (ad 3) k2 r2 ++ wK (ad 4)) := hD
                rw [wR_0 G (ad 2) _ r t k] at hP hD
                have hP : va_P G.1 vwCl (wX G ad ho rn ln dr ro lt rf th sb ++ wR G (ad 1) kd r ++ wR G (ad 2) (va_up kd t (some ((ad 4) k))) (pFit r t 0 k) ++ wR G (ad 3) k2 r2 ++ wK (ad 4)) H := hP
                have hD : va_D A (wX G ad ho rn ln dr ro lt rf th sb ++ wR G (ad 1) kd r ++ wR G (ad 2) (va_up kd t (some ((ad 4) k))) (pFit r t 0 k) ++ wR G (ad 3) k2 r2 ++ wK (ad 4)) := hD
                refine lv_iload_n hx hb dX0_fitting_79 rfl (lv_at hl 2 rfl) ?_
                refine lv_aload_n hx hb dX0_fitting_80 rfl (lv_at hl 3 rfl) ?_
                refine lv_aload hx hb dX0_fitting_81 (lv_at hl 0 rfl) ?_
                refine x_Vi (wN := fun _ => (wX G ad ho rn ln dr ro lt rf th sb ++ wR G (ad 1) kd r ++ wR G (ad 2) (va_up kd t (some ((ad 4) k))) (pMins (pFit r t 0 k) 99) ++ wR G (ad 3) k2 r2 ++ wK (ad 4))) ⟨C0, hK, hP, hD, hS, hA⟩ 0 rfl (ci := 0) rfl rfl ((m_isRow l G ad kd (va_up kd t (some ((ad 4) k))) k2 r (pFit r t 0 k) r2 ho rn ln dr ro lt rf th sb hr hp hk (hr.fit0 (by omega)) (hk.fit0 (by omega)))) (cwV 1 hts (lw_V q966 q968 qs57 q86 q969) rfl rfl rfl (by decide +kernel) ⟨Nat.le_of_ble_eq_true rfl, Nat.le_of_ble_eq_true rfl⟩) [0, 1, 2, 3, 4, 5, 6, 7, 8, 9, 10, 11, 12, 13, 14, 15, 16, 17, 18, 19, 20, 21, 22, 23, 24, 25, 26, 27, 28, 29, 30] [1, 3, 5, 7, 9, 11, 13, 15, 17, 19, 21, 23, 25, 27, 29, 31, 33, 35, 37, 39, 41, 43, 45, 47, 49, 51, 53, 55, 57, 59, 61] rfl (fun _ => rfl) rfl rfl hl.1 rfl (Nat.le_of_ble_eq_true rfl) dX0_fitting_83 ⟨(show k + 1 ≤ 10 by omega), (show 10 * k + 10 ≤ 100 by omega)⟩ (fun r_6 u_6 H locs hw_6 hP hD hS => ?_)
                have hw_6 : (bI (isRw ro (pFit r t 0 k)) : Int32) = r_6 := hw_6.symm
                subst hw_6
                have hP : va_P G.1 vwCl (wX G ad ho rn ln dr ro lt rf th sb ++ wR G (ad 1) kd r ++ wR G (ad 2) (va_up kd t (some ((ad 4) k))) (pMins (pFit r t 0 k) 99) ++ wR G (ad 3) k2 r2 ++ wK (ad 4)) H := hP
                have hD : va_D A (wX G ad ho rn ln dr ro lt rf th sb ++ wR G (ad 1) kd r ++ wR G (ad 2) (va_up kd t (some ((ad 4) k))) (pMins (pFit r t 0 k) 99) ++ wR G (ad 3) k2 r2 ++ wK (ad 4)) := hD
                refine W.widen (k := (k + 1)) (n := (10 * k + 10)) (Nat.le_refl _) (Nat.le_refl _) ?_
                refine lv_if_eq (tgt := 96) hx hb dX0_fitting_86 (by decide) (fun c_7 => ?_) (fun c_7 => ?_)
                · skip
                  refine lv_iconst (v := 0) hx hb dX0_fitting_96 (by decide) ?_
                  refine x_ior hx hb dX0_fitting_97 (v := bs (fun j => isRw ro (pFit r t 0 j)) (k + 1)) (bs_f (show isRw ro (pFit r t 0 k) = false from (by have h9 := c_7; simpa [bI_0] using h9))) ?_
                  refine lv_istore_n (lv' := [(3, .int (bs (fun j => isRw ro (pFit r t 0 j)) (k + 1))), (5, .ref ((ad 2) 0)), (4, .int (nI k)), (0, .ref (ad 0 0)), (1, .int (nI t)), (2, .int 0)]) hx hb dX0_fitting_98 rfl hl (by decide) rfl (fun ls hl => ?_)
                  refine lv_iinc (v := nI (k + 1)) (lv' := [(4, .int (nI (k + 1))), (3, .int (bs (fun j => isRw ro (pFit r t 0 j)) (k + 1))), (5, .ref ((ad 2) 0)), (0, .ref (ad 0 0)), (1, .int (nI t)), (2, .int 0)]) hx hb dX0_fitting_99 hl (k := 2) rfl (x_inc1 _) (by decide) rfl (fun ls hl => ?_)
                  refine lv_goto (tgt := 5) hx hb dX0_fitting_102 (by decide) ?_
                  exact ih_5 (k + 1) _ _ (by omega) (by omega) _ _ _ hP hD hS (lv_sub hl [0, 1, 3, 4, 5] rfl)
                · skip
                  refine lv_iconst (v := 1) hx hb dX0_fitting_89 (by decide) ?_
                  refine lv_iload hx hb dX0_fitting_90 (lv_at hl 1 rfl) ?_
                  refine x_ishl hx hb dX0_fitting_92 (v := b1 k) rfl ?_
                  refine lv_goto (tgt := 97) hx hb dX0_fitting_93 (by decide) ?_
                  refine x_ior hx hb dX0_fitting_97 (v := bs (fun j => isRw ro (pFit r t 0 j)) (k + 1)) (bs_t (show isRw ro (pFit r t 0 k) = true from (by have h9 := c_7; simpa [bI_0] using h9))) ?_
                  refine lv_istore_n (lv' := [(3, .int (bs (fun j => isRw ro (pFit r t 0 j)) (k + 1))), (5, .ref ((ad 2) 0)), (4, .int (nI k)), (0, .ref (ad 0 0)), (1, .int (nI t)), (2, .int 0)]) hx hb dX0_fitting_98 rfl hl (by decide) rfl (fun ls hl => ?_)
                  refine lv_iinc (v := nI (k + 1)) (lv' := [(4, .int (nI (k + 1))), (3, .int (bs (fun j => isRw ro (pFit r t 0 j)) (k + 1))), (5, .ref ((ad 2) 0)), (0, .ref (ad 0 0)), (1, .int (nI t)), (2, .int 0)]) hx hb dX0_fitting_99 hl (k := 2) rfl (x_inc1 _) (by decide) rfl (fun ls hl => ?_)
                  refine lv_goto (tgt := 5) hx hb dX0_fitting_102 (by decide) ?_
                  exact ih_5 (k + 1) _ _ (by omega) (by omega) _ _ _ hP hD hS (lv_sub hl [0, 1, 3, 4, 5] rfl)
              · skip
                exact absurd c_5 (by decide)
    exact loop_5 7 0 _ _ (by omega) (by omega) _ _ _ hP hD hS (lv_sub hl [0, 1, 2, 3, 4] rfl)
  · skip
    refine lv_iconst (v := 0) hx hb dX0_fitting_0 (by decide) ?_
    refine lv_istore_n (lv' := [(3, .int 0), (0, .ref (ad 0 0)), (1, .int (nI t)), (2, .int 1)]) hx hb dX0_fitting_1 rfl hl (by decide) rfl (fun ls hl => ?_)
    refine lv_iconst (v := 0) hx hb dX0_fitting_2 (by decide) ?_
    refine lv_istore (lv' := [(4, .int 0), (3, .int 0), (0, .ref (ad 0 0)), (1, .int (nI t)), (2, .int 1)]) hx hb dX0_fitting_3 hl (by decide) rfl (fun ls hl => ?_)
    have loop_5 : ∀ (n : Nat) (k : Nat) (km : Nat → Option Nat) (rm : Rw), (k ≤ 10) → (10 < k + n) → ∀ (H : Heap) (locs : List Loc) (ls : Array Slot), va_P G.1 vwCl (wX G ad ho rn ln dr ro lt rf th sb ++ wR G (ad 1) kd r ++ wR G (ad 2) km rm ++ wR G (ad 3) k2 r2 ++ wK (ad 4)) H → va_D A (wX G ad ho rn ln dr ro lt rf th sb ++ wR G (ad 1) kd r ++ wR G (ad 2) km rm ++ wR G (ad 3) k2 r2 ++ wK (ad 4)) → va_S A s.heap H locs → lv_has ls 6 [(4, .int (nI k)), (3, .int (bs (fun j => isRw ro (pFit r t 1 j)) k)), (0, .ref (ad 0 0)), (1, .int (nI t)), (2, .int 1)] → W p l e ({ frames := 6, cells := 10, slots := 100, locals := 135 } : Room) s m args below meth c H locs k (10 * k) Q (F0 m 5 ls []) := by
      intro n
      induction n with
      | zero => intro k km rm hi5_0 hi5_1; exact absurd hi5_1 (by omega)
      | succ n ih_5 =>
        intro k km rm hi5_0 hi5_1 H locs ls hP hD hS hl
        refine lv_iload hx hb dX0_fitting_5 (lv_at hl 0 rfl) ?_
        refine lv_iload_n hx hb dX0_fitting_7 rfl (lv_at hl 4 rfl) ?_
        refine lv_if_ne (tgt := 16) hx hb dX0_fitting_8 (by decide) (fun c_8 => ?_) (fun c_8 => ?_)
        · skip
          refine lv_bipush (v := 10) hx hb dX0_fitting_16 (by decide) ?_
          refine lv_icmp_ge (tgt := 105) hx hb dX0_fitting_18 (by decide) (fun c_9 => ?_) (fun c_9 => ?_)
          · skip
            have g_9 := (nI_leI (by omega) (by omega)).mp (show nI k ≥ nI 10 from c_9)
            refine lv_iload_n hx hb dX0_fitting_105 rfl (lv_at hl 1 rfl) ?_
            refine hret _ _ _ _ _ _ (bs (fun j => isRw ro (pFit r t 1 j)) k) (km, rm) dX0_fitting_106 ?_ hP hD hS (show k ≤ 10 by omega) (show 10 * k ≤ 100 by omega)
            rw [show k = 10 by omega]
            exact pFits_1 r ro t
          · skip
            have g_9 := mt (nI_leI (by omega) (by omega)).mpr (show ¬ (nI k ≥ nI 10) from c_9)
            refine lv_aload_n hx hb dX0_fitting_21 rfl (lv_at hl 2 rfl) ?_
            refine x_Vr (wN := fun _ => (wX G ad ho rn ln dr ro lt rf th sb ++ wR G (ad 1) kd r ++ wR G (ad 2) kd r ++ wR G (ad 3) k2 r2 ++ wK (ad 4))) ⟨C0, hK, hP, hD, hS, hA⟩ 0 rfl (ci := 0) rfl rfl ((m_openMind l G ad kd km k2 r rm r2 ho rn ln dr ro lt rf th sb hr hp hk )) (cwV 0 hts (lw_V q795 q797 qs25 q86 q798) rfl rfl rfl (by decide +kernel) ⟨Nat.le_of_ble_eq_true rfl, Nat.le_of_ble_eq_true rfl⟩) [0, 1, 2, 3, 4, 5, 6, 7, 8, 9, 10, 11, 12, 13, 14, 15, 16, 17, 18, 19, 20, 21, 22, 23, 24, 25, 26, 27, 28, 29, 30] [1, 3, 5, 7, 9, 11, 13, 15, 17, 19, 21, 23, 25, 27, 29, 31, 33, 35, 37, 39, 41, 43, 45, 47, 49, 51, 53, 55, 57, 59, 61] rfl (fun _ => rfl) rfl rfl hl.1 rfl (Nat.le_of_ble_eq_true rfl) dX0_fitting_22 ⟨(show k ≤ 10 by omega), (show 10 * k ≤ 100 by omega)⟩ (fun u_10 H locs hw_10 hP hD hS => ?_)
            have hP : va_P G.1 vwCl (wX G ad ho rn ln dr ro lt rf th sb ++ wR G (ad 1) kd r ++ wR G (ad 2) kd r ++ wR G (ad 3) k2 r2 ++ wK (ad 4)) H := hP
            have hD : va_D A (wX G ad ho rn ln dr ro lt rf th sb ++ wR G (ad 1) kd r ++ wR G (ad 2) kd r ++ wR G (ad 3) k2 r2 ++ wK (ad 4)) := hD
            refine lv_astore (lv' := [(5, .ref ((ad 2) 0)), (4, .int (nI k)), (3, .int (bs (fun j => isRw ro (pFit r t 1 j)) k)), (0, .ref (ad 0 0)), (1, .int (nI t)), (2, .int 1)]) hx hb dX0_fitting_25 hl (by decide) rfl (fun ls hl => ?_)
            refine lv_aload hx hb dX0_fitting_27 (lv_at hl 0 rfl) ?_
            refine va_getN (D := G.1) (ci := 7) (v := .ref ((ad 2) 1)) (C := RX8) (T := TX8) (N := 9) hx hb hts in_X8 hown hK.1 hP 13 rfl rfl 1 (by decide) (va_Nw.use rfl (hK.2.F 5 rfl)) (fun _ h9 => h9) rfl dX0_fitting_29 ?_
            refine lv_iload_n hx hb dX0_fitting_32 rfl (lv_at hl 4 rfl) ?_
            refine lv_iload_n hx hb dX0_fitting_33 rfl (lv_at hl 5 rfl) ?_
            refine lv_if_ne (tgt := 47) hx hb dX0_fitting_34 (by decide) (fun c_11 => ?_) (fun c_11 => ?_)
            · skip
              refine lv_aload hx hb dX0_fitting_47 (lv_at hl 0 rfl) ?_
              refine va_getN (D := G.1) (ci := 7) (v := .ref ((ad 2) 1)) (C := RX8) (T := TX8) (N := 9) hx hb hts in_X8 hown hK.1 hP 13 rfl rfl 1 (by decide) (va_Nw.use rfl (hK.2.F 5 rfl)) (fun _ h9 => h9) rfl dX0_fitting_49 ?_
              refine lv_iload_n hx hb dX0_fitting_52 rfl (lv_at hl 4 rfl) ?_
              obtain ⟨c0, hc0, ec0⟩ := hr.kd ht
              refine x_aald hx hb hK.1 hP 14 3 rfl rfl (vp_in_nI (by omega) (by decide)) (x := (ad 4) c0) (hk.at ht (by omega) ec0 hc0) dX0_fitting_53 ?_
              refine x_aastn (k := t) hx hb hK.1 hP hD hS 14 3 rfl rfl (kAny hK hP 25 (fun c hc => by rcases (show c = 0 ∨ c = 1 ∨ c = 2 ∨ c = 3 ∨ c = 4 ∨ c = 5 by omega) with rfl | rfl | rfl | rfl | rfl | rfl <;> rfl) hc0) (by omega) (by decide) dX0_fitting_54 (fun H locs hP hD hS => ?_)
              have hP : va_P G.1 vwCl (wX G ad ho rn ln dr ro lt rf th sb ++ wR G (ad 1) kd r ++ wR G (ad 2) (va_up kd t (some ((ad 4) c0))) r ++ wR G (ad 3) k2 r2 ++ wK (ad 4)) H := hP
              have hD : va_D A (wX G ad ho rn ln dr ro lt rf th sb ++ wR G (ad 1) kd r ++ wR G (ad 2) (va_up kd t (some ((ad 4) c0))) r ++ wR G (ad 3) k2 r2 ++ wK (ad 4)) := hD
              refine lv_aload hx hb dX0_fitting_55 (lv_at hl 0 rfl) ?_
              refine va_getN (D := G.1) (ci := 7) (v := .ref ((ad 2) 2)) (C := RX8) (T := TX8) (N := 9) hx hb hts in_X8 hown hK.1 hP 13 rfl rfl 2 (by decide) (va_Nw.use rfl (hK.2.F 6 rfl)) (fun _ h9 => h9) rfl dX0_fitting_57 ?_
              refine lv_iload_n hx hb dX0_fitting_60 rfl (lv_at hl 4 rfl) ?_
              refine lv_iload_n hx hb dX0_fitting_61 rfl (lv_at hl 5 rfl) ?_
              refine lv_iconst (v := 1) hx hb dX0_fitting_62 (by decide) ?_
              refine lv_icmp_ne (tgt := 71) hx hb dX0_fitting_63 (by decide) (fun c_12 => ?_) (fun c_12 => ?_)
              · skip
                exact absurd c_12 (by decide)
              · skip
                refine lv_iload hx hb dX0_fitting_66 (lv_at hl 1 rfl) ?_
                refine lv_goto (tgt := 78) hx hb dX0_fitting_68 (by decide) ?_
                refine x_iastn (k := t) hx hb hK.1 hP hD hS 15 0 rfl rfl (by omega) (by decide) (g := upd (r 1) t (nI k)) rfl dX0_fitting_78 (fun H locs hP hD hS => ?_)
                have hP : va_P G.1 vwCl (wX G ad ho rn ln dr ro lt rf th sb ++ wR G (ad 1) kd r ++ wR G (ad 2) (va_up kd t (some ((ad 4) c0))) (sf r 1 (upd (r 1) t (nI k))) ++ wR G (ad 3) k2 r2 ++ wK (ad 4)) H := hP
                have hD : va_D A (wX G ad ho rn ln dr ro lt rf th sb ++ wR G (ad 1) kd r ++ wR G (ad 2) (va_up kd t (some ((ad 4) c0))) (sf r 1 (upd (r 1) t (nI k))) ++ wR G (ad 3) k2 r2 ++ wK (ad 4)) := hD
                rw [← pFit_1] at hP hD
                have hP : va_P G.1 vwCl (wX G ad ho rn ln dr ro lt rf th sb ++ wR G (ad 1) kd r ++ wR G (ad 2) (va_up kd t (some ((ad 4) c0))) (pFit r t 1 k) ++ wR G (ad 3) k2 r2 ++ wK (ad 4)) H := hP
                have hD : va_D A (wX G ad ho rn ln dr ro lt rf th sb ++ wR G (ad 1) kd r ++ wR G (ad 2) (va_up kd t (some ((ad 4) c0))) (pFit r t 1 k) ++ wR G (ad 3) k2 r2 ++ wK (ad 4)) := hD
                refine lv_iload_n hx hb dX0_fitting_79 rfl (lv_at hl 2 rfl) ?_
                refine lv_aload_n hx hb dX0_fitting_80 rfl (lv_at hl 3 rfl) ?_
                refine lv_aload hx hb dX0_fitting_81 (lv_at hl 0 rfl) ?_
                refine x_Vi (wN := fun _ => (wX G ad ho rn ln dr ro lt rf th sb ++ wR G (ad 1) kd r ++ wR G (ad 2) (va_up kd t (some ((ad 4) c0))) (pMins (pFit r t 1 k) 99) ++ wR G (ad 3) k2 r2 ++ wK (ad 4))) ⟨C0, hK, hP, hD, hS, hA⟩ 0 rfl (ci := 0) rfl rfl ((m_isRow l G ad kd (va_up kd t (some ((ad 4) c0))) k2 r (pFit r t 1 k) r2 ho rn ln dr ro lt rf th sb hr hp hk (hr.fit1 (by omega)) (hk.fit1 hc0 ec0))) (cwV 1 hts (lw_V q966 q968 qs57 q86 q969) rfl rfl rfl (by decide +kernel) ⟨Nat.le_of_ble_eq_true rfl, Nat.le_of_ble_eq_true rfl⟩) [0, 1, 2, 3, 4, 5, 6, 7, 8, 9, 10, 11, 12, 13, 14, 15, 16, 17, 18, 19, 20, 21, 22, 23, 24, 25, 26, 27, 28, 29, 30] [1, 3, 5, 7, 9, 11, 13, 15, 17, 19, 21, 23, 25, 27, 29, 31, 33, 35, 37, 39, 41, 43, 45, 47, 49, 51, 53, 55, 57, 59, 61] rfl (fun _ => rfl) rfl rfl hl.1 rfl (Nat.le_of_ble_eq_true rfl) dX0_fitting_83 ⟨(show k + 1 ≤ 10 by omega), (show 10 * k + 10 ≤ 100 by omega)⟩ (fun r_13 u_13 H locs hw_13 hP hD hS => ?_)
                have hw_13 : (bI (isRw ro (pFit r t 1 k)) : Int32) = r_13 := hw_13.symm
                subst hw_13
                have hP : va_P G.1 vwCl (wX G ad ho rn ln dr ro lt rf th sb ++ wR G (ad 1) kd r ++ wR G (ad 2) (va_up kd t (some ((ad 4) c0))) (pMins (pFit r t 1 k) 99) ++ wR G (ad 3) k2 r2 ++ wK (ad 4)) H := hP
                have hD : va_D A (wX G ad ho rn ln dr ro lt rf th sb ++ wR G (ad 1) kd r ++ wR G (ad 2) (va_up kd t (some ((ad 4) c0))) (pMins (pFit r t 1 k) 99) ++ wR G (ad 3) k2 r2 ++ wK (ad 4)) := hD
                refine W.widen (k := (k + 1)) (n := (10 * k + 10)) (Nat.le_refl _) (Nat.le_refl _) ?_
                refine lv_if_eq (tgt := 96) hx hb dX0_fitting_86 (by decide) (fun c_14 => ?_) (fun c_14 => ?_)
                · skip
                  refine lv_iconst (v := 0) hx hb dX0_fitting_96 (by decide) ?_
                  refine x_ior hx hb dX0_fitting_97 (v := bs (fun j => isRw ro (pFit r t 1 j)) (k + 1)) (bs_f (show isRw ro (pFit r t 1 k) = false from (by have h9 := c_14; simpa [bI_0] using h9))) ?_
                  refine lv_istore_n (lv' := [(3, .int (bs (fun j => isRw ro (pFit r t 1 j)) (k + 1))), (5, .ref ((ad 2) 0)), (4, .int (nI k)), (0, .ref (ad 0 0)), (1, .int (nI t)), (2, .int 1)]) hx hb dX0_fitting_98 rfl hl (by decide) rfl (fun ls hl => ?_)
                  refine lv_iinc (v := nI (k + 1)) (lv' := [(4, .int (nI (k + 1))), (3, .int (bs (fun j => isRw ro (pFit r t 1 j)) (k + 1))), (5, .ref ((ad 2) 0)), (0, .ref (ad 0 0)), (1, .int (nI t)), (2, .int 1)]) hx hb dX0_fitting_99 hl (k := 2) rfl (x_inc1 _) (by decide) rfl (fun ls hl => ?_)
                  refine lv_goto (tgt := 5) hx hb dX0_fitting_102 (by decide) ?_
                  exact ih_5 (k + 1) _ _ (by omega) (by omega) _ _ _ hP hD hS (lv_sub hl [0, 1, 3, 4, 5] rfl)
                · skip
                  refine lv_iconst (v := 1) hx hb dX0_fitting_89 (by decide) ?_
                  refine lv_iload hx hb dX0_fitting_90 (lv_at hl 1 rfl) ?_
                  refine x_ishl hx hb dX0_fitting_92 (v := b1 k) rfl ?_
                  refine lv_goto (tgt := 97) hx hb dX0_fitting_93 (by decide) ?_
                  refine x_ior hx hb dX0_fitting_97 (v := bs (fun j => isRw ro (pFit r t 1 j)) (k + 1)) (bs_t (show isRw ro (pFit r t 1 k) = true from (by have h9 := c_14; simpa [bI_0] using h9))) ?_
                  refine lv_istore_n (lv' := [(3, .int (bs (fun j => isRw ro (pFit r t 1 j)) (k + 1))), (5, .ref ((ad 2) 0)), (4, .int (nI k)), (0, .ref (ad 0 0)), (1, .int (nI t)), (2, .int 1)]) hx hb dX0_fitting_98 rfl hl (by decide) rfl (fun ls hl => ?_)
                  refine lv_iinc (v := nI (k + 1)) (lv' := [(4, .int (nI (k + 1))), (3, .int (bs (fun j => isRw ro (pFit r t 1 j)) (k + 1))), (5, .ref ((ad 2) 0)), (0, .ref (ad 0 0)), (1, .int (nI t)), (2, .int 1)]) hx hb dX0_fitting_99 hl (k := 2) rfl (x_inc1 _) (by decide) rfl (fun ls hl => ?_)
                  refine lv_goto (tgt := 5) hx hb dX0_fitting_102 (by decide) ?_
                  exact ih_5 (k + 1) _ _ (by omega) (by omega) _ _ _ hP hD hS (lv_sub hl [0, 1, 3, 4, 5] rfl)
            · skip
              exact absurd c_11 (by decide)
        · skip
          exact absurd c_8 (by decide)
    exact loop_5 11 0 _ _ (by omega) (by omega) _ _ _ hP hD hS (lv_sub hl [0, 1, 2, 3, 4] rfl)
set_option maxHeartbeats 4000000 in
set_option maxRecDepth 100000 in
theorem m_divisor (l : Launch) (G : xG) (a b : Nat) (ha : a < 2 ^ 63) (hb9 : b < 2 ^ 63) : xCl l G yX0_divisor cX0_divisor 10 (some .long) ({ frames := 0, cells := 0, slots := 0, locals := 0 } : Room) [.long (lN a), .long (lN b)] ([] : va_W) (S := Unit) (fun v _ => v = lN (Nat.gcd a b)) (fun _ => []) := by
  refine x_openl (by decide) (Nat.le_of_ble_eq_true rfl) ?_
  intro p e s m args below meth c A Q ls C0 hK hP hD hA hl hret
  obtain ⟨hx, hb, hml, hown, hts⟩ := id C0
  have hS : va_S A s.heap s.heap [] := va_S.rf
  have hP : va_P G.1 vwCl ([] : va_W) s.heap := hP
  have hD : va_D A ([] : va_W) := hD
  have hl : lv_has ls 10 [(0, .long (lN a)), (2, .long (lN b))] := hl
  refine lv_lload_n hx hb dX0_divisor_0 rfl (lv_at hl 0 rfl) ?_
  refine lv_lstore (lv' := [(4, .long (lN a)), (0, .long (lN a)), (2, .long (lN b))]) hx hb dX0_divisor_1 hl (by decide) rfl (fun ls hl => ?_)
  refine lv_lload_n hx hb dX0_divisor_3 rfl (lv_at hl 2 rfl) ?_
  refine lv_lstore (lv' := [(6, .long (lN b)), (4, .long (lN a)), (0, .long (lN a)), (2, .long (lN b))]) hx hb dX0_divisor_4 hl (by decide) rfl (fun ls hl => ?_)
  have loop_6 : ∀ (n : Nat) (x y : Nat), (y < n) → (x < 2 ^ 63) → (y < 2 ^ 63) → (Nat.gcd x y = Nat.gcd a b) → ∀ (H : Heap) (locs : List Loc) (ls : Array Slot), va_P G.1 vwCl ([] : va_W) H → va_D A ([] : va_W) → va_S A s.heap H locs → lv_has ls 10 [(6, .long (lN y)), (4, .long (lN x)), (0, .long (lN a)), (2, .long (lN b))] → W p l e ({ frames := 0, cells := 0, slots := 0, locals := 0 } : Room) s m args below meth c H locs 0 0 Q (F0 m 6 ls []) := by
    intro n
    induction n with
    | zero => intro x y hi6_0 hi6_1 hi6_2 hi6_3; exact absurd hi6_0 (by omega)
    | succ n ih_6 =>
      intro x y hi6_0 hi6_1 hi6_2 hi6_3 H locs ls hP hD hS hl
      refine lv_lload hx hb dX0_divisor_6 (lv_at hl 0 rfl) ?_
      refine lv_lconst (v := 0) hx hb dX0_divisor_8 (by decide) ?_
      refine W.lcmp hx hb dX0_divisor_9 ?_
      refine lv_if_eq (tgt := 31) hx hb dX0_divisor_10 (by decide) (fun c_1 => ?_) (fun c_1 => ?_)
      · skip
        have ey : y = 0 := (lN_z hi6_2).mp c_1
        refine lv_lload hx hb dX0_divisor_31 (lv_at hl 1 rfl) ?_
        refine hret _ _ _ _ _ _ (lN x) () dX0_divisor_33 ?_ hP hD hS (Nat.le_of_ble_eq_true rfl) (Nat.le_of_ble_eq_true rfl)
        rw [← hi6_3, ey, Nat.gcd_zero_right]
      · skip
        have ey : y ≠ 0 := fun q => c_1 ((lN_z hi6_2).mpr q)
        refine lv_lload hx hb dX0_divisor_13 (lv_at hl 1 rfl) ?_
        refine lv_lload hx hb dX0_divisor_15 (lv_at hl 0 rfl) ?_
        refine x_lrem hx hb dX0_divisor_17 (fun q => ey ((pk_lEQ (b := 0) hi6_2 (by omega)).mp q)) (v := lN (x % y)) (pk_lRem hi6_1 (by omega) hi6_2) ?_
        refine lv_lstore (lv' := [(8, .long (lN (x % y))), (6, .long (lN y)), (4, .long (lN x)), (0, .long (lN a)), (2, .long (lN b))]) hx hb dX0_divisor_18 hl (by decide) rfl (fun ls hl => ?_)
        refine lv_lload hx hb dX0_divisor_20 (lv_at hl 1 rfl) ?_
        refine lv_lstore (lv' := [(4, .long (lN y)), (8, .long (lN (x % y))), (6, .long (lN y)), (0, .long (lN a)), (2, .long (lN b))]) hx hb dX0_divisor_22 hl (by decide) rfl (fun ls hl => ?_)
        refine lv_lload hx hb dX0_divisor_24 (lv_at hl 1 rfl) ?_
        refine lv_lstore (lv' := [(6, .long (lN (x % y))), (4, .long (lN y)), (8, .long (lN (x % y))), (0, .long (lN a)), (2, .long (lN b))]) hx hb dX0_divisor_26 hl (by decide) rfl (fun ls hl => ?_)
        refine lv_goto (tgt := 6) hx hb dX0_divisor_28 (by decide) ?_
        exact ih_6 y (x % y) (by have := Nat.mod_lt x (show 0 < y by omega); omega) hi6_2 (by have := Nat.mod_lt x (show 0 < y by omega); omega) (by rw [Nat.gcd_comm y, ← Nat.gcd_rec, Nat.gcd_comm, hi6_3]) _ _ _ hP hD hS (lv_sub hl [0, 1, 3, 4] rfl)
  exact loop_6 (b + 1) a b (by omega) ha hb9 rfl _ _ _ hP hD hS (lv_sub hl [0, 1, 2, 3] rfl)
set_option maxHeartbeats 4000000 in
set_option maxRecDepth 100000 in
theorem m_partOf (l : Launch) (G : xG) (a b : Nat) (part : Int32) (ha : a < 2 ^ 63) (hb9 : b < 2 ^ 63) (hb0 : 0 < b) : xCl l G yX0_partOf cX0_partOf 7 (some .long) ({ frames := 1, cells := 0, slots := 0, locals := 29 } : Room) [.long (lN a), .long (lN b), .int part] ([] : va_W) (S := Unit) (fun v _ => v = pDrF a b part) (fun _ => []) := by
  refine x_openl (by decide) (Nat.le_of_ble_eq_true rfl) ?_
  intro p e s m args below meth c A Q ls C0 hK hP hD hA hl hret
  obtain ⟨hx, hb, hml, hown, hts⟩ := id C0
  have hS : va_S A s.heap s.heap [] := va_S.rf
  have hP : va_P G.1 vwCl ([] : va_W) s.heap := hP
  have hD : va_D A ([] : va_W) := hD
  have hl : lv_has ls 7 [(0, .long (lN a)), (2, .long (lN b)), (4, .int part)] := hl
  have hg0 : 0 < Nat.gcd a b := Nat.gcd_pos_of_pos_right _ hb0
  have hg1 : Nat.gcd a b < 2 ^ 63 := Nat.lt_of_le_of_lt (Nat.gcd_le_right _ hb0) hb9
  refine lv_lload_n hx hb dX0_partOf_0 rfl (lv_at hl 0 rfl) ?_
  refine lv_lconst (v := 0) hx hb dX0_partOf_1 (by decide) ?_
  refine W.lcmp hx hb dX0_partOf_2 ?_
  refine lv_if_ne (tgt := 10) hx hb dX0_partOf_3 (by decide) (fun c_1 => ?_) (fun c_1 => ?_)
  · skip
    have ea : ¬ a = 0 := fun q => c_1 ((lN_z ha).mpr q)
    refine lv_lload_n hx hb dX0_partOf_10 rfl (lv_at hl 0 rfl) ?_
    refine lv_lload_n hx hb dX0_partOf_11 rfl (lv_at hl 1 rfl) ?_
    refine x_Sl (wN := fun _ => ([] : va_W)) ⟨C0, hK, hP, hD, hS, hA⟩ ((m_divisor l G a b ha hb9)) (va_cwS 2 hts (lw_S q1110 q1111 q86 q1112) rfl rfl rfl (by decide +kernel) ⟨Nat.le_of_ble_eq_true rfl, Nat.le_of_ble_eq_true rfl⟩) [] [] rfl (fun _ => rfl) rfl rfl hl.1 rfl (Nat.le_of_ble_eq_true rfl) dX0_partOf_12 ⟨(Nat.le_of_ble_eq_true rfl), (Nat.le_of_ble_eq_true rfl)⟩ (fun r_2 u_2 H locs hw_2 hP hD hS => ?_)
    have hw_2 : (lN (Nat.gcd a b) : Int64) = r_2 := hw_2.symm
    subst hw_2
    refine lv_lstore (lv' := [(5, .long (lN (Nat.gcd a b))), (0, .long (lN a)), (2, .long (lN b)), (4, .int part)]) hx hb dX0_partOf_15 hl (by decide) rfl (fun ls hl => ?_)
    refine lv_iload hx hb dX0_partOf_17 (lv_at hl 3 rfl) ?_
    refine lv_if_ne (tgt := 29) hx hb dX0_partOf_19 (by decide) (fun c_3 => ?_) (fun c_3 => ?_)
    · skip
      refine lv_lload_n hx hb dX0_partOf_29 rfl (lv_at hl 2 rfl) ?_
      refine lv_lload hx hb dX0_partOf_30 (lv_at hl 0 rfl) ?_
      refine x_ldiv hx hb dX0_partOf_32 (fun q => absurd ((pk_lEQ (b := 0) hg1 (by omega)).mp q) (by omega)) (v := lN (b / Nat.gcd a b)) (pk_lDiv hb9 hg0 hg1) ?_
      refine hret _ _ _ _ _ _ (lN (b / Nat.gcd a b)) () dX0_partOf_33 ?_ hP hD hS (Nat.le_of_ble_eq_true rfl) (Nat.le_of_ble_eq_true rfl)
      unfold pDrF
      rw [if_neg ea, if_neg c_3]
    · skip
      refine lv_lload_n hx hb dX0_partOf_22 rfl (lv_at hl 1 rfl) ?_
      refine lv_lload hx hb dX0_partOf_23 (lv_at hl 0 rfl) ?_
      refine x_ldiv hx hb dX0_partOf_25 (fun q => absurd ((pk_lEQ (b := 0) hg1 (by omega)).mp q) (by omega)) (v := lN (a / Nat.gcd a b)) (pk_lDiv ha hg0 hg1) ?_
      refine lv_goto (tgt := 33) hx hb dX0_partOf_26 (by decide) ?_
      refine hret _ _ _ _ _ _ (lN (a / Nat.gcd a b)) () dX0_partOf_33 ?_ hP hD hS (Nat.le_of_ble_eq_true rfl) (Nat.le_of_ble_eq_true rfl)
      unfold pDrF
      rw [if_neg ea, if_pos c_3]
  · skip
    have ea : a = 0 := (lN_z ha).mp c_1
    refine lv_iload hx hb dX0_partOf_6 (lv_at hl 2 rfl) ?_
    refine lv_i2l (v := part.toInt64) hx hb dX0_partOf_8 rfl ?_
    refine hret _ _ _ _ _ _ part.toInt64 () dX0_partOf_9 ?_ hP hD hS (Nat.le_of_ble_eq_true rfl) (Nat.le_of_ble_eq_true rfl)
    unfold pDrF
    rw [if_pos ea]
set_option maxHeartbeats 4000000 in
set_option maxRecDepth 100000 in
theorem m_draughtPart (l : Launch) (G : xG) (ad : Nat → Nat → Nat) (kd k1 k2 : Nat → Option Nat) (r r1 r2 : Rw) (ho rn ln dr : Int32) (ro lt rf th sb : Nat → Int32) (hr : Ok r) (hp : r 5 3 = 0) (hk : kOk (ad 4) kd r) (ti cnt tt : Nat) (part : Int32) (hti : ti < 10) (hcnt : cnt ≤ 7) (ht2 : 2 ≤ tt) (ht20 : tt ≤ 20) : xCl l G yX0_draughtPart cX0_draughtPart 14 (some .long) ({ frames := 5, cells := 0, slots := 0, locals := 121 } : Room) [.ref (ad 0 0), .int (nI ti), .int (nI cnt), .int (nI tt), .int part] (wX G ad ho rn ln dr ro lt rf th sb ++ wR G (ad 1) kd r ++ wR G (ad 2) k1 r1 ++ wR G (ad 3) k2 r2 ++ wK (ad 4)) (S := ((Nat → Option Nat) × Rw)) (fun v _ => v = pDr r ti cnt tt part) (fun u => (wX G ad ho rn ln dr ro lt rf th sb ++ wR G (ad 1) kd r ++ wR G (ad 2) u.1 u.2 ++ wR G (ad 3) k2 r2 ++ wK (ad 4))) := by
  refine x_openl (by decide) (Nat.le_of_ble_eq_true rfl) ?_
  intro p e s m args below meth c A Q ls C0 hK hP hD hA hl hret
  obtain ⟨hx, hb, hml, hown, hts⟩ := id C0
  have hS : va_S A s.heap s.heap [] := va_S.rf
  have hP : va_P G.1 vwCl (wX G ad ho rn ln dr ro lt rf th sb ++ wR G (ad 1) kd r ++ wR G (ad 2) k1 r1 ++ wR G (ad 3) k2 r2 ++ wK (ad 4)) s.heap := hP
  have hD : va_D A (wX G ad ho rn ln dr ro lt rf th sb ++ wR G (ad 1) kd r ++ wR G (ad 2) k1 r1 ++ wR G (ad 3) k2 r2 ++ wK (ad 4)) := hD
  have hl : lv_has ls 14 [(0, .ref (ad 0 0)), (1, .int (nI ti)), (2, .int (nI cnt)), (3, .int (nI tt)), (4, .int part)] := hl
  have hr0 := hr.n
  have hN := hr.le
  have h2c := p7_le hcnt
  have htn := tn_le ht20 (by omega) hcnt
  have htp : 0 < tt ^ cnt := Nat.pow_pos (by omega)
  refine lv_lconst (v := 0) hx hb dX0_draughtPart_0 (by decide) ?_
  refine lv_lstore (lv' := [(5, .long 0), (0, .ref (ad 0 0)), (1, .int (nI ti)), (2, .int (nI cnt)), (3, .int (nI tt)), (4, .int part)]) hx hb dX0_draughtPart_1 hl (by decide) rfl (fun ls hl => ?_)
  refine lv_lconst (v := 1) hx hb dX0_draughtPart_3 (by decide) ?_
  refine lv_lstore (lv' := [(7, .long 1), (5, .long 0), (0, .ref (ad 0 0)), (1, .int (nI ti)), (2, .int (nI cnt)), (3, .int (nI tt)), (4, .int part)]) hx hb dX0_draughtPart_4 hl (by decide) rfl (fun ls hl => ?_)
  refine lv_iconst (v := 0) hx hb dX0_draughtPart_6 (by decide) ?_
  refine lv_istore (lv' := [(9, .int 0), (7, .long 1), (5, .long 0), (0, .ref (ad 0 0)), (1, .int (nI ti)), (2, .int (nI cnt)), (3, .int (nI tt)), (4, .int part)]) hx hb dX0_draughtPart_7 hl (by decide) rfl (fun ls hl => ?_)
  have loop_9 : ∀ (n : Nat) (k : Nat), (k ≤ cnt) → (cnt < k + n) → ∀ (H : Heap) (locs : List Loc) (ls : Array Slot), va_P G.1 vwCl (wX G ad ho rn ln dr ro lt rf th sb ++ wR G (ad 1) kd r ++ wR G (ad 2) k1 r1 ++ wR G (ad 3) k2 r2 ++ wK (ad 4)) H → va_D A (wX G ad ho rn ln dr ro lt rf th sb ++ wR G (ad 1) kd r ++ wR G (ad 2) k1 r1 ++ wR G (ad 3) k2 r2 ++ wK (ad 4)) → va_S A s.heap H locs → lv_has ls 14 [(9, .int (nI k)), (7, .long (lN (tt ^ k))), (5, .long 0), (0, .ref (ad 0 0)), (1, .int (nI ti)), (2, .int (nI cnt)), (3, .int (nI tt)), (4, .int part)] → W p l e ({ frames := 5, cells := 0, slots := 0, locals := 121 } : Room) s m args below meth c H locs 0 0 Q (F0 m 9 ls []) := by
    intro n
    induction n with
    | zero => intro k hi9_0 hi9_1; exact absurd hi9_1 (by omega)
    | succ n ih_9 =>
      intro k hi9_0 hi9_1 H locs ls hP hD hS hl
      refine lv_iload hx hb dX0_draughtPart_9 (lv_at hl 0 rfl) ?_
      refine lv_iload_n hx hb dX0_draughtPart_11 rfl (lv_at hl 5 rfl) ?_
      refine lv_icmp_ge (tgt := 28) hx hb dX0_draughtPart_12 (by decide) (fun c_1 => ?_) (fun c_1 => ?_)
      · skip
        have g_1 := (nI_leI (by omega) (by omega)).mp c_1
        rw [show k = cnt by omega] at hl
        refine lv_iconst (v := 0) hx hb dX0_draughtPart_28 (by decide) ?_
        refine lv_istore (lv' := [(9, .int 0), (7, .long (lN (tt ^ cnt))), (5, .long 0), (0, .ref (ad 0 0)), (1, .int (nI ti)), (2, .int (nI cnt)), (3, .int (nI tt)), (4, .int part)]) hx hb dX0_draughtPart_29 hl (by decide) rfl (fun ls hl => ?_)
        have loop_31 : ∀ (n : Nat) (x : Nat) (km : Nat → Option Nat) (rm : Rw), (x ≤ 2 ^ cnt) → (2 ^ cnt < x + n) → ∀ (H : Heap) (locs : List Loc) (ls : Array Slot), va_P G.1 vwCl (wX G ad ho rn ln dr ro lt rf th sb ++ wR G (ad 1) kd r ++ wR G (ad 2) km rm ++ wR G (ad 3) k2 r2 ++ wK (ad 4)) H → va_D A (wX G ad ho rn ln dr ro lt rf th sb ++ wR G (ad 1) kd r ++ wR G (ad 2) km rm ++ wR G (ad 3) k2 r2 ++ wK (ad 4)) → va_S A s.heap H locs → lv_has ls 14 [(9, .int (nI x)), (7, .long (lN (tt ^ cnt))), (5, .long (lN (pDrA r ti cnt tt x))), (0, .ref (ad 0 0)), (1, .int (nI ti)), (2, .int (nI cnt)), (3, .int (nI tt)), (4, .int part)] → W p l e ({ frames := 5, cells := 0, slots := 0, locals := 121 } : Room) s m args below meth c H locs 0 0 Q (F0 m 31 ls []) := by
          intro n
          induction n with
          | zero => intro x km rm hi31_0 hi31_1; exact absurd hi31_1 (by omega)
          | succ n ih_31 =>
            intro x km rm hi31_0 hi31_1 H locs ls hP hD hS hl
            refine lv_iload hx hb dX0_draughtPart_31 (lv_at hl 0 rfl) ?_
            refine lv_iconst (v := 1) hx hb dX0_draughtPart_33 (by decide) ?_
            refine lv_iload_n hx hb dX0_draughtPart_34 rfl (lv_at hl 5 rfl) ?_
            refine x_ishl hx hb dX0_draughtPart_35 (v := b1 cnt) rfl ?_
            rw [show (b1 cnt : Int32) = nI (2 ^ cnt) from (b1_nI cnt (by omega))]
            refine lv_icmp_ge (tgt := 132) hx hb dX0_draughtPart_36 (by decide) (fun c_2 => ?_) (fun c_2 => ?_)
            · skip
              have g_2 := (nI_leI (by omega) (by omega)).mp c_2
              rw [show x = 2 ^ cnt by omega] at hl
              refine lv_lload hx hb dX0_draughtPart_132 (lv_at hl 2 rfl) ?_
              refine lv_lload hx hb dX0_draughtPart_134 (lv_at hl 1 rfl) ?_
              refine lv_iload hx hb dX0_draughtPart_136 (lv_at hl 7 rfl) ?_
              refine x_Sl (wN := fun _ => (wX G ad ho rn ln dr ro lt rf th sb ++ wR G (ad 1) kd r ++ wR G (ad 2) km rm ++ wR G (ad 3) k2 r2 ++ wK (ad 4))) ⟨C0, hK, hP, hD, hS, hA⟩ ((m_partOf l G (pDrA r ti cnt tt (2 ^ cnt)) (tt ^ cnt) part (Nat.lt_trans (pDrA_63 ht20 (by omega) hcnt (Nat.le_refl _)) (by omega)) (Nat.lt_of_le_of_lt htn (by omega)) htp)) (va_cwS 3 hts (lw_S q1107 q1108 q86 q1109) rfl rfl rfl (by decide +kernel) ⟨Nat.le_of_ble_eq_true rfl, Nat.le_of_ble_eq_true rfl⟩) [] [0, 2, 4, 6, 8, 10, 12, 14, 16, 18, 20, 22, 24, 26, 28, 30, 32, 34, 36, 38, 40, 42, 44, 46, 48, 50, 52, 54, 56, 58, 60] rfl (fun _ => rfl) rfl rfl hl.1 rfl (Nat.le_of_ble_eq_true rfl) dX0_draughtPart_138 ⟨(Nat.le_of_ble_eq_true rfl), (Nat.le_of_ble_eq_true rfl)⟩ (fun r_3 u_3 H locs hw_3 hP hD hS => ?_)
              have hw_3 : (pDrF (pDrA r ti cnt tt (2 ^ cnt)) (tt ^ cnt) part : Int64) = r_3 := hw_3.symm
              subst hw_3
              refine hret _ _ _ _ _ _ (pDrF (pDrA r ti cnt tt (2 ^ cnt)) (tt ^ cnt) part) (km, rm) dX0_draughtPart_141 ?_ hP hD hS (Nat.le_of_ble_eq_true rfl) (Nat.le_of_ble_eq_true rfl)
              rfl
            · skip
              have g_2 := mt (nI_leI (by omega) (by omega)).mpr c_2
              refine lv_aload_n hx hb dX0_draughtPart_39 rfl (lv_at hl 3 rfl) ?_
              refine x_Vr (wN := fun _ => (wX G ad ho rn ln dr ro lt rf th sb ++ wR G (ad 1) kd r ++ wR G (ad 2) kd r ++ wR G (ad 3) k2 r2 ++ wK (ad 4))) ⟨C0, hK, hP, hD, hS, hA⟩ 0 rfl (ci := 0) rfl rfl ((m_openMind l G ad kd km k2 r rm r2 ho rn ln dr ro lt rf th sb hr hp hk )) (cwV 0 hts (lw_V q795 q797 qs25 q86 q798) rfl rfl rfl (by decide +kernel) ⟨Nat.le_of_ble_eq_true rfl, Nat.le_of_ble_eq_true rfl⟩) [0, 1, 2, 3, 4, 5, 6, 7, 8, 9, 10, 11, 12, 13, 14, 15, 16, 17, 18, 19, 20, 21, 22, 23, 24, 25, 26, 27, 28, 29, 30] [1, 3, 5, 7, 9, 11, 13, 15, 17, 19, 21, 23, 25, 27, 29, 31, 33, 35, 37, 39, 41, 43, 45, 47, 49, 51, 53, 55, 57, 59, 61] rfl (fun _ => rfl) rfl rfl hl.1 rfl (Nat.le_of_ble_eq_true rfl) dX0_draughtPart_40 ⟨(Nat.le_of_ble_eq_true rfl), (Nat.le_of_ble_eq_true rfl)⟩ (fun u_4 H locs hw_4 hP hD hS => ?_)
              have hP : va_P G.1 vwCl (wX G ad ho rn ln dr ro lt rf th sb ++ wR G (ad 1) kd r ++ wR G (ad 2) kd r ++ wR G (ad 3) k2 r2 ++ wK (ad 4)) H := hP
              have hD : va_D A (wX G ad ho rn ln dr ro lt rf th sb ++ wR G (ad 1) kd r ++ wR G (ad 2) kd r ++ wR G (ad 3) k2 r2 ++ wK (ad 4)) := hD
              refine lv_astore (lv' := [(10, .ref ((ad 2) 0)), (9, .int (nI x)), (7, .long (lN (tt ^ cnt))), (5, .long (lN (pDrA r ti cnt tt x))), (0, .ref (ad 0 0)), (1, .int (nI ti)), (2, .int (nI cnt)), (3, .int (nI tt)), (4, .int part)]) hx hb dX0_draughtPart_43 hl (by decide) rfl (fun ls hl => ?_)
              refine lv_lconst (v := 1) hx hb dX0_draughtPart_45 (by decide) ?_
              refine lv_lstore (lv' := [(11, .long 1), (10, .ref ((ad 2) 0)), (9, .int (nI x)), (7, .long (lN (tt ^ cnt))), (5, .long (lN (pDrA r ti cnt tt x))), (0, .ref (ad 0 0)), (1, .int (nI ti)), (2, .int (nI cnt)), (3, .int (nI tt)), (4, .int part)]) hx hb dX0_draughtPart_46 hl (by decide) rfl (fun ls hl => ?_)
              refine lv_iconst (v := 0) hx hb dX0_draughtPart_48 (by decide) ?_
              refine lv_istore (lv' := [(13, .int 0), (11, .long 1), (10, .ref ((ad 2) 0)), (9, .int (nI x)), (7, .long (lN (tt ^ cnt))), (5, .long (lN (pDrA r ti cnt tt x))), (0, .ref (ad 0 0)), (1, .int (nI ti)), (2, .int (nI cnt)), (3, .int (nI tt)), (4, .int part)]) hx hb dX0_draughtPart_49 hl (by decide) rfl (fun ls hl => ?_)
              have loop_51 : ∀ (n : Nat) (kj : Nat), (kj ≤ cnt) → (cnt < kj + n) → ∀ (H : Heap) (locs : List Loc) (ls : Array Slot), va_P G.1 vwCl (wX G ad ho rn ln dr ro lt rf th sb ++ wR G (ad 1) kd r ++ wR G (ad 2) kd (pDrR r x kj) ++ wR G (ad 3) k2 r2 ++ wK (ad 4)) H → va_D A (wX G ad ho rn ln dr ro lt rf th sb ++ wR G (ad 1) kd r ++ wR G (ad 2) kd (pDrR r x kj) ++ wR G (ad 3) k2 r2 ++ wK (ad 4)) → va_S A s.heap H locs → lv_has ls 14 [(13, .int (nI kj)), (11, .long (lN (pDrO tt x kj))), (10, .ref ((ad 2) 0)), (9, .int (nI x)), (7, .long (lN (tt ^ cnt))), (5, .long (lN (pDrA r ti cnt tt x))), (0, .ref (ad 0 0)), (1, .int (nI ti)), (2, .int (nI cnt)), (3, .int (nI tt)), (4, .int part)] → W p l e ({ frames := 5, cells := 0, slots := 0, locals := 121 } : Room) s m args below meth c H locs 0 0 Q (F0 m 51 ls []) := by
                intro n
                induction n with
                | zero => intro kj hi51_0 hi51_1; exact absurd hi51_1 (by omega)
                | succ n ih_51 =>
                  intro kj hi51_0 hi51_1 H locs ls hP hD hS hl
                  refine lv_iload hx hb dX0_draughtPart_51 (lv_at hl 0 rfl) ?_
                  refine lv_iload_n hx hb dX0_draughtPart_53 rfl (lv_at hl 8 rfl) ?_
                  refine lv_icmp_ge (tgt := 106) hx hb dX0_draughtPart_54 (by decide) (fun c_5 => ?_) (fun c_5 => ?_)
                  · skip
                    have g_5 := (nI_leI (by omega) (by omega)).mp c_5
                    rw [show kj = cnt by omega] at hl hP hD
                    refine lv_lload hx hb dX0_draughtPart_106 (lv_at hl 5 rfl) ?_
                    refine lv_aload hx hb dX0_draughtPart_108 (lv_at hl 2 rfl) ?_
                    refine lv_iload_n hx hb dX0_draughtPart_110 rfl (lv_at hl 7 rfl) ?_
                    refine x_Vi (wN := fun _ => (wX G ad ho rn ln dr ro lt rf th sb ++ wR G (ad 1) kd r ++ wR G (ad 2) kd (pDrR r x cnt) ++ wR G (ad 3) k2 r2 ++ wK (ad 4))) ⟨C0, hK, hP, hD, hS, hA⟩ 13 rfl (ci := 7) rfl rfl ((m_isStanding l G (ad 2) (ad 4) kd (pDrR r x cnt) (hr.dr) (hk.dr) ti hti)) (cwV 1 hts (lw_V q744 q558 q559 q94 q560) rfl rfl rfl (by decide +kernel) ⟨Nat.le_of_ble_eq_true rfl, Nat.le_of_ble_eq_true rfl⟩) [13, 14, 15, 16, 17, 18, 25, 26, 27, 28, 29, 30] [0, 2, 4, 6, 8, 10, 12, 14, 16, 18, 20, 22, 24, 1, 3, 5, 7, 9, 11, 38, 40, 42, 44, 46, 48, 13, 15, 17, 19, 21, 23] rfl (fun _ => rfl) rfl rfl hl.1 rfl (Nat.le_of_ble_eq_true rfl) dX0_draughtPart_111 ⟨(Nat.le_of_ble_eq_true rfl), (Nat.le_of_ble_eq_true rfl)⟩ (fun r_6 u_6 H locs hw_6 hP hD hS => ?_)
                    have hw_6 : (bI (pSt (pDrR r x cnt) ti) : Int32) = r_6 := hw_6.symm
                    subst hw_6
                    refine lv_if_eq (tgt := 122) hx hb dX0_draughtPart_114 (by decide) (fun c_7 => ?_) (fun c_7 => ?_)
                    · skip
                      refine lv_lconst (v := 0) hx hb dX0_draughtPart_122 (by decide) ?_
                      refine x_ladd hx hb dX0_draughtPart_123 (v := lN (pDrA r ti cnt tt (x + 1))) (lA_n (show pSt (pDrR r x cnt) ti = false from (by have h9 := c_7; simpa [bI_0] using h9))) ?_
                      refine lv_lstore (lv' := [(5, .long (lN (pDrA r ti cnt tt (x + 1)))), (13, .int (nI cnt)), (11, .long (lN (pDrO tt x cnt))), (10, .ref ((ad 2) 0)), (9, .int (nI x)), (7, .long (lN (tt ^ cnt))), (0, .ref (ad 0 0)), (1, .int (nI ti)), (2, .int (nI cnt)), (3, .int (nI tt)), (4, .int part)]) hx hb dX0_draughtPart_124 hl (by decide) rfl (fun ls hl => ?_)
                      refine lv_iinc (v := nI (x + 1)) (lv' := [(9, .int (nI (x + 1))), (5, .long (lN (pDrA r ti cnt tt (x + 1)))), (13, .int (nI cnt)), (11, .long (lN (pDrO tt x cnt))), (10, .ref ((ad 2) 0)), (7, .long (lN (tt ^ cnt))), (0, .ref (ad 0 0)), (1, .int (nI ti)), (2, .int (nI cnt)), (3, .int (nI tt)), (4, .int part)]) hx hb dX0_draughtPart_126 hl (k := 4) rfl (x_inc1 _) (by decide) rfl (fun ls hl => ?_)
                      refine lv_goto (tgt := 31) hx hb dX0_draughtPart_129 (by decide) ?_
                      exact ih_31 (x + 1) _ _ (by omega) (by omega) _ _ _ hP hD hS (lv_sub hl [0, 5, 1, 6, 7, 8, 9, 10] rfl)
                    · skip
                      refine lv_lload hx hb dX0_draughtPart_117 (lv_at hl 1 rfl) ?_
                      refine lv_goto (tgt := 123) hx hb dX0_draughtPart_119 (by decide) ?_
                      refine x_ladd hx hb dX0_draughtPart_123 (v := lN (pDrA r ti cnt tt (x + 1))) (lA_y (show pSt (pDrR r x cnt) ti = true from (by have h9 := c_7; simpa [bI_0] using h9))) ?_
                      refine lv_lstore (lv' := [(5, .long (lN (pDrA r ti cnt tt (x + 1)))), (13, .int (nI cnt)), (11, .long (lN (pDrO tt x cnt))), (10, .ref ((ad 2) 0)), (9, .int (nI x)), (7, .long (lN (tt ^ cnt))), (0, .ref (ad 0 0)), (1, .int (nI ti)), (2, .int (nI cnt)), (3, .int (nI tt)), (4, .int part)]) hx hb dX0_draughtPart_124 hl (by decide) rfl (fun ls hl => ?_)
                      refine lv_iinc (v := nI (x + 1)) (lv' := [(9, .int (nI (x + 1))), (5, .long (lN (pDrA r ti cnt tt (x + 1)))), (13, .int (nI cnt)), (11, .long (lN (pDrO tt x cnt))), (10, .ref ((ad 2) 0)), (7, .long (lN (tt ^ cnt))), (0, .ref (ad 0 0)), (1, .int (nI ti)), (2, .int (nI cnt)), (3, .int (nI tt)), (4, .int part)]) hx hb dX0_draughtPart_126 hl (k := 4) rfl (x_inc1 _) (by decide) rfl (fun ls hl => ?_)
                      refine lv_goto (tgt := 31) hx hb dX0_draughtPart_129 (by decide) ?_
                      exact ih_31 (x + 1) _ _ (by omega) (by omega) _ _ _ hP hD hS (lv_sub hl [0, 5, 1, 6, 7, 8, 9, 10] rfl)
                  · skip
                    have g_5 := mt (nI_leI (by omega) (by omega)).mpr c_5
                    refine lv_aload hx hb dX0_draughtPart_57 (lv_at hl 2 rfl) ?_
                    refine lv_iload hx hb dX0_draughtPart_59 (lv_at hl 3 rfl) ?_
                    refine lv_iload hx hb dX0_draughtPart_61 (lv_at hl 0 rfl) ?_
                    refine x_Si (wN := fun _ => (wX G ad ho rn ln dr ro lt rf th sb ++ wR G (ad 1) kd r ++ wR G (ad 2) kd (pDrR r x kj) ++ wR G (ad 3) k2 r2 ++ wK (ad 4))) ⟨C0, hK, hP, hD, hS, hA⟩ ((m_has l G (nI x) kj)) (va_cwS 2 hts (lw_S q816 q617 q86 q618) rfl rfl rfl (by decide +kernel) ⟨Nat.le_of_ble_eq_true rfl, Nat.le_of_ble_eq_true rfl⟩) [] [0, 2, 4, 6, 8, 10, 12, 14, 16, 18, 20, 22, 24, 26, 28, 30, 32, 34, 36, 38, 40, 42, 44, 46, 48, 50, 52, 54, 56, 58, 60] rfl (fun _ => rfl) rfl rfl hl.1 rfl (Nat.le_of_ble_eq_true rfl) dX0_draughtPart_63 ⟨(Nat.le_of_ble_eq_true rfl), (Nat.le_of_ble_eq_true rfl)⟩ (fun r_8 u_8 H locs hw_8 hP hD hS => ?_)
                    have hw_8 : (bI (hs (nI x) kj) : Int32) = r_8 := hw_8.symm
                    subst hw_8
                    refine lv_if_eq (tgt := 73) hx hb dX0_draughtPart_66 (by decide) (fun c_9 => ?_) (fun c_9 => ?_)
                    · skip
                      refine lv_iconst (v := 0) hx hb dX0_draughtPart_73 (by decide) ?_
                      refine x_Vv (wN := fun _ => (wX G ad ho rn ln dr ro lt rf th sb ++ wR G (ad 1) kd r ++ wR G (ad 2) kd (pMin (pDrR r x kj) 0) ++ wR G (ad 3) k2 r2 ++ wK (ad 4))) ⟨C0, hK, hP, hD, hS, hA⟩ 13 rfl (ci := 7) rfl rfl ((m_minuteOn l G (ad 2) (ad 4) kd (pDrR r x kj) (hr.dr) (hk.dr) 0)) (cwV 1 hts (lw_V q807 q627 q628 q94 q629) rfl rfl rfl (by decide +kernel) ⟨Nat.le_of_ble_eq_true rfl, Nat.le_of_ble_eq_true rfl⟩) [13, 14, 15, 16, 17, 18, 25, 26, 27, 28, 29, 30] [0, 2, 4, 6, 8, 10, 12, 14, 16, 18, 20, 22, 24, 1, 3, 5, 7, 9, 11, 38, 40, 42, 44, 46, 48, 13, 15, 17, 19, 21, 23] rfl (fun _ => rfl) rfl rfl hl.1 rfl (Nat.le_of_ble_eq_true rfl) dX0_draughtPart_74 ⟨(Nat.le_of_ble_eq_true rfl), (Nat.le_of_ble_eq_true rfl)⟩ (fun u_10 H locs hw_10 hP hD hS => ?_)
                      have hP : va_P G.1 vwCl (wX G ad ho rn ln dr ro lt rf th sb ++ wR G (ad 1) kd r ++ wR G (ad 2) kd (pMin (pDrR r x kj) 0) ++ wR G (ad 3) k2 r2 ++ wK (ad 4)) H := hP
                      have hD : va_D A (wX G ad ho rn ln dr ro lt rf th sb ++ wR G (ad 1) kd r ++ wR G (ad 2) kd (pMin (pDrR r x kj) 0) ++ wR G (ad 3) k2 r2 ++ wK (ad 4)) := hD
                      refine lv_lload hx hb dX0_draughtPart_77 (lv_at hl 1 rfl) ?_
                      refine lv_iload hx hb dX0_draughtPart_79 (lv_at hl 3 rfl) ?_
                      refine lv_iload hx hb dX0_draughtPart_81 (lv_at hl 0 rfl) ?_
                      refine x_Si (wN := fun _ => (wX G ad ho rn ln dr ro lt rf th sb ++ wR G (ad 1) kd r ++ wR G (ad 2) kd (pMin (pDrR r x kj) 0) ++ wR G (ad 3) k2 r2 ++ wK (ad 4))) ⟨C0, hK, hP, hD, hS, hA⟩ ((m_has l G (nI x) kj)) (va_cwS 2 hts (lw_S q816 q617 q86 q618) rfl rfl rfl (by decide +kernel) ⟨Nat.le_of_ble_eq_true rfl, Nat.le_of_ble_eq_true rfl⟩) [] [0, 2, 4, 6, 8, 10, 12, 14, 16, 18, 20, 22, 24, 26, 28, 30, 32, 34, 36, 38, 40, 42, 44, 46, 48, 50, 52, 54, 56, 58, 60] rfl (fun _ => rfl) rfl rfl hl.1 rfl (Nat.le_of_ble_eq_true rfl) dX0_draughtPart_83 ⟨(Nat.le_of_ble_eq_true rfl), (Nat.le_of_ble_eq_true rfl)⟩ (fun r_11 u_11 H locs hw_11 hP hD hS => ?_)
                      have hw_11 : (bI (hs (nI x) kj) : Int32) = r_11 := hw_11.symm
                      subst hw_11
                      refine lv_if_eq (tgt := 93) hx hb dX0_draughtPart_86 (by decide) (fun c_12 => ?_) (fun c_12 => ?_)
                      · skip
                        refine lv_iload_n hx hb dX0_draughtPart_93 rfl (lv_at hl 9 rfl) ?_
                        refine lv_iconst (v := 1) hx hb dX0_draughtPart_94 (by decide) ?_
                        refine x_isub hx hb dX0_draughtPart_95 (v := nI (tt - 1)) (pk_sub (b := 1) (by omega)) ?_
                        refine lv_i2l (v := lN (tt - 1)) hx hb dX0_draughtPart_96 (nI_l (by omega)) ?_
                        refine x_lmul hx hb dX0_draughtPart_97 (v := lN (pDrO tt x (kj + 1))) (lO_n (show hs (nI x) kj = false from (by have h9 := c_9; simpa [bI_0] using h9))) ?_
                        refine lv_lstore (lv' := [(11, .long (lN (pDrO tt x (kj + 1)))), (13, .int (nI kj)), (10, .ref ((ad 2) 0)), (9, .int (nI x)), (7, .long (lN (tt ^ cnt))), (5, .long (lN (pDrA r ti cnt tt x))), (0, .ref (ad 0 0)), (1, .int (nI ti)), (2, .int (nI cnt)), (3, .int (nI tt)), (4, .int part)]) hx hb dX0_draughtPart_98 hl (by decide) rfl (fun ls hl => ?_)
                        refine lv_iinc (v := nI (kj + 1)) (lv' := [(13, .int (nI (kj + 1))), (11, .long (lN (pDrO tt x (kj + 1)))), (10, .ref ((ad 2) 0)), (9, .int (nI x)), (7, .long (lN (tt ^ cnt))), (5, .long (lN (pDrA r ti cnt tt x))), (0, .ref (ad 0 0)), (1, .int (nI ti)), (2, .int (nI cnt)), (3, .int (nI tt)), (4, .int part)]) hx hb dX0_draughtPart_100 hl (k := 1) rfl (x_inc1 _) (by decide) rfl (fun ls hl => ?_)
                        refine lv_goto (tgt := 51) hx hb dX0_draughtPart_103 (by decide) ?_
                        rw [pDr_n (show hs (nI x) kj = false from (by have h9 := c_9; simpa [bI_0] using h9))] at hP hD
                        exact ih_51 (kj + 1) (by omega) (by omega) _ _ _ hP hD hS (lv_sub hl [0, 1, 2, 3, 4, 5, 6, 7, 8, 9, 10] rfl)
                      · skip
                        exact absurd c_9 c_12
                    · skip
                      refine lv_iconst (v := 1) hx hb dX0_draughtPart_69 (by decide) ?_
                      refine lv_goto (tgt := 74) hx hb dX0_draughtPart_70 (by decide) ?_
                      refine x_Vv (wN := fun _ => (wX G ad ho rn ln dr ro lt rf th sb ++ wR G (ad 1) kd r ++ wR G (ad 2) kd (pMin (pDrR r x kj) 1) ++ wR G (ad 3) k2 r2 ++ wK (ad 4))) ⟨C0, hK, hP, hD, hS, hA⟩ 13 rfl (ci := 7) rfl rfl ((m_minuteOn l G (ad 2) (ad 4) kd (pDrR r x kj) (hr.dr) (hk.dr) 1)) (cwV 1 hts (lw_V q807 q627 q628 q94 q629) rfl rfl rfl (by decide +kernel) ⟨Nat.le_of_ble_eq_true rfl, Nat.le_of_ble_eq_true rfl⟩) [13, 14, 15, 16, 17, 18, 25, 26, 27, 28, 29, 30] [0, 2, 4, 6, 8, 10, 12, 14, 16, 18, 20, 22, 24, 1, 3, 5, 7, 9, 11, 38, 40, 42, 44, 46, 48, 13, 15, 17, 19, 21, 23] rfl (fun _ => rfl) rfl rfl hl.1 rfl (Nat.le_of_ble_eq_true rfl) dX0_draughtPart_74 ⟨(Nat.le_of_ble_eq_true rfl), (Nat.le_of_ble_eq_true rfl)⟩ (fun u_13 H locs hw_13 hP hD hS => ?_)
                      have hP : va_P G.1 vwCl (wX G ad ho rn ln dr ro lt rf th sb ++ wR G (ad 1) kd r ++ wR G (ad 2) kd (pMin (pDrR r x kj) 1) ++ wR G (ad 3) k2 r2 ++ wK (ad 4)) H := hP
                      have hD : va_D A (wX G ad ho rn ln dr ro lt rf th sb ++ wR G (ad 1) kd r ++ wR G (ad 2) kd (pMin (pDrR r x kj) 1) ++ wR G (ad 3) k2 r2 ++ wK (ad 4)) := hD
                      refine lv_lload hx hb dX0_draughtPart_77 (lv_at hl 1 rfl) ?_
                      refine lv_iload hx hb dX0_draughtPart_79 (lv_at hl 3 rfl) ?_
                      refine lv_iload hx hb dX0_draughtPart_81 (lv_at hl 0 rfl) ?_
                      refine x_Si (wN := fun _ => (wX G ad ho rn ln dr ro lt rf th sb ++ wR G (ad 1) kd r ++ wR G (ad 2) kd (pMin (pDrR r x kj) 1) ++ wR G (ad 3) k2 r2 ++ wK (ad 4))) ⟨C0, hK, hP, hD, hS, hA⟩ ((m_has l G (nI x) kj)) (va_cwS 2 hts (lw_S q816 q617 q86 q618) rfl rfl rfl (by decide +kernel) ⟨Nat.le_of_ble_eq_true rfl, Nat.le_of_ble_eq_true rfl⟩) [] [0, 2, 4, 6, 8, 10, 12, 14, 16, 18, 20, 22, 24, 26, 28, 30, 32, 34, 36, 38, 40, 42, 44, 46, 48, 50, 52, 54, 56, 58, 60] rfl (fun _ => rfl) rfl rfl hl.1 rfl (Nat.le_of_ble_eq_true rfl) dX0_draughtPart_83 ⟨(Nat.le_of_ble_eq_true rfl), (Nat.le_of_ble_eq_true rfl)⟩ (fun r_14 u_14 H locs hw_14 hP hD hS => ?_)
                      have hw_14 : (bI (hs (nI x) kj) : Int32) = r_14 := hw_14.symm
                      subst hw_14
                      refine lv_if_eq (tgt := 93) hx hb dX0_draughtPart_86 (by decide) (fun c_15 => ?_) (fun c_15 => ?_)
                      · skip
                        exact absurd c_15 c_9
                      · skip
                        refine lv_lconst (v := 1) hx hb dX0_draughtPart_89 (by decide) ?_
                        refine lv_goto (tgt := 97) hx hb dX0_draughtPart_90 (by decide) ?_
                        refine x_lmul hx hb dX0_draughtPart_97 (v := lN (pDrO tt x (kj + 1))) (lO_y (show hs (nI x) kj = true from (by have h9 := c_9; simpa [bI_0] using h9))) ?_
                        refine lv_lstore (lv' := [(11, .long (lN (pDrO tt x (kj + 1)))), (13, .int (nI kj)), (10, .ref ((ad 2) 0)), (9, .int (nI x)), (7, .long (lN (tt ^ cnt))), (5, .long (lN (pDrA r ti cnt tt x))), (0, .ref (ad 0 0)), (1, .int (nI ti)), (2, .int (nI cnt)), (3, .int (nI tt)), (4, .int part)]) hx hb dX0_draughtPart_98 hl (by decide) rfl (fun ls hl => ?_)
                        refine lv_iinc (v := nI (kj + 1)) (lv' := [(13, .int (nI (kj + 1))), (11, .long (lN (pDrO tt x (kj + 1)))), (10, .ref ((ad 2) 0)), (9, .int (nI x)), (7, .long (lN (tt ^ cnt))), (5, .long (lN (pDrA r ti cnt tt x))), (0, .ref (ad 0 0)), (1, .int (nI ti)), (2, .int (nI cnt)), (3, .int (nI tt)), (4, .int part)]) hx hb dX0_draughtPart_100 hl (k := 1) rfl (x_inc1 _) (by decide) rfl (fun ls hl => ?_)
                        refine lv_goto (tgt := 51) hx hb dX0_draughtPart_103 (by decide) ?_
                        rw [pDr_y (show hs (nI x) kj = true from (by have h9 := c_9; simpa [bI_0] using h9))] at hP hD
                        exact ih_51 (kj + 1) (by omega) (by omega) _ _ _ hP hD hS (lv_sub hl [0, 1, 2, 3, 4, 5, 6, 7, 8, 9, 10] rfl)
              exact loop_51 (cnt + 1) 0 (by omega) (by omega) _ _ _ hP hD hS (lv_sub hl [0, 1, 2, 3, 4, 5, 6, 7, 8, 9, 10] rfl)
        exact loop_31 (2 ^ cnt + 1) 0 _ _ (Nat.zero_le _) (by omega) _ _ _ hP hD hS (lv_sub hl [0, 1, 2, 3, 4, 5, 6, 7] rfl)
      · skip
        have g_1 := mt (nI_leI (by omega) (by omega)).mpr c_1
        refine lv_lload hx hb dX0_draughtPart_15 (lv_at hl 1 rfl) ?_
        refine lv_iload_n hx hb dX0_draughtPart_17 rfl (lv_at hl 6 rfl) ?_
        refine lv_i2l (v := lN tt) hx hb dX0_draughtPart_18 (nI_l (by omega)) ?_
        refine x_lmul hx hb dX0_draughtPart_19 (v := lN (tt ^ (k + 1))) (lT_s _ _) ?_
        refine lv_lstore (lv' := [(7, .long (lN (tt ^ (k + 1)))), (9, .int (nI k)), (5, .long 0), (0, .ref (ad 0 0)), (1, .int (nI ti)), (2, .int (nI cnt)), (3, .int (nI tt)), (4, .int part)]) hx hb dX0_draughtPart_20 hl (by decide) rfl (fun ls hl => ?_)
        refine lv_iinc (v := nI (k + 1)) (lv' := [(9, .int (nI (k + 1))), (7, .long (lN (tt ^ (k + 1)))), (5, .long 0), (0, .ref (ad 0 0)), (1, .int (nI ti)), (2, .int (nI cnt)), (3, .int (nI tt)), (4, .int part)]) hx hb dX0_draughtPart_22 hl (k := 1) rfl (x_inc1 _) (by decide) rfl (fun ls hl => ?_)
        refine lv_goto (tgt := 9) hx hb dX0_draughtPart_25 (by decide) ?_
        exact ih_9 (k + 1) (by omega) (by omega) _ _ _ hP hD hS (lv_sub hl [0, 1, 2, 3, 4, 5, 6, 7] rfl)
  exact loop_9 (cnt + 1) 0 (by omega) (by omega) _ _ _ hP hD hS (lv_sub hl [0, 1, 2, 3, 4, 5, 6, 7] rfl)
set_option maxHeartbeats 4000000 in
set_option maxRecDepth 100000 in
theorem m_refuse (l : Launch) (G : xG) (ad : Nat → Nat → Nat) (kd k1 k2 : Nat → Option Nat) (r r1 r2 : Rw) (ho rn ln dr : Int32) (ro lt rf th sb : Nat → Int32) (hr : Ok r) (hp : r 5 3 = 0) (hk : kOk (ad 4) kd r) (x : Int32) (hrf : rfOk x) : xCi l G yX0_refuse cX0_refuse 2 (some .int) ({ frames := 0, cells := 0, slots := 0, locals := 0 } : Room) [.ref (ad 0 0), .int x] (wX G ad ho rn ln dr ro lt rf th sb ++ wR G (ad 1) kd r ++ wR G (ad 2) k1 r1 ++ wR G (ad 3) k2 r2 ++ wK (ad 4)) (S := Unit) (fun v _ => v = x) (fun _ => (wX G ad ho rn ln dr ro lt (rfU rf x) th sb ++ wR G (ad 1) kd r ++ wR G (ad 2) k1 r1 ++ wR G (ad 3) k2 r2 ++ wK (ad 4))) := by
  refine x_openi (by decide) (Nat.le_of_ble_eq_true rfl) (fun _ _ _ => rfl) ?_
  intro p e s m args below meth c A Q ls C0 hK hP hD hA hl hret
  obtain ⟨hx, hb, hml, hown, hts⟩ := id C0
  have hS : va_S A s.heap s.heap [] := va_S.rf
  have hP : va_P G.1 vwCl (wX G ad ho rn ln dr ro lt rf th sb ++ wR G (ad 1) kd r ++ wR G (ad 2) k1 r1 ++ wR G (ad 3) k2 r2 ++ wK (ad 4)) s.heap := hP
  have hD : va_D A (wX G ad ho rn ln dr ro lt rf th sb ++ wR G (ad 1) kd r ++ wR G (ad 2) k1 r1 ++ wR G (ad 3) k2 r2 ++ wK (ad 4)) := hD
  have hl : lv_has ls 2 [(0, .ref (ad 0 0)), (1, .int x)] := hl
  have hr0 := hr.n
  have hN := hr.le
  refine lv_iload_n hx hb dX0_refuse_0 rfl (lv_at hl 1 rfl) ?_
  refine lv_bipush (v := (-20)) hx hb dX0_refuse_1 (by decide) ?_
  refine lv_icmp_le (tgt := 17) hx hb dX0_refuse_3 (by decide) (fun c_1 => ?_) (fun c_1 => ?_)
  · skip
    refine lv_iload_n hx hb dX0_refuse_17 rfl (lv_at hl 1 rfl) ?_
    rw [rfU_n (rf := rf) (show ¬ -20 < x from Int32.not_lt.mpr c_1)] at hP hD
    refine hret _ _ _ _ _ _ x () dX0_refuse_18 ?_ hP hD hS (Nat.le_of_ble_eq_true rfl) (Nat.le_of_ble_eq_true rfl)
    rfl
  · skip
    obtain ⟨k, hk7, ek⟩ := hrf (Int32.not_le.mp c_1)
    refine lv_aload_n hx hb dX0_refuse_6 rfl (lv_at hl 0 rfl) ?_
    refine va_get (D := G.1) (ci := 0) (v := .ref (ad 0 4)) (C := RX0) (T := TX0) (N := 13) hx hb hts in_X0 hown hK.1 hP 0 rfl rfl 9 (by decide) (hts _ q232) (fun _ h9 => h9) rfl dX0_refuse_7 ?_
    refine lv_iload_n hx hb dX0_refuse_10 rfl (lv_at hl 1 rfl) ?_
    refine lv_ineg hx hb dX0_refuse_11 ?_
    rw [show (-x : Int32) = nI k from ek]
    refine lv_dup2_11 hx hb dX0_refuse_12 rfl rfl ?_
    refine x_ialdn (k := k) hx hb hK.1 hP 4 0 rfl rfl (by omega) (by decide) (v := rf k) rfl dX0_refuse_13 ?_
    refine lv_iconst (v := 1) hx hb dX0_refuse_14 (by decide) ?_
    refine x_iadd hx hb dX0_refuse_15 (v := (rf k) + 1) rfl ?_
    refine x_iastn (k := k) hx hb hK.1 hP hD hS 4 0 rfl rfl (by omega) (by decide) (g := upd rf k ((rf k) + 1)) rfl dX0_refuse_16 (fun H locs hP hD hS => ?_)
    have hP : va_P G.1 vwCl (wX G ad ho rn ln dr ro lt (upd rf k ((rf k) + 1)) th sb ++ wR G (ad 1) kd r ++ wR G (ad 2) k1 r1 ++ wR G (ad 3) k2 r2 ++ wK (ad 4)) H := hP
    have hD : va_D A (wX G ad ho rn ln dr ro lt (upd rf k ((rf k) + 1)) th sb ++ wR G (ad 1) kd r ++ wR G (ad 2) k1 r1 ++ wR G (ad 3) k2 r2 ++ wK (ad 4)) := hD
    refine lv_iload_n hx hb dX0_refuse_17 rfl (lv_at hl 1 rfl) ?_
    rw [rfU_y (Int32.not_le.mp c_1) hk7 ek] at hP hD
    refine hret _ _ _ _ _ _ x () dX0_refuse_18 ?_ hP hD hS (Nat.le_of_ble_eq_true rfl) (Nat.le_of_ble_eq_true rfl)
    rfl

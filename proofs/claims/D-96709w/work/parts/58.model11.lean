/-! the model: what statements do (printed by tools/model11.py) -/
/-! the model: what statements do -/
set_option maxRecDepth 100000
theorem pCome_m (r : Rw) (c : Nat) (f u : Int32) : sf (sf (sf (sf (sf (sf r 0 (upd (r 0) (mny r) (nI c))) 1 (upd (r 1) (mny r) f)) 2 (upd (r 2) (mny r) u)) 3 (upd (r 3) (mny r) 0)) 4 (upd (r 4) (mny r) 0)) 5 (upd (r 5) 0 (nI (mny r + 1))) = pCome r c f u := by
  funext k
  unfold pCome sf
  rcases k with _ | _ | _ | _ | _ | _ | k <;> rfl
theorem fl_t {r : Rw} (h : r 5 2 = 1) : bB r = true := decide_eq_true h
theorem fl_f {r : Rw} (h : ¬ r 5 2 = 1) : bB r = false := decide_eq_false h
theorem fl_0 {r : Rw} (h : r 5 2 = 0) : bB r = false := bB_f h
theorem nt_10 {r : Rw} (h : mny r < 10) : decide (mny r < 10) = true := decide_eq_true h
theorem tB_n {r : Rw} {k : Nat} (hN : mny r ≤ 10) (hk : k < 2 ^ 30) : tB r (nI k) = decide (k < mny r) := by
  unfold tB inR
  rw [nI_toInt (by omega)]
  simp only [decide_eq_decide]
  omega
theorem in60 {f : Nat} (h : f ≤ 99) : inR (nI f) (1 : Int32).toInt (60 : Int32).toInt = decide (1 ≤ f ∧ f ≤ 60) := by
  have e1 : (1 : Int32).toInt = 1 := by decide
  have e2 : (60 : Int32).toInt = 60 := by decide
  unfold inR
  rw [nI_toInt (by omega), e1, e2]
  simp only [decide_eq_decide]
  omega
set_option maxHeartbeats 4000000 in
set_option maxRecDepth 100000 in
theorem m9_adds_f (l : Launch) (G : xG) (am : Nat → Nat) (r rm r2 r4 : Rw) (ho rn ln pl sd : Int32) (lt ro rf nb : Nat → Int32) (hr : Ok r) (hp : r 5 3 = 0) (f1 c1 : Nat) (hf1 : f1 ≤ 9) (hc1 : c1 < 6) : xCi l G yX9_adds cX9_adds 6 (some .boolean) ({ frames := 1, cells := 0, slots := 0, locals := 21 } : Room) [.ref (am 0), .int (nI c1), .int (nI f1), .int (-9)] (wM G am ho rn ln pl sd lt ro rf nb ++ [(am 1, .inl (G.2 0, 54, .inl (row r)))] ++ [(am 2, .inl (G.2 0, 54, .inl (row rm)))] ++ [(am 3, .inl (G.2 0, 54, .inl (row r2)))] ++ [(am 4, .inl (G.2 0, 54, .inl (row r4)))]) (S := Unit) (fun v _ => v = bI (tdOk (12, f1, c1, 0) r)) (fun _ => (wM G am ho rn ln pl sd lt ro rf nb ++ [(am 1, .inl (G.2 0, 54, .inl (row (tdN (12, f1, c1, 0) r))))] ++ [(am 2, .inl (G.2 0, 54, .inl (row rm)))] ++ [(am 3, .inl (G.2 0, 54, .inl (row r2)))] ++ [(am 4, .inl (G.2 0, 54, .inl (row r4)))])) := by
  refine x_openi (by decide) (Nat.le_of_ble_eq_true rfl) (fun _ _ h => by rw [h]; exact bI_z _) ?_
  intro p e s m args below meth c A Q ls C0 hK hP hD hA hl hret
  obtain ⟨hx, hb, hml, hown, hts⟩ := id C0
  have hS : va_S A s.heap s.heap [] := va_S.rf
  have hP : va_P G.1 vwCl (wM G am ho rn ln pl sd lt ro rf nb ++ [(am 1, .inl (G.2 0, 54, .inl (row r)))] ++ [(am 2, .inl (G.2 0, 54, .inl (row rm)))] ++ [(am 3, .inl (G.2 0, 54, .inl (row r2)))] ++ [(am 4, .inl (G.2 0, 54, .inl (row r4)))]) s.heap := hP
  have hD : va_D A (wM G am ho rn ln pl sd lt ro rf nb ++ [(am 1, .inl (G.2 0, 54, .inl (row r)))] ++ [(am 2, .inl (G.2 0, 54, .inl (row rm)))] ++ [(am 3, .inl (G.2 0, 54, .inl (row r2)))] ++ [(am 4, .inl (G.2 0, 54, .inl (row r4)))]) := hD
  have hl : lv_has ls 6 [(0, .ref (am 0)), (1, .int (nI c1)), (2, .int (nI f1)), (3, .int (-9))] := hl
  have hr0 := hr.n
  have hN := hr.le
  refine lv_iload_n hx hb dX9_adds_0 rfl (lv_at hl 3 rfl) ?_
  refine lv_if_ge (tgt := 22) hx hb dX9_adds_1 (by decide) (fun c_1 => ?_) (fun c_1 => ?_)
  · skip
    exact absurd c_1 (by decide)
  · skip
    refine lv_aload_n hx hb dX9_adds_4 rfl (lv_at hl 0 rfl) ?_
    refine va_get (D := G.1) (ci := 8) (v := .ref (am 1)) (C := RX9) (T := TX9) (N := 13) hx hb hts in_X9 hown hK.1 hP 0 rfl rfl 0 (by decide) (hts _ q1162) (fun _ h9 => h9) rfl dX9_adds_5 ?_
    refine lv_iconst (v := 2) hx hb dX9_adds_8 (by decide) ?_
    refine x_ialdn (k := 2) hx hb hK.1 hP 5 0 rfl rfl (by decide) (by decide) (v := r 5 2) rfl dX9_adds_9 ?_
    refine lv_iconst (v := 1) hx hb dX9_adds_10 (by decide) ?_
    refine lv_icmp_ne (tgt := 18) hx hb dX9_adds_11 (by decide) (fun c_2 => ?_) (fun c_2 => ?_)
    · skip
      refine lv_iconst (v := 0) hx hb dX9_adds_18 (by decide) ?_
      refine lv_goto (tgt := 46) hx hb dX9_adds_19 (by decide) ?_
      refine lv_istore (lv' := [(4, .int 0), (0, .ref (am 0)), (1, .int (nI c1)), (2, .int (nI f1)), (3, .int (-9))]) hx hb dX9_adds_46 hl (by decide) rfl (fun ls hl => ?_)
      refine lv_iload hx hb dX9_adds_48 (lv_at hl 0 rfl) ?_
      refine lv_if_eq (tgt := 64) hx hb dX9_adds_50 (by decide) (fun c_3 => ?_) (fun c_3 => ?_)
      · skip
        refine lv_iconst (v := 0) hx hb dX9_adds_64 (by decide) ?_
        have hok : (bB r && decide (mny r < 10)) = false := by rw [show (bB r) = false from fl_f c_2]; rfl
        have hok : tdOk (12, f1, c1, 0) r = false := hok
        have hP : va_P G.1 vwCl (wM G am ho rn ln pl sd lt ro rf nb ++ [(am 1, .inl (G.2 0, 54, .inl (row (tdN (12, f1, c1, 0) r))))] ++ [(am 2, .inl (G.2 0, 54, .inl (row rm)))] ++ [(am 3, .inl (G.2 0, 54, .inl (row r2)))] ++ [(am 4, .inl (G.2 0, 54, .inl (row r4)))]) H := by rw [tdN_f hok]; exact hP
        have hD : va_D A (wM G am ho rn ln pl sd lt ro rf nb ++ [(am 1, .inl (G.2 0, 54, .inl (row (tdN (12, f1, c1, 0) r))))] ++ [(am 2, .inl (G.2 0, 54, .inl (row rm)))] ++ [(am 3, .inl (G.2 0, 54, .inl (row r2)))] ++ [(am 4, .inl (G.2 0, 54, .inl (row r4)))]) := by rw [tdN_f hok]; exact hD
        refine hret _ _ _ _ _ _ 0 () dX9_adds_65 ?_ hP hD hS (Nat.le_of_ble_eq_true rfl) (Nat.le_of_ble_eq_true rfl)
        rw [hok]
        rfl
      · skip
        exact absurd c_3 (by decide)
    · skip
      refine lv_iconst (v := 1) hx hb dX9_adds_14 (by decide) ?_
      refine lv_goto (tgt := 46) hx hb dX9_adds_15 (by decide) ?_
      refine lv_istore (lv' := [(4, .int 1), (0, .ref (am 0)), (1, .int (nI c1)), (2, .int (nI f1)), (3, .int (-9))]) hx hb dX9_adds_46 hl (by decide) rfl (fun ls hl => ?_)
      refine lv_iload hx hb dX9_adds_48 (lv_at hl 0 rfl) ?_
      refine lv_if_eq (tgt := 64) hx hb dX9_adds_50 (by decide) (fun c_4 => ?_) (fun c_4 => ?_)
      · skip
        exact absurd c_4 (by decide)
      · skip
        refine lv_aload_n hx hb dX9_adds_53 rfl (lv_at hl 1 rfl) ?_
        refine va_get (D := G.1) (ci := 8) (v := .ref (am 1)) (C := RX9) (T := TX9) (N := 13) hx hb hts in_X9 hown hK.1 hP 0 rfl rfl 0 (by decide) (hts _ q1162) (fun _ h9 => h9) rfl dX9_adds_54 ?_
        refine lv_iconst (v := 0) hx hb dX9_adds_57 (by decide) ?_
        refine x_ialdn (k := 0) hx hb hK.1 hP 5 0 rfl rfl (by decide) (by decide) (v := nI (mny r)) (hr0) dX9_adds_58 ?_
        refine lv_bipush (v := 10) hx hb dX9_adds_59 (by decide) ?_
        refine lv_icmp_ne (tgt := 66) hx hb dX9_adds_61 (by decide) (fun c_5 => ?_) (fun c_5 => ?_)
        · skip
          have g_5 := mt (nI_eq (by omega) (by omega)).mpr (show ¬ (nI (mny r) = nI 10) from c_5)
          refine lv_aload_n hx hb dX9_adds_66 rfl (lv_at hl 1 rfl) ?_
          refine va_get (D := G.1) (ci := 8) (v := .ref (am 1)) (C := RX9) (T := TX9) (N := 13) hx hb hts in_X9 hown hK.1 hP 0 rfl rfl 0 (by decide) (hts _ q1162) (fun _ h9 => h9) rfl dX9_adds_67 ?_
          refine lv_iconst (v := 0) hx hb dX9_adds_70 (by decide) ?_
          refine x_ialdn (k := 0) hx hb hK.1 hP 5 0 rfl rfl (by decide) (by decide) (v := nI (mny r)) (hr0) dX9_adds_71 ?_
          refine lv_istore (lv' := [(5, .int (nI (mny r))), (4, .int 1), (0, .ref (am 0)), (1, .int (nI c1)), (2, .int (nI f1)), (3, .int (-9))]) hx hb dX9_adds_72 hl (by decide) rfl (fun ls hl => ?_)
          refine lv_aload_n hx hb dX9_adds_74 rfl (lv_at hl 2 rfl) ?_
          refine va_get (D := G.1) (ci := 8) (v := .ref (am 1)) (C := RX9) (T := TX9) (N := 13) hx hb hts in_X9 hown hK.1 hP 0 rfl rfl 0 (by decide) (hts _ q1162) (fun _ h9 => h9) rfl dX9_adds_75 ?_
          refine lv_iload hx hb dX9_adds_78 (lv_at hl 0 rfl) ?_
          refine lv_iconst (v := 0) hx hb dX9_adds_80 (by decide) ?_
          refine x_Si (wN := fun _ => (wM G am ho rn ln pl sd lt ro rf nb ++ [(am 1, .inl (G.2 0, 54, .inl (row r)))] ++ [(am 2, .inl (G.2 0, 54, .inl (row rm)))] ++ [(am 3, .inl (G.2 0, 54, .inl (row r2)))] ++ [(am 4, .inl (G.2 0, 54, .inl (row r4)))])) ⟨C0, hK, hP, hD, hS, hA⟩ ((m9_of l G (mny r) 0)) (va_cwS 2 hts (lw_S q1254 q1255 q95 q1256) rfl rfl rfl (by decide +kernel) ⟨Nat.le_of_ble_eq_true rfl, Nat.le_of_ble_eq_true rfl⟩) [] [0, 2, 4, 6, 8, 10, 12, 14, 16] rfl (fun _ => rfl) rfl rfl hl.1 rfl (Nat.le_of_ble_eq_true rfl) dX9_adds_81 ⟨(Nat.le_of_ble_eq_true rfl), (Nat.le_of_ble_eq_true rfl)⟩ (fun r_6 u_6 H locs hw_6 hP hD hS => ?_)
          have hw_6 : (nI (4 + 5 * (mny r) + 0) : Int32) = r_6 := hw_6.symm
          subst hw_6
          refine lv_iload_n hx hb dX9_adds_84 rfl (lv_at hl 3 rfl) ?_
          refine x_iastn (k := (4 + 5 * (mny r) + 0)) hx hb hK.1 hP hD hS 5 0 rfl rfl (by omega) (by decide) (g := row (sf r 0 (upd (r 0) (mny r) (nI c1)))) (row_up _ (by decide) _) dX9_adds_85 (fun H locs hP hD hS => ?_)
          have hP : va_P G.1 vwCl (wM G am ho rn ln pl sd lt ro rf nb ++ [(am 1, .inl (G.2 0, 54, .inl (row (sf r 0 (upd (r 0) (mny r) (nI c1))))))] ++ [(am 2, .inl (G.2 0, 54, .inl (row rm)))] ++ [(am 3, .inl (G.2 0, 54, .inl (row r2)))] ++ [(am 4, .inl (G.2 0, 54, .inl (row r4)))]) H := hP
          have hD : va_D A (wM G am ho rn ln pl sd lt ro rf nb ++ [(am 1, .inl (G.2 0, 54, .inl (row (sf r 0 (upd (r 0) (mny r) (nI c1))))))] ++ [(am 2, .inl (G.2 0, 54, .inl (row rm)))] ++ [(am 3, .inl (G.2 0, 54, .inl (row r2)))] ++ [(am 4, .inl (G.2 0, 54, .inl (row r4)))]) := hD
          refine lv_aload_n hx hb dX9_adds_86 rfl (lv_at hl 2 rfl) ?_
          refine va_get (D := G.1) (ci := 8) (v := .ref (am 1)) (C := RX9) (T := TX9) (N := 13) hx hb hts in_X9 hown hK.1 hP 0 rfl rfl 0 (by decide) (hts _ q1162) (fun _ h9 => h9) rfl dX9_adds_87 ?_
          refine lv_iload hx hb dX9_adds_90 (lv_at hl 0 rfl) ?_
          refine lv_iconst (v := 1) hx hb dX9_adds_92 (by decide) ?_
          refine x_Si (wN := fun _ => (wM G am ho rn ln pl sd lt ro rf nb ++ [(am 1, .inl (G.2 0, 54, .inl (row (sf r 0 (upd (r 0) (mny r) (nI c1))))))] ++ [(am 2, .inl (G.2 0, 54, .inl (row rm)))] ++ [(am 3, .inl (G.2 0, 54, .inl (row r2)))] ++ [(am 4, .inl (G.2 0, 54, .inl (row r4)))])) ⟨C0, hK, hP, hD, hS, hA⟩ ((m9_of l G (mny r) 1)) (va_cwS 2 hts (lw_S q1254 q1255 q95 q1256) rfl rfl rfl (by decide +kernel) ⟨Nat.le_of_ble_eq_true rfl, Nat.le_of_ble_eq_true rfl⟩) [] [0, 2, 4, 6, 8, 10, 12, 14, 16] rfl (fun _ => rfl) rfl rfl hl.1 rfl (Nat.le_of_ble_eq_true rfl) dX9_adds_93 ⟨(Nat.le_of_ble_eq_true rfl), (Nat.le_of_ble_eq_true rfl)⟩ (fun r_7 u_7 H locs hw_7 hP hD hS => ?_)
          have hw_7 : (nI (4 + 5 * (mny r) + 1) : Int32) = r_7 := hw_7.symm
          subst hw_7
          refine lv_iload_n hx hb dX9_adds_96 rfl (lv_at hl 4 rfl) ?_
          refine x_iastn (k := (4 + 5 * (mny r) + 1)) hx hb hK.1 hP hD hS 5 0 rfl rfl (by omega) (by decide) (g := row (sf (sf r 0 (upd (r 0) (mny r) (nI c1))) 1 (upd (r 1) (mny r) (nI f1)))) (row_up _ (by decide) _) dX9_adds_97 (fun H locs hP hD hS => ?_)
          have hP : va_P G.1 vwCl (wM G am ho rn ln pl sd lt ro rf nb ++ [(am 1, .inl (G.2 0, 54, .inl (row (sf (sf r 0 (upd (r 0) (mny r) (nI c1))) 1 (upd (r 1) (mny r) (nI f1))))))] ++ [(am 2, .inl (G.2 0, 54, .inl (row rm)))] ++ [(am 3, .inl (G.2 0, 54, .inl (row r2)))] ++ [(am 4, .inl (G.2 0, 54, .inl (row r4)))]) H := hP
          have hD : va_D A (wM G am ho rn ln pl sd lt ro rf nb ++ [(am 1, .inl (G.2 0, 54, .inl (row (sf (sf r 0 (upd (r 0) (mny r) (nI c1))) 1 (upd (r 1) (mny r) (nI f1))))))] ++ [(am 2, .inl (G.2 0, 54, .inl (row rm)))] ++ [(am 3, .inl (G.2 0, 54, .inl (row r2)))] ++ [(am 4, .inl (G.2 0, 54, .inl (row r4)))]) := hD
          refine lv_aload_n hx hb dX9_adds_98 rfl (lv_at hl 2 rfl) ?_
          refine va_get (D := G.1) (ci := 8) (v := .ref (am 1)) (C := RX9) (T := TX9) (N := 13) hx hb hts in_X9 hown hK.1 hP 0 rfl rfl 0 (by decide) (hts _ q1162) (fun _ h9 => h9) rfl dX9_adds_99 ?_
          refine lv_iload hx hb dX9_adds_102 (lv_at hl 0 rfl) ?_
          refine lv_iconst (v := 2) hx hb dX9_adds_104 (by decide) ?_
          refine x_Si (wN := fun _ => (wM G am ho rn ln pl sd lt ro rf nb ++ [(am 1, .inl (G.2 0, 54, .inl (row (sf (sf r 0 (upd (r 0) (mny r) (nI c1))) 1 (upd (r 1) (mny r) (nI f1))))))] ++ [(am 2, .inl (G.2 0, 54, .inl (row rm)))] ++ [(am 3, .inl (G.2 0, 54, .inl (row r2)))] ++ [(am 4, .inl (G.2 0, 54, .inl (row r4)))])) ⟨C0, hK, hP, hD, hS, hA⟩ ((m9_of l G (mny r) 2)) (va_cwS 2 hts (lw_S q1254 q1255 q95 q1256) rfl rfl rfl (by decide +kernel) ⟨Nat.le_of_ble_eq_true rfl, Nat.le_of_ble_eq_true rfl⟩) [] [0, 2, 4, 6, 8, 10, 12, 14, 16] rfl (fun _ => rfl) rfl rfl hl.1 rfl (Nat.le_of_ble_eq_true rfl) dX9_adds_105 ⟨(Nat.le_of_ble_eq_true rfl), (Nat.le_of_ble_eq_true rfl)⟩ (fun r_8 u_8 H locs hw_8 hP hD hS => ?_)
          have hw_8 : (nI (4 + 5 * (mny r) + 2) : Int32) = r_8 := hw_8.symm
          subst hw_8
          refine lv_iload_n hx hb dX9_adds_108 rfl (lv_at hl 5 rfl) ?_
          refine x_iastn (k := (4 + 5 * (mny r) + 2)) hx hb hK.1 hP hD hS 5 0 rfl rfl (by omega) (by decide) (g := row (sf (sf (sf r 0 (upd (r 0) (mny r) (nI c1))) 1 (upd (r 1) (mny r) (nI f1))) 2 (upd (r 2) (mny r) (-9)))) (row_up _ (by decide) _) dX9_adds_109 (fun H locs hP hD hS => ?_)
          have hP : va_P G.1 vwCl (wM G am ho rn ln pl sd lt ro rf nb ++ [(am 1, .inl (G.2 0, 54, .inl (row (sf (sf (sf r 0 (upd (r 0) (mny r) (nI c1))) 1 (upd (r 1) (mny r) (nI f1))) 2 (upd (r 2) (mny r) (-9))))))] ++ [(am 2, .inl (G.2 0, 54, .inl (row rm)))] ++ [(am 3, .inl (G.2 0, 54, .inl (row r2)))] ++ [(am 4, .inl (G.2 0, 54, .inl (row r4)))]) H := hP
          have hD : va_D A (wM G am ho rn ln pl sd lt ro rf nb ++ [(am 1, .inl (G.2 0, 54, .inl (row (sf (sf (sf r 0 (upd (r 0) (mny r) (nI c1))) 1 (upd (r 1) (mny r) (nI f1))) 2 (upd (r 2) (mny r) (-9))))))] ++ [(am 2, .inl (G.2 0, 54, .inl (row rm)))] ++ [(am 3, .inl (G.2 0, 54, .inl (row r2)))] ++ [(am 4, .inl (G.2 0, 54, .inl (row r4)))]) := hD
          refine lv_aload_n hx hb dX9_adds_110 rfl (lv_at hl 2 rfl) ?_
          refine va_get (D := G.1) (ci := 8) (v := .ref (am 1)) (C := RX9) (T := TX9) (N := 13) hx hb hts in_X9 hown hK.1 hP 0 rfl rfl 0 (by decide) (hts _ q1162) (fun _ h9 => h9) rfl dX9_adds_111 ?_
          refine lv_iload hx hb dX9_adds_114 (lv_at hl 0 rfl) ?_
          refine lv_iconst (v := 3) hx hb dX9_adds_116 (by decide) ?_
          refine x_Si (wN := fun _ => (wM G am ho rn ln pl sd lt ro rf nb ++ [(am 1, .inl (G.2 0, 54, .inl (row (sf (sf (sf r 0 (upd (r 0) (mny r) (nI c1))) 1 (upd (r 1) (mny r) (nI f1))) 2 (upd (r 2) (mny r) (-9))))))] ++ [(am 2, .inl (G.2 0, 54, .inl (row rm)))] ++ [(am 3, .inl (G.2 0, 54, .inl (row r2)))] ++ [(am 4, .inl (G.2 0, 54, .inl (row r4)))])) ⟨C0, hK, hP, hD, hS, hA⟩ ((m9_of l G (mny r) 3)) (va_cwS 2 hts (lw_S q1254 q1255 q95 q1256) rfl rfl rfl (by decide +kernel) ⟨Nat.le_of_ble_eq_true rfl, Nat.le_of_ble_eq_true rfl⟩) [] [0, 2, 4, 6, 8, 10, 12, 14, 16] rfl (fun _ => rfl) rfl rfl hl.1 rfl (Nat.le_of_ble_eq_true rfl) dX9_adds_117 ⟨(Nat.le_of_ble_eq_true rfl), (Nat.le_of_ble_eq_true rfl)⟩ (fun r_9 u_9 H locs hw_9 hP hD hS => ?_)
          have hw_9 : (nI (4 + 5 * (mny r) + 3) : Int32) = r_9 := hw_9.symm
          subst hw_9
          refine lv_iconst (v := 0) hx hb dX9_adds_120 (by decide) ?_
          refine x_iastn (k := (4 + 5 * (mny r) + 3)) hx hb hK.1 hP hD hS 5 0 rfl rfl (by omega) (by decide) (g := row (sf (sf (sf (sf r 0 (upd (r 0) (mny r) (nI c1))) 1 (upd (r 1) (mny r) (nI f1))) 2 (upd (r 2) (mny r) (-9))) 3 (upd (r 3) (mny r) 0))) (row_up _ (by decide) _) dX9_adds_121 (fun H locs hP hD hS => ?_)
          have hP : va_P G.1 vwCl (wM G am ho rn ln pl sd lt ro rf nb ++ [(am 1, .inl (G.2 0, 54, .inl (row (sf (sf (sf (sf r 0 (upd (r 0) (mny r) (nI c1))) 1 (upd (r 1) (mny r) (nI f1))) 2 (upd (r 2) (mny r) (-9))) 3 (upd (r 3) (mny r) 0)))))] ++ [(am 2, .inl (G.2 0, 54, .inl (row rm)))] ++ [(am 3, .inl (G.2 0, 54, .inl (row r2)))] ++ [(am 4, .inl (G.2 0, 54, .inl (row r4)))]) H := hP
          have hD : va_D A (wM G am ho rn ln pl sd lt ro rf nb ++ [(am 1, .inl (G.2 0, 54, .inl (row (sf (sf (sf (sf r 0 (upd (r 0) (mny r) (nI c1))) 1 (upd (r 1) (mny r) (nI f1))) 2 (upd (r 2) (mny r) (-9))) 3 (upd (r 3) (mny r) 0)))))] ++ [(am 2, .inl (G.2 0, 54, .inl (row rm)))] ++ [(am 3, .inl (G.2 0, 54, .inl (row r2)))] ++ [(am 4, .inl (G.2 0, 54, .inl (row r4)))]) := hD
          refine lv_aload_n hx hb dX9_adds_122 rfl (lv_at hl 2 rfl) ?_
          refine va_get (D := G.1) (ci := 8) (v := .ref (am 1)) (C := RX9) (T := TX9) (N := 13) hx hb hts in_X9 hown hK.1 hP 0 rfl rfl 0 (by decide) (hts _ q1162) (fun _ h9 => h9) rfl dX9_adds_123 ?_
          refine lv_iload hx hb dX9_adds_126 (lv_at hl 0 rfl) ?_
          refine lv_iconst (v := 4) hx hb dX9_adds_128 (by decide) ?_
          refine x_Si (wN := fun _ => (wM G am ho rn ln pl sd lt ro rf nb ++ [(am 1, .inl (G.2 0, 54, .inl (row (sf (sf (sf (sf r 0 (upd (r 0) (mny r) (nI c1))) 1 (upd (r 1) (mny r) (nI f1))) 2 (upd (r 2) (mny r) (-9))) 3 (upd (r 3) (mny r) 0)))))] ++ [(am 2, .inl (G.2 0, 54, .inl (row rm)))] ++ [(am 3, .inl (G.2 0, 54, .inl (row r2)))] ++ [(am 4, .inl (G.2 0, 54, .inl (row r4)))])) ⟨C0, hK, hP, hD, hS, hA⟩ ((m9_of l G (mny r) 4)) (va_cwS 2 hts (lw_S q1254 q1255 q95 q1256) rfl rfl rfl (by decide +kernel) ⟨Nat.le_of_ble_eq_true rfl, Nat.le_of_ble_eq_true rfl⟩) [] [0, 2, 4, 6, 8, 10, 12, 14, 16] rfl (fun _ => rfl) rfl rfl hl.1 rfl (Nat.le_of_ble_eq_true rfl) dX9_adds_129 ⟨(Nat.le_of_ble_eq_true rfl), (Nat.le_of_ble_eq_true rfl)⟩ (fun r_10 u_10 H locs hw_10 hP hD hS => ?_)
          have hw_10 : (nI (4 + 5 * (mny r) + 4) : Int32) = r_10 := hw_10.symm
          subst hw_10
          refine lv_iconst (v := 0) hx hb dX9_adds_132 (by decide) ?_
          refine x_iastn (k := (4 + 5 * (mny r) + 4)) hx hb hK.1 hP hD hS 5 0 rfl rfl (by omega) (by decide) (g := row (sf (sf (sf (sf (sf r 0 (upd (r 0) (mny r) (nI c1))) 1 (upd (r 1) (mny r) (nI f1))) 2 (upd (r 2) (mny r) (-9))) 3 (upd (r 3) (mny r) 0)) 4 (upd (r 4) (mny r) 0))) (row_up _ (by decide) _) dX9_adds_133 (fun H locs hP hD hS => ?_)
          have hP : va_P G.1 vwCl (wM G am ho rn ln pl sd lt ro rf nb ++ [(am 1, .inl (G.2 0, 54, .inl (row (sf (sf (sf (sf (sf r 0 (upd (r 0) (mny r) (nI c1))) 1 (upd (r 1) (mny r) (nI f1))) 2 (upd (r 2) (mny r) (-9))) 3 (upd (r 3) (mny r) 0)) 4 (upd (r 4) (mny r) 0)))))] ++ [(am 2, .inl (G.2 0, 54, .inl (row rm)))] ++ [(am 3, .inl (G.2 0, 54, .inl (row r2)))] ++ [(am 4, .inl (G.2 0, 54, .inl (row r4)))]) H := hP
          have hD : va_D A (wM G am ho rn ln pl sd lt ro rf nb ++ [(am 1, .inl (G.2 0, 54, .inl (row (sf (sf (sf (sf (sf r 0 (upd (r 0) (mny r) (nI c1))) 1 (upd (r 1) (mny r) (nI f1))) 2 (upd (r 2) (mny r) (-9))) 3 (upd (r 3) (mny r) 0)) 4 (upd (r 4) (mny r) 0)))))] ++ [(am 2, .inl (G.2 0, 54, .inl (row rm)))] ++ [(am 3, .inl (G.2 0, 54, .inl (row r2)))] ++ [(am 4, .inl (G.2 0, 54, .inl (row r4)))]) := hD
          refine lv_aload_n hx hb dX9_adds_134 rfl (lv_at hl 2 rfl) ?_
          refine va_get (D := G.1) (ci := 8) (v := .ref (am 1)) (C := RX9) (T := TX9) (N := 13) hx hb hts in_X9 hown hK.1 hP 0 rfl rfl 0 (by decide) (hts _ q1162) (fun _ h9 => h9) rfl dX9_adds_135 ?_
          refine lv_iconst (v := 0) hx hb dX9_adds_138 (by decide) ?_
          refine lv_dup2_11 hx hb dX9_adds_139 rfl rfl ?_
          refine x_ialdn (k := 0) hx hb hK.1 hP 5 0 rfl rfl (by decide) (by decide) (v := nI (mny r)) (hr0) dX9_adds_140 ?_
          refine lv_iconst (v := 1) hx hb dX9_adds_141 (by decide) ?_
          refine x_iadd hx hb dX9_adds_142 (v := nI ((mny r) + 1)) (nI_1 _) ?_
          refine x_iastn (k := 0) hx hb hK.1 hP hD hS 5 0 rfl rfl (by decide) (by decide) (g := row (pCome r c1 (nI f1) (-9))) ((row_uph _ (by decide) _).trans (congrArg row (pCome_m r c1 (nI f1) (-9)))) dX9_adds_143 (fun H locs hP hD hS => ?_)
          have hP : va_P G.1 vwCl (wM G am ho rn ln pl sd lt ro rf nb ++ [(am 1, .inl (G.2 0, 54, .inl (row (pCome r c1 (nI f1) (-9)))))] ++ [(am 2, .inl (G.2 0, 54, .inl (row rm)))] ++ [(am 3, .inl (G.2 0, 54, .inl (row r2)))] ++ [(am 4, .inl (G.2 0, 54, .inl (row r4)))]) H := hP
          have hD : va_D A (wM G am ho rn ln pl sd lt ro rf nb ++ [(am 1, .inl (G.2 0, 54, .inl (row (pCome r c1 (nI f1) (-9)))))] ++ [(am 2, .inl (G.2 0, 54, .inl (row rm)))] ++ [(am 3, .inl (G.2 0, 54, .inl (row r2)))] ++ [(am 4, .inl (G.2 0, 54, .inl (row r4)))]) := hD
          refine lv_iconst (v := 1) hx hb dX9_adds_144 (by decide) ?_
          have hok : (bB r && decide (mny r < 10)) = true := by rw [show (bB r) = true from fl_t c_2, show (decide (mny r < 10)) = true from decide_eq_true (by omega)]; rfl
          have hok : tdOk (12, f1, c1, 0) r = true := hok
          have hP : va_P G.1 vwCl (wM G am ho rn ln pl sd lt ro rf nb ++ [(am 1, .inl (G.2 0, 54, .inl (row (tdN (12, f1, c1, 0) r))))] ++ [(am 2, .inl (G.2 0, 54, .inl (row rm)))] ++ [(am 3, .inl (G.2 0, 54, .inl (row r2)))] ++ [(am 4, .inl (G.2 0, 54, .inl (row r4)))]) H := by rw [tdN_t hok]; exact hP
          have hD : va_D A (wM G am ho rn ln pl sd lt ro rf nb ++ [(am 1, .inl (G.2 0, 54, .inl (row (tdN (12, f1, c1, 0) r))))] ++ [(am 2, .inl (G.2 0, 54, .inl (row rm)))] ++ [(am 3, .inl (G.2 0, 54, .inl (row r2)))] ++ [(am 4, .inl (G.2 0, 54, .inl (row r4)))]) := by rw [tdN_t hok]; exact hD
          refine hret _ _ _ _ _ _ 1 () dX9_adds_145 ?_ hP hD hS (Nat.le_of_ble_eq_true rfl) (Nat.le_of_ble_eq_true rfl)
          rw [hok]
          rfl
        · skip
          have g_5 := (nI_eq (by omega) (by omega)).mp (show nI (mny r) = nI 10 from c_5)
          refine lv_iconst (v := 0) hx hb dX9_adds_64 (by decide) ?_
          have hok : (bB r && decide (mny r < 10)) = false := by rw [show (bB r) = true from fl_t c_2, show (decide (mny r < 10)) = false from decide_eq_false (by omega)]; rfl
          have hok : tdOk (12, f1, c1, 0) r = false := hok
          have hP : va_P G.1 vwCl (wM G am ho rn ln pl sd lt ro rf nb ++ [(am 1, .inl (G.2 0, 54, .inl (row (tdN (12, f1, c1, 0) r))))] ++ [(am 2, .inl (G.2 0, 54, .inl (row rm)))] ++ [(am 3, .inl (G.2 0, 54, .inl (row r2)))] ++ [(am 4, .inl (G.2 0, 54, .inl (row r4)))]) H := by rw [tdN_f hok]; exact hP
          have hD : va_D A (wM G am ho rn ln pl sd lt ro rf nb ++ [(am 1, .inl (G.2 0, 54, .inl (row (tdN (12, f1, c1, 0) r))))] ++ [(am 2, .inl (G.2 0, 54, .inl (row rm)))] ++ [(am 3, .inl (G.2 0, 54, .inl (row r2)))] ++ [(am 4, .inl (G.2 0, 54, .inl (row r4)))]) := by rw [tdN_f hok]; exact hD
          refine hret _ _ _ _ _ _ 0 () dX9_adds_65 ?_ hP hD hS (Nat.le_of_ble_eq_true rfl) (Nat.le_of_ble_eq_true rfl)
          rw [hok]
          rfl
set_option maxHeartbeats 4000000 in
set_option maxRecDepth 100000 in
theorem m9_adds_o (l : Launch) (G : xG) (am : Nat → Nat) (r rm r2 r4 : Rw) (ho rn ln pl sd : Int32) (lt ro rf nb : Nat → Int32) (hr : Ok r) (hp : r 5 3 = 0) (f1 c1 u1 : Nat) (hf1 : f1 ≤ 9) (hc1 : c1 < 6) (hu1 : u1 ≤ 9) : xCi l G yX9_adds cX9_adds 6 (some .boolean) ({ frames := 2, cells := 0, slots := 0, locals := 43 } : Room) [.ref (am 0), .int (nI c1), .int (nI f1), .int (nI u1)] (wM G am ho rn ln pl sd lt ro rf nb ++ [(am 1, .inl (G.2 0, 54, .inl (row r)))] ++ [(am 2, .inl (G.2 0, 54, .inl (row rm)))] ++ [(am 3, .inl (G.2 0, 54, .inl (row r2)))] ++ [(am 4, .inl (G.2 0, 54, .inl (row r4)))]) (S := Unit) (fun v _ => v = bI (tdOk (13, f1, c1, u1) r)) (fun _ => (wM G am ho rn ln pl sd lt ro rf nb ++ [(am 1, .inl (G.2 0, 54, .inl (row (tdN (13, f1, c1, u1) r))))] ++ [(am 2, .inl (G.2 0, 54, .inl (row rm)))] ++ [(am 3, .inl (G.2 0, 54, .inl (row r2)))] ++ [(am 4, .inl (G.2 0, 54, .inl (row r4)))])) := by
  refine x_openi (by decide) (Nat.le_of_ble_eq_true rfl) (fun _ _ h => by rw [h]; exact bI_z _) ?_
  intro p e s m args below meth c A Q ls C0 hK hP hD hA hl hret
  obtain ⟨hx, hb, hml, hown, hts⟩ := id C0
  have hS : va_S A s.heap s.heap [] := va_S.rf
  have hP : va_P G.1 vwCl (wM G am ho rn ln pl sd lt ro rf nb ++ [(am 1, .inl (G.2 0, 54, .inl (row r)))] ++ [(am 2, .inl (G.2 0, 54, .inl (row rm)))] ++ [(am 3, .inl (G.2 0, 54, .inl (row r2)))] ++ [(am 4, .inl (G.2 0, 54, .inl (row r4)))]) s.heap := hP
  have hD : va_D A (wM G am ho rn ln pl sd lt ro rf nb ++ [(am 1, .inl (G.2 0, 54, .inl (row r)))] ++ [(am 2, .inl (G.2 0, 54, .inl (row rm)))] ++ [(am 3, .inl (G.2 0, 54, .inl (row r2)))] ++ [(am 4, .inl (G.2 0, 54, .inl (row r4)))]) := hD
  have hl : lv_has ls 6 [(0, .ref (am 0)), (1, .int (nI c1)), (2, .int (nI f1)), (3, .int (nI u1))] := hl
  have hr0 := hr.n
  have hN := hr.le
  refine lv_iload_n hx hb dX9_adds_0 rfl (lv_at hl 3 rfl) ?_
  refine lv_if_ge (tgt := 22) hx hb dX9_adds_1 (by decide) (fun c_1 => ?_) (fun c_1 => ?_)
  · skip
    have g_1 := (nI_leI (by omega) (by omega)).mp (show nI u1 ≥ nI 0 from c_1)
    refine lv_aload_n hx hb dX9_adds_22 rfl (lv_at hl 0 rfl) ?_
    refine lv_iload_n hx hb dX9_adds_23 rfl (lv_at hl 3 rfl) ?_
    refine x_Vi (wN := fun _ => (wM G am ho rn ln pl sd lt ro rf nb ++ [(am 1, .inl (G.2 0, 54, .inl (row r)))] ++ [(am 2, .inl (G.2 0, 54, .inl (row rm)))] ++ [(am 3, .inl (G.2 0, 54, .inl (row r2)))] ++ [(am 4, .inl (G.2 0, 54, .inl (row r4)))])) ⟨C0, hK, hP, hD, hS, hA⟩ 0 rfl (ci := 8) rfl rfl ((m9_isThing l G am r rm r2 r4 ho rn ln pl sd lt ro rf nb hr hp (nI u1))) (cwV 1 hts (lw_V q1247 q1249 qs73 q95 q1250) rfl rfl rfl (by decide +kernel) ⟨Nat.le_of_ble_eq_true rfl, Nat.le_of_ble_eq_true rfl⟩) [0, 1, 2, 3, 4, 5, 6, 7, 8] [1, 3, 5, 7, 9, 11, 13, 15, 17] rfl (fun _ => rfl) rfl rfl hl.1 rfl (Nat.le_of_ble_eq_true rfl) dX9_adds_24 ⟨(Nat.le_of_ble_eq_true rfl), (Nat.le_of_ble_eq_true rfl)⟩ (fun r_2 u_2 H locs hw_2 hP hD hS => ?_)
    have hw_2 : (bI (tB r (nI u1)) : Int32) = r_2 := hw_2.symm
    subst hw_2
    refine lv_if_eq (tgt := 45) hx hb dX9_adds_27 (by decide) (fun c_3 => ?_) (fun c_3 => ?_)
    · skip
      refine lv_iconst (v := 0) hx hb dX9_adds_45 (by decide) ?_
      refine lv_istore (lv' := [(4, .int 0), (0, .ref (am 0)), (1, .int (nI c1)), (2, .int (nI f1)), (3, .int (nI u1))]) hx hb dX9_adds_46 hl (by decide) rfl (fun ls hl => ?_)
      refine lv_iload hx hb dX9_adds_48 (lv_at hl 0 rfl) ?_
      refine lv_if_eq (tgt := 64) hx hb dX9_adds_50 (by decide) (fun c_4 => ?_) (fun c_4 => ?_)
      · skip
        refine lv_iconst (v := 0) hx hb dX9_adds_64 (by decide) ?_
        have hok : (decide (u1 < mny r) && pSt r u1 && decide (mny r < 10)) = false := by rw [show (decide (u1 < mny r)) = false from by rw [← tB_n hN (by omega)]; exact bI_0.mp c_3]; rfl
        have hok : tdOk (13, f1, c1, u1) r = false := hok
        have hP : va_P G.1 vwCl (wM G am ho rn ln pl sd lt ro rf nb ++ [(am 1, .inl (G.2 0, 54, .inl (row (tdN (13, f1, c1, u1) r))))] ++ [(am 2, .inl (G.2 0, 54, .inl (row rm)))] ++ [(am 3, .inl (G.2 0, 54, .inl (row r2)))] ++ [(am 4, .inl (G.2 0, 54, .inl (row r4)))]) H := by rw [tdN_f hok]; exact hP
        have hD : va_D A (wM G am ho rn ln pl sd lt ro rf nb ++ [(am 1, .inl (G.2 0, 54, .inl (row (tdN (13, f1, c1, u1) r))))] ++ [(am 2, .inl (G.2 0, 54, .inl (row rm)))] ++ [(am 3, .inl (G.2 0, 54, .inl (row r2)))] ++ [(am 4, .inl (G.2 0, 54, .inl (row r4)))]) := by rw [tdN_f hok]; exact hD
        refine hret _ _ _ _ _ _ 0 () dX9_adds_65 ?_ hP hD hS (Nat.le_of_ble_eq_true rfl) (Nat.le_of_ble_eq_true rfl)
        rw [hok]
        rfl
      · skip
        exact absurd c_4 (by decide)
    · skip
      refine lv_aload_n hx hb dX9_adds_30 rfl (lv_at hl 0 rfl) ?_
      refine va_get (D := G.1) (ci := 8) (v := .ref (am 1)) (C := RX9) (T := TX9) (N := 13) hx hb hts in_X9 hown hK.1 hP 0 rfl rfl 0 (by decide) (hts _ q1162) (fun _ h9 => h9) rfl dX9_adds_31 ?_
      refine lv_iload_n hx hb dX9_adds_34 rfl (lv_at hl 3 rfl) ?_
      refine x_Si (wN := fun _ => (wM G am ho rn ln pl sd lt ro rf nb ++ [(am 1, .inl (G.2 0, 54, .inl (row r)))] ++ [(am 2, .inl (G.2 0, 54, .inl (row rm)))] ++ [(am 3, .inl (G.2 0, 54, .inl (row r2)))] ++ [(am 4, .inl (G.2 0, 54, .inl (row r4)))])) ⟨C0, hK, hP, hD, hS, hA⟩ ((m9_stands l G (am 1) r hr u1 (by omega))) (va_cwS 2 hts (lw_S q1251 q1252 q95 q1253) rfl rfl rfl (by decide +kernel) ⟨Nat.le_of_ble_eq_true rfl, Nat.le_of_ble_eq_true rfl⟩) [5] [0, 2, 4, 6, 8, 1, 12, 14, 16] rfl (fun _ => rfl) rfl rfl hl.1 rfl (Nat.le_of_ble_eq_true rfl) dX9_adds_35 ⟨(Nat.le_of_ble_eq_true rfl), (Nat.le_of_ble_eq_true rfl)⟩ (fun r_5 u_5 H locs hw_5 hP hD hS => ?_)
      have hw_5 : (bI (pSt r u1) : Int32) = r_5 := hw_5.symm
      subst hw_5
      refine lv_if_eq (tgt := 45) hx hb dX9_adds_38 (by decide) (fun c_6 => ?_) (fun c_6 => ?_)
      · skip
        refine lv_iconst (v := 0) hx hb dX9_adds_45 (by decide) ?_
        refine lv_istore (lv' := [(4, .int 0), (0, .ref (am 0)), (1, .int (nI c1)), (2, .int (nI f1)), (3, .int (nI u1))]) hx hb dX9_adds_46 hl (by decide) rfl (fun ls hl => ?_)
        refine lv_iload hx hb dX9_adds_48 (lv_at hl 0 rfl) ?_
        refine lv_if_eq (tgt := 64) hx hb dX9_adds_50 (by decide) (fun c_7 => ?_) (fun c_7 => ?_)
        · skip
          refine lv_iconst (v := 0) hx hb dX9_adds_64 (by decide) ?_
          have hok : (decide (u1 < mny r) && pSt r u1 && decide (mny r < 10)) = false := by rw [show (decide (u1 < mny r)) = true from by rw [← tB_n hN (by omega)]; exact bI_n0 c_3, show (pSt r u1) = false from bI_0.mp c_6]; rfl
          have hok : tdOk (13, f1, c1, u1) r = false := hok
          have hP : va_P G.1 vwCl (wM G am ho rn ln pl sd lt ro rf nb ++ [(am 1, .inl (G.2 0, 54, .inl (row (tdN (13, f1, c1, u1) r))))] ++ [(am 2, .inl (G.2 0, 54, .inl (row rm)))] ++ [(am 3, .inl (G.2 0, 54, .inl (row r2)))] ++ [(am 4, .inl (G.2 0, 54, .inl (row r4)))]) H := by rw [tdN_f hok]; exact hP
          have hD : va_D A (wM G am ho rn ln pl sd lt ro rf nb ++ [(am 1, .inl (G.2 0, 54, .inl (row (tdN (13, f1, c1, u1) r))))] ++ [(am 2, .inl (G.2 0, 54, .inl (row rm)))] ++ [(am 3, .inl (G.2 0, 54, .inl (row r2)))] ++ [(am 4, .inl (G.2 0, 54, .inl (row r4)))]) := by rw [tdN_f hok]; exact hD
          refine hret _ _ _ _ _ _ 0 () dX9_adds_65 ?_ hP hD hS (Nat.le_of_ble_eq_true rfl) (Nat.le_of_ble_eq_true rfl)
          rw [hok]
          rfl
        · skip
          exact absurd c_7 (by decide)
      · skip
        refine lv_iconst (v := 1) hx hb dX9_adds_41 (by decide) ?_
        refine lv_goto (tgt := 46) hx hb dX9_adds_42 (by decide) ?_
        refine lv_istore (lv' := [(4, .int 1), (0, .ref (am 0)), (1, .int (nI c1)), (2, .int (nI f1)), (3, .int (nI u1))]) hx hb dX9_adds_46 hl (by decide) rfl (fun ls hl => ?_)
        refine lv_iload hx hb dX9_adds_48 (lv_at hl 0 rfl) ?_
        refine lv_if_eq (tgt := 64) hx hb dX9_adds_50 (by decide) (fun c_8 => ?_) (fun c_8 => ?_)
        · skip
          exact absurd c_8 (by decide)
        · skip
          refine lv_aload_n hx hb dX9_adds_53 rfl (lv_at hl 1 rfl) ?_
          refine va_get (D := G.1) (ci := 8) (v := .ref (am 1)) (C := RX9) (T := TX9) (N := 13) hx hb hts in_X9 hown hK.1 hP 0 rfl rfl 0 (by decide) (hts _ q1162) (fun _ h9 => h9) rfl dX9_adds_54 ?_
          refine lv_iconst (v := 0) hx hb dX9_adds_57 (by decide) ?_
          refine x_ialdn (k := 0) hx hb hK.1 hP 5 0 rfl rfl (by decide) (by decide) (v := nI (mny r)) (hr0) dX9_adds_58 ?_
          refine lv_bipush (v := 10) hx hb dX9_adds_59 (by decide) ?_
          refine lv_icmp_ne (tgt := 66) hx hb dX9_adds_61 (by decide) (fun c_9 => ?_) (fun c_9 => ?_)
          · skip
            have g_9 := mt (nI_eq (by omega) (by omega)).mpr (show ¬ (nI (mny r) = nI 10) from c_9)
            refine lv_aload_n hx hb dX9_adds_66 rfl (lv_at hl 1 rfl) ?_
            refine va_get (D := G.1) (ci := 8) (v := .ref (am 1)) (C := RX9) (T := TX9) (N := 13) hx hb hts in_X9 hown hK.1 hP 0 rfl rfl 0 (by decide) (hts _ q1162) (fun _ h9 => h9) rfl dX9_adds_67 ?_
            refine lv_iconst (v := 0) hx hb dX9_adds_70 (by decide) ?_
            refine x_ialdn (k := 0) hx hb hK.1 hP 5 0 rfl rfl (by decide) (by decide) (v := nI (mny r)) (hr0) dX9_adds_71 ?_
            refine lv_istore (lv' := [(5, .int (nI (mny r))), (4, .int 1), (0, .ref (am 0)), (1, .int (nI c1)), (2, .int (nI f1)), (3, .int (nI u1))]) hx hb dX9_adds_72 hl (by decide) rfl (fun ls hl => ?_)
            refine lv_aload_n hx hb dX9_adds_74 rfl (lv_at hl 2 rfl) ?_
            refine va_get (D := G.1) (ci := 8) (v := .ref (am 1)) (C := RX9) (T := TX9) (N := 13) hx hb hts in_X9 hown hK.1 hP 0 rfl rfl 0 (by decide) (hts _ q1162) (fun _ h9 => h9) rfl dX9_adds_75 ?_
            refine lv_iload hx hb dX9_adds_78 (lv_at hl 0 rfl) ?_
            refine lv_iconst (v := 0) hx hb dX9_adds_80 (by decide) ?_
            refine x_Si (wN := fun _ => (wM G am ho rn ln pl sd lt ro rf nb ++ [(am 1, .inl (G.2 0, 54, .inl (row r)))] ++ [(am 2, .inl (G.2 0, 54, .inl (row rm)))] ++ [(am 3, .inl (G.2 0, 54, .inl (row r2)))] ++ [(am 4, .inl (G.2 0, 54, .inl (row r4)))])) ⟨C0, hK, hP, hD, hS, hA⟩ ((m9_of l G (mny r) 0)) (va_cwS 2 hts (lw_S q1254 q1255 q95 q1256) rfl rfl rfl (by decide +kernel) ⟨Nat.le_of_ble_eq_true rfl, Nat.le_of_ble_eq_true rfl⟩) [] [0, 2, 4, 6, 8, 10, 12, 14, 16] rfl (fun _ => rfl) rfl rfl hl.1 rfl (Nat.le_of_ble_eq_true rfl) dX9_adds_81 ⟨(Nat.le_of_ble_eq_true rfl), (Nat.le_of_ble_eq_true rfl)⟩ (fun r_10 u_10 H locs hw_10 hP hD hS => ?_)
            have hw_10 : (nI (4 + 5 * (mny r) + 0) : Int32) = r_10 := hw_10.symm
            subst hw_10
            refine lv_iload_n hx hb dX9_adds_84 rfl (lv_at hl 3 rfl) ?_
            refine x_iastn (k := (4 + 5 * (mny r) + 0)) hx hb hK.1 hP hD hS 5 0 rfl rfl (by omega) (by decide) (g := row (sf r 0 (upd (r 0) (mny r) (nI c1)))) (row_up _ (by decide) _) dX9_adds_85 (fun H locs hP hD hS => ?_)
            have hP : va_P G.1 vwCl (wM G am ho rn ln pl sd lt ro rf nb ++ [(am 1, .inl (G.2 0, 54, .inl (row (sf r 0 (upd (r 0) (mny r) (nI c1))))))] ++ [(am 2, .inl (G.2 0, 54, .inl (row rm)))] ++ [(am 3, .inl (G.2 0, 54, .inl (row r2)))] ++ [(am 4, .inl (G.2 0, 54, .inl (row r4)))]) H := hP
            have hD : va_D A (wM G am ho rn ln pl sd lt ro rf nb ++ [(am 1, .inl (G.2 0, 54, .inl (row (sf r 0 (upd (r 0) (mny r) (nI c1))))))] ++ [(am 2, .inl (G.2 0, 54, .inl (row rm)))] ++ [(am 3, .inl (G.2 0, 54, .inl (row r2)))] ++ [(am 4, .inl (G.2 0, 54, .inl (row r4)))]) := hD
            refine lv_aload_n hx hb dX9_adds_86 rfl (lv_at hl 2 rfl) ?_
            refine va_get (D := G.1) (ci := 8) (v := .ref (am 1)) (C := RX9) (T := TX9) (N := 13) hx hb hts in_X9 hown hK.1 hP 0 rfl rfl 0 (by decide) (hts _ q1162) (fun _ h9 => h9) rfl dX9_adds_87 ?_
            refine lv_iload hx hb dX9_adds_90 (lv_at hl 0 rfl) ?_
            refine lv_iconst (v := 1) hx hb dX9_adds_92 (by decide) ?_
            refine x_Si (wN := fun _ => (wM G am ho rn ln pl sd lt ro rf nb ++ [(am 1, .inl (G.2 0, 54, .inl (row (sf r 0 (upd (r 0) (mny r) (nI c1))))))] ++ [(am 2, .inl (G.2 0, 54, .inl (row rm)))] ++ [(am 3, .inl (G.2 0, 54, .inl (row r2)))] ++ [(am 4, .inl (G.2 0, 54, .inl (row r4)))])) ⟨C0, hK, hP, hD, hS, hA⟩ ((m9_of l G (mny r) 1)) (va_cwS 2 hts (lw_S q1254 q1255 q95 q1256) rfl rfl rfl (by decide +kernel) ⟨Nat.le_of_ble_eq_true rfl, Nat.le_of_ble_eq_true rfl⟩) [] [0, 2, 4, 6, 8, 10, 12, 14, 16] rfl (fun _ => rfl) rfl rfl hl.1 rfl (Nat.le_of_ble_eq_true rfl) dX9_adds_93 ⟨(Nat.le_of_ble_eq_true rfl), (Nat.le_of_ble_eq_true rfl)⟩ (fun r_11 u_11 H locs hw_11 hP hD hS => ?_)
            have hw_11 : (nI (4 + 5 * (mny r) + 1) : Int32) = r_11 := hw_11.symm
            subst hw_11
            refine lv_iload_n hx hb dX9_adds_96 rfl (lv_at hl 4 rfl) ?_
            refine x_iastn (k := (4 + 5 * (mny r) + 1)) hx hb hK.1 hP hD hS 5 0 rfl rfl (by omega) (by decide) (g := row (sf (sf r 0 (upd (r 0) (mny r) (nI c1))) 1 (upd (r 1) (mny r) (nI f1)))) (row_up _ (by decide) _) dX9_adds_97 (fun H locs hP hD hS => ?_)
            have hP : va_P G.1 vwCl (wM G am ho rn ln pl sd lt ro rf nb ++ [(am 1, .inl (G.2 0, 54, .inl (row (sf (sf r 0 (upd (r 0) (mny r) (nI c1))) 1 (upd (r 1) (mny r) (nI f1))))))] ++ [(am 2, .inl (G.2 0, 54, .inl (row rm)))] ++ [(am 3, .inl (G.2 0, 54, .inl (row r2)))] ++ [(am 4, .inl (G.2 0, 54, .inl (row r4)))]) H := hP
            have hD : va_D A (wM G am ho rn ln pl sd lt ro rf nb ++ [(am 1, .inl (G.2 0, 54, .inl (row (sf (sf r 0 (upd (r 0) (mny r) (nI c1))) 1 (upd (r 1) (mny r) (nI f1))))))] ++ [(am 2, .inl (G.2 0, 54, .inl (row rm)))] ++ [(am 3, .inl (G.2 0, 54, .inl (row r2)))] ++ [(am 4, .inl (G.2 0, 54, .inl (row r4)))]) := hD
            refine lv_aload_n hx hb dX9_adds_98 rfl (lv_at hl 2 rfl) ?_
            refine va_get (D := G.1) (ci := 8) (v := .ref (am 1)) (C := RX9) (T := TX9) (N := 13) hx hb hts in_X9 hown hK.1 hP 0 rfl rfl 0 (by decide) (hts _ q1162) (fun _ h9 => h9) rfl dX9_adds_99 ?_
            refine lv_iload hx hb dX9_adds_102 (lv_at hl 0 rfl) ?_
            refine lv_iconst (v := 2) hx hb dX9_adds_104 (by decide) ?_
            refine x_Si (wN := fun _ => (wM G am ho rn ln pl sd lt ro rf nb ++ [(am 1, .inl (G.2 0, 54, .inl (row (sf (sf r 0 (upd (r 0) (mny r) (nI c1))) 1 (upd (r 1) (mny r) (nI f1))))))] ++ [(am 2, .inl (G.2 0, 54, .inl (row rm)))] ++ [(am 3, .inl (G.2 0, 54, .inl (row r2)))] ++ [(am 4, .inl (G.2 0, 54, .inl (row r4)))])) ⟨C0, hK, hP, hD, hS, hA⟩ ((m9_of l G (mny r) 2)) (va_cwS 2 hts (lw_S q1254 q1255 q95 q1256) rfl rfl rfl (by decide +kernel) ⟨Nat.le_of_ble_eq_true rfl, Nat.le_of_ble_eq_true rfl⟩) [] [0, 2, 4, 6, 8, 10, 12, 14, 16] rfl (fun _ => rfl) rfl rfl hl.1 rfl (Nat.le_of_ble_eq_true rfl) dX9_adds_105 ⟨(Nat.le_of_ble_eq_true rfl), (Nat.le_of_ble_eq_true rfl)⟩ (fun r_12 u_12 H locs hw_12 hP hD hS => ?_)
            have hw_12 : (nI (4 + 5 * (mny r) + 2) : Int32) = r_12 := hw_12.symm
            subst hw_12
            refine lv_iload_n hx hb dX9_adds_108 rfl (lv_at hl 5 rfl) ?_
            refine x_iastn (k := (4 + 5 * (mny r) + 2)) hx hb hK.1 hP hD hS 5 0 rfl rfl (by omega) (by decide) (g := row (sf (sf (sf r 0 (upd (r 0) (mny r) (nI c1))) 1 (upd (r 1) (mny r) (nI f1))) 2 (upd (r 2) (mny r) (nI u1)))) (row_up _ (by decide) _) dX9_adds_109 (fun H locs hP hD hS => ?_)
            have hP : va_P G.1 vwCl (wM G am ho rn ln pl sd lt ro rf nb ++ [(am 1, .inl (G.2 0, 54, .inl (row (sf (sf (sf r 0 (upd (r 0) (mny r) (nI c1))) 1 (upd (r 1) (mny r) (nI f1))) 2 (upd (r 2) (mny r) (nI u1))))))] ++ [(am 2, .inl (G.2 0, 54, .inl (row rm)))] ++ [(am 3, .inl (G.2 0, 54, .inl (row r2)))] ++ [(am 4, .inl (G.2 0, 54, .inl (row r4)))]) H := hP
            have hD : va_D A (wM G am ho rn ln pl sd lt ro rf nb ++ [(am 1, .inl (G.2 0, 54, .inl (row (sf (sf (sf r 0 (upd (r 0) (mny r) (nI c1))) 1 (upd (r 1) (mny r) (nI f1))) 2 (upd (r 2) (mny r) (nI u1))))))] ++ [(am 2, .inl (G.2 0, 54, .inl (row rm)))] ++ [(am 3, .inl (G.2 0, 54, .inl (row r2)))] ++ [(am 4, .inl (G.2 0, 54, .inl (row r4)))]) := hD
            refine lv_aload_n hx hb dX9_adds_110 rfl (lv_at hl 2 rfl) ?_
            refine va_get (D := G.1) (ci := 8) (v := .ref (am 1)) (C := RX9) (T := TX9) (N := 13) hx hb hts in_X9 hown hK.1 hP 0 rfl rfl 0 (by decide) (hts _ q1162) (fun _ h9 => h9) rfl dX9_adds_111 ?_
            refine lv_iload hx hb dX9_adds_114 (lv_at hl 0 rfl) ?_
            refine lv_iconst (v := 3) hx hb dX9_adds_116 (by decide) ?_
            refine x_Si (wN := fun _ => (wM G am ho rn ln pl sd lt ro rf nb ++ [(am 1, .inl (G.2 0, 54, .inl (row (sf (sf (sf r 0 (upd (r 0) (mny r) (nI c1))) 1 (upd (r 1) (mny r) (nI f1))) 2 (upd (r 2) (mny r) (nI u1))))))] ++ [(am 2, .inl (G.2 0, 54, .inl (row rm)))] ++ [(am 3, .inl (G.2 0, 54, .inl (row r2)))] ++ [(am 4, .inl (G.2 0, 54, .inl (row r4)))])) ⟨C0, hK, hP, hD, hS, hA⟩ ((m9_of l G (mny r) 3)) (va_cwS 2 hts (lw_S q1254 q1255 q95 q1256) rfl rfl rfl (by decide +kernel) ⟨Nat.le_of_ble_eq_true rfl, Nat.le_of_ble_eq_true rfl⟩) [] [0, 2, 4, 6, 8, 10, 12, 14, 16] rfl (fun _ => rfl) rfl rfl hl.1 rfl (Nat.le_of_ble_eq_true rfl) dX9_adds_117 ⟨(Nat.le_of_ble_eq_true rfl), (Nat.le_of_ble_eq_true rfl)⟩ (fun r_13 u_13 H locs hw_13 hP hD hS => ?_)
            have hw_13 : (nI (4 + 5 * (mny r) + 3) : Int32) = r_13 := hw_13.symm
            subst hw_13
            refine lv_iconst (v := 0) hx hb dX9_adds_120 (by decide) ?_
            refine x_iastn (k := (4 + 5 * (mny r) + 3)) hx hb hK.1 hP hD hS 5 0 rfl rfl (by omega) (by decide) (g := row (sf (sf (sf (sf r 0 (upd (r 0) (mny r) (nI c1))) 1 (upd (r 1) (mny r) (nI f1))) 2 (upd (r 2) (mny r) (nI u1))) 3 (upd (r 3) (mny r) 0))) (row_up _ (by decide) _) dX9_adds_121 (fun H locs hP hD hS => ?_)
            have hP : va_P G.1 vwCl (wM G am ho rn ln pl sd lt ro rf nb ++ [(am 1, .inl (G.2 0, 54, .inl (row (sf (sf (sf (sf r 0 (upd (r 0) (mny r) (nI c1))) 1 (upd (r 1) (mny r) (nI f1))) 2 (upd (r 2) (mny r) (nI u1))) 3 (upd (r 3) (mny r) 0)))))] ++ [(am 2, .inl (G.2 0, 54, .inl (row rm)))] ++ [(am 3, .inl (G.2 0, 54, .inl (row r2)))] ++ [(am 4, .inl (G.2 0, 54, .inl (row r4)))]) H := hP
            have hD : va_D A (wM G am ho rn ln pl sd lt ro rf nb ++ [(am 1, .inl (G.2 0, 54, .inl (row (sf (sf (sf (sf r 0 (upd (r 0) (mny r) (nI c1))) 1 (upd (r 1) (mny r) (nI f1))) 2 (upd (r 2) (mny r) (nI u1))) 3 (upd (r 3) (mny r) 0)))))] ++ [(am 2, .inl (G.2 0, 54, .inl (row rm)))] ++ [(am 3, .inl (G.2 0, 54, .inl (row r2)))] ++ [(am 4, .inl (G.2 0, 54, .inl (row r4)))]) := hD
            refine lv_aload_n hx hb dX9_adds_122 rfl (lv_at hl 2 rfl) ?_
            refine va_get (D := G.1) (ci := 8) (v := .ref (am 1)) (C := RX9) (T := TX9) (N := 13) hx hb hts in_X9 hown hK.1 hP 0 rfl rfl 0 (by decide) (hts _ q1162) (fun _ h9 => h9) rfl dX9_adds_123 ?_
            refine lv_iload hx hb dX9_adds_126 (lv_at hl 0 rfl) ?_
            refine lv_iconst (v := 4) hx hb dX9_adds_128 (by decide) ?_
            refine x_Si (wN := fun _ => (wM G am ho rn ln pl sd lt ro rf nb ++ [(am 1, .inl (G.2 0, 54, .inl (row (sf (sf (sf (sf r 0 (upd (r 0) (mny r) (nI c1))) 1 (upd (r 1) (mny r) (nI f1))) 2 (upd (r 2) (mny r) (nI u1))) 3 (upd (r 3) (mny r) 0)))))] ++ [(am 2, .inl (G.2 0, 54, .inl (row rm)))] ++ [(am 3, .inl (G.2 0, 54, .inl (row r2)))] ++ [(am 4, .inl (G.2 0, 54, .inl (row r4)))])) ⟨C0, hK, hP, hD, hS, hA⟩ ((m9_of l G (mny r) 4)) (va_cwS 2 hts (lw_S q1254 q1255 q95 q1256) rfl rfl rfl (by decide +kernel) ⟨Nat.le_of_ble_eq_true rfl, Nat.le_of_ble_eq_true rfl⟩) [] [0, 2, 4, 6, 8, 10, 12, 14, 16] rfl (fun _ => rfl) rfl rfl hl.1 rfl (Nat.le_of_ble_eq_true rfl) dX9_adds_129 ⟨(Nat.le_of_ble_eq_true rfl), (Nat.le_of_ble_eq_true rfl)⟩ (fun r_14 u_14 H locs hw_14 hP hD hS => ?_)
            have hw_14 : (nI (4 + 5 * (mny r) + 4) : Int32) = r_14 := hw_14.symm
            subst hw_14
            refine lv_iconst (v := 0) hx hb dX9_adds_132 (by decide) ?_
            refine x_iastn (k := (4 + 5 * (mny r) + 4)) hx hb hK.1 hP hD hS 5 0 rfl rfl (by omega) (by decide) (g := row (sf (sf (sf (sf (sf r 0 (upd (r 0) (mny r) (nI c1))) 1 (upd (r 1) (mny r) (nI f1))) 2 (upd (r 2) (mny r) (nI u1))) 3 (upd (r 3) (mny r) 0)) 4 (upd (r 4) (mny r) 0))) (row_up _ (by decide) _) dX9_adds_133 (fun H locs hP hD hS => ?_)
            have hP : va_P G.1 vwCl (wM G am ho rn ln pl sd lt ro rf nb ++ [(am 1, .inl (G.2 0, 54, .inl (row (sf (sf (sf (sf (sf r 0 (upd (r 0) (mny r) (nI c1))) 1 (upd (r 1) (mny r) (nI f1))) 2 (upd (r 2) (mny r) (nI u1))) 3 (upd (r 3) (mny r) 0)) 4 (upd (r 4) (mny r) 0)))))] ++ [(am 2, .inl (G.2 0, 54, .inl (row rm)))] ++ [(am 3, .inl (G.2 0, 54, .inl (row r2)))] ++ [(am 4, .inl (G.2 0, 54, .inl (row r4)))]) H := hP
            have hD : va_D A (wM G am ho rn ln pl sd lt ro rf nb ++ [(am 1, .inl (G.2 0, 54, .inl (row (sf (sf (sf (sf (sf r 0 (upd (r 0) (mny r) (nI c1))) 1 (upd (r 1) (mny r) (nI f1))) 2 (upd (r 2) (mny r) (nI u1))) 3 (upd (r 3) (mny r) 0)) 4 (upd (r 4) (mny r) 0)))))] ++ [(am 2, .inl (G.2 0, 54, .inl (row rm)))] ++ [(am 3, .inl (G.2 0, 54, .inl (row r2)))] ++ [(am 4, .inl (G.2 0, 54, .inl (row r4)))]) := hD
            refine lv_aload_n hx hb dX9_adds_134 rfl (lv_at hl 2 rfl) ?_
            refine va_get (D := G.1) (ci := 8) (v := .ref (am 1)) (C := RX9) (T := TX9) (N := 13) hx hb hts in_X9 hown hK.1 hP 0 rfl rfl 0 (by decide) (hts _ q1162) (fun _ h9 => h9) rfl dX9_adds_135 ?_
            refine lv_iconst (v := 0) hx hb dX9_adds_138 (by decide) ?_
            refine lv_dup2_11 hx hb dX9_adds_139 rfl rfl ?_
            refine x_ialdn (k := 0) hx hb hK.1 hP 5 0 rfl rfl (by decide) (by decide) (v := nI (mny r)) (hr0) dX9_adds_140 ?_
            refine lv_iconst (v := 1) hx hb dX9_adds_141 (by decide) ?_
            refine x_iadd hx hb dX9_adds_142 (v := nI ((mny r) + 1)) (nI_1 _) ?_
            refine x_iastn (k := 0) hx hb hK.1 hP hD hS 5 0 rfl rfl (by decide) (by decide) (g := row (pCome r c1 (nI f1) (nI u1))) ((row_uph _ (by decide) _).trans (congrArg row (pCome_m r c1 (nI f1) (nI u1)))) dX9_adds_143 (fun H locs hP hD hS => ?_)
            have hP : va_P G.1 vwCl (wM G am ho rn ln pl sd lt ro rf nb ++ [(am 1, .inl (G.2 0, 54, .inl (row (pCome r c1 (nI f1) (nI u1)))))] ++ [(am 2, .inl (G.2 0, 54, .inl (row rm)))] ++ [(am 3, .inl (G.2 0, 54, .inl (row r2)))] ++ [(am 4, .inl (G.2 0, 54, .inl (row r4)))]) H := hP
            have hD : va_D A (wM G am ho rn ln pl sd lt ro rf nb ++ [(am 1, .inl (G.2 0, 54, .inl (row (pCome r c1 (nI f1) (nI u1)))))] ++ [(am 2, .inl (G.2 0, 54, .inl (row rm)))] ++ [(am 3, .inl (G.2 0, 54, .inl (row r2)))] ++ [(am 4, .inl (G.2 0, 54, .inl (row r4)))]) := hD
            refine lv_iconst (v := 1) hx hb dX9_adds_144 (by decide) ?_
            have hok : (decide (u1 < mny r) && pSt r u1 && decide (mny r < 10)) = true := by rw [show (decide (u1 < mny r)) = true from by rw [← tB_n hN (by omega)]; exact bI_n0 c_3, show (pSt r u1) = true from bI_n0 c_6, show (decide (mny r < 10)) = true from decide_eq_true (by omega)]; rfl
            have hok : tdOk (13, f1, c1, u1) r = true := hok
            have hP : va_P G.1 vwCl (wM G am ho rn ln pl sd lt ro rf nb ++ [(am 1, .inl (G.2 0, 54, .inl (row (tdN (13, f1, c1, u1) r))))] ++ [(am 2, .inl (G.2 0, 54, .inl (row rm)))] ++ [(am 3, .inl (G.2 0, 54, .inl (row r2)))] ++ [(am 4, .inl (G.2 0, 54, .inl (row r4)))]) H := by rw [tdN_t hok]; exact hP
            have hD : va_D A (wM G am ho rn ln pl sd lt ro rf nb ++ [(am 1, .inl (G.2 0, 54, .inl (row (tdN (13, f1, c1, u1) r))))] ++ [(am 2, .inl (G.2 0, 54, .inl (row rm)))] ++ [(am 3, .inl (G.2 0, 54, .inl (row r2)))] ++ [(am 4, .inl (G.2 0, 54, .inl (row r4)))]) := by rw [tdN_t hok]; exact hD
            refine hret _ _ _ _ _ _ 1 () dX9_adds_145 ?_ hP hD hS (Nat.le_of_ble_eq_true rfl) (Nat.le_of_ble_eq_true rfl)
            rw [hok]
            rfl
          · skip
            have g_9 := (nI_eq (by omega) (by omega)).mp (show nI (mny r) = nI 10 from c_9)
            refine lv_iconst (v := 0) hx hb dX9_adds_64 (by decide) ?_
            have hok : (decide (u1 < mny r) && pSt r u1 && decide (mny r < 10)) = false := by rw [show (decide (u1 < mny r)) = true from by rw [← tB_n hN (by omega)]; exact bI_n0 c_3, show (pSt r u1) = true from bI_n0 c_6, show (decide (mny r < 10)) = false from decide_eq_false (by omega)]; rfl
            have hok : tdOk (13, f1, c1, u1) r = false := hok
            have hP : va_P G.1 vwCl (wM G am ho rn ln pl sd lt ro rf nb ++ [(am 1, .inl (G.2 0, 54, .inl (row (tdN (13, f1, c1, u1) r))))] ++ [(am 2, .inl (G.2 0, 54, .inl (row rm)))] ++ [(am 3, .inl (G.2 0, 54, .inl (row r2)))] ++ [(am 4, .inl (G.2 0, 54, .inl (row r4)))]) H := by rw [tdN_f hok]; exact hP
            have hD : va_D A (wM G am ho rn ln pl sd lt ro rf nb ++ [(am 1, .inl (G.2 0, 54, .inl (row (tdN (13, f1, c1, u1) r))))] ++ [(am 2, .inl (G.2 0, 54, .inl (row rm)))] ++ [(am 3, .inl (G.2 0, 54, .inl (row r2)))] ++ [(am 4, .inl (G.2 0, 54, .inl (row r4)))]) := by rw [tdN_f hok]; exact hD
            refine hret _ _ _ _ _ _ 0 () dX9_adds_65 ?_ hP hD hS (Nat.le_of_ble_eq_true rfl) (Nat.le_of_ble_eq_true rfl)
            rw [hok]
            rfl
  · skip
    exact absurd (nI_pos' (by omega)) c_1
set_option maxHeartbeats 4000000 in
set_option maxRecDepth 100000 in
theorem m9_isDone_t (l : Launch) (G : xG) (am : Nat → Nat) (r rm r2 r4 : Rw) (ho rn ln pl sd : Int32) (lt ro rf nb : Nat → Int32) (hr : Ok r) (hp : r 5 3 = 0) (f1 c1 : Nat) (hf1 : f1 ≤ 9) (hc1 : c1 < 6) (h0 : nb 0 = nI c1) (h1 : nb 1 = nI f1) (h2 : nb 2 = -9) : xCi l G yX9_isDone cX9_isDone 4 (some .boolean) ({ frames := 2, cells := 0, slots := 0, locals := 46 } : Room) [.ref (am 0), .int 116] (wM G am ho rn ln pl sd lt ro rf nb ++ [(am 1, .inl (G.2 0, 54, .inl (row r)))] ++ [(am 2, .inl (G.2 0, 54, .inl (row rm)))] ++ [(am 3, .inl (G.2 0, 54, .inl (row r2)))] ++ [(am 4, .inl (G.2 0, 54, .inl (row r4)))]) (S := Unit) (fun v _ => v = bI (tdOk (12, f1, c1, 0) r)) (fun _ => (wM G am ho rn ln pl sd lt ro rf nb ++ [(am 1, .inl (G.2 0, 54, .inl (row (tdN (12, f1, c1, 0) r))))] ++ [(am 2, .inl (G.2 0, 54, .inl (row rm)))] ++ [(am 3, .inl (G.2 0, 54, .inl (row r2)))] ++ [(am 4, .inl (G.2 0, 54, .inl (row r4)))])) := by
  refine x_openi (by decide) (Nat.le_of_ble_eq_true rfl) (fun _ _ h => by rw [h]; exact bI_z _) ?_
  intro p e s m args below meth c A Q ls C0 hK hP hD hA hl hret
  obtain ⟨hx, hb, hml, hown, hts⟩ := id C0
  have hS : va_S A s.heap s.heap [] := va_S.rf
  have hP : va_P G.1 vwCl (wM G am ho rn ln pl sd lt ro rf nb ++ [(am 1, .inl (G.2 0, 54, .inl (row r)))] ++ [(am 2, .inl (G.2 0, 54, .inl (row rm)))] ++ [(am 3, .inl (G.2 0, 54, .inl (row r2)))] ++ [(am 4, .inl (G.2 0, 54, .inl (row r4)))]) s.heap := hP
  have hD : va_D A (wM G am ho rn ln pl sd lt ro rf nb ++ [(am 1, .inl (G.2 0, 54, .inl (row r)))] ++ [(am 2, .inl (G.2 0, 54, .inl (row rm)))] ++ [(am 3, .inl (G.2 0, 54, .inl (row r2)))] ++ [(am 4, .inl (G.2 0, 54, .inl (row r4)))]) := hD
  have hl : lv_has ls 4 [(0, .ref (am 0)), (1, .int 116)] := hl
  have hr0 := hr.n
  have hN := hr.le
  refine lv_aload_n hx hb dX9_isDone_0 rfl (lv_at hl 0 rfl) ?_
  refine va_get (D := G.1) (ci := 8) (v := .ref (am 8)) (C := RX9) (T := TX9) (N := 13) hx hb hts in_X9 hown hK.1 hP 0 rfl rfl 11 (by decide) (hts _ q1173) (fun _ h9 => h9) rfl dX9_isDone_1 ?_
  refine lv_iconst (v := 0) hx hb dX9_isDone_4 (by decide) ?_
  refine x_ialdn (k := 0) hx hb hK.1 hP 4 0 rfl rfl (by decide) (by decide) (v := nI c1) h0 dX9_isDone_5 ?_
  refine lv_istore_n (lv' := [(2, .int (nI c1)), (0, .ref (am 0)), (1, .int 116)]) hx hb dX9_isDone_6 rfl hl (by decide) rfl (fun ls hl => ?_)
  refine lv_iconst (v := 0) hx hb dX9_isDone_7 (by decide) ?_
  refine lv_istore_n (lv' := [(3, .int 0), (2, .int (nI c1)), (0, .ref (am 0)), (1, .int 116)]) hx hb dX9_isDone_8 rfl hl (by decide) rfl (fun ls hl => ?_)
  refine lv_iload_n hx hb dX9_isDone_9 rfl (lv_at hl 3 rfl) ?_
  refine lv_tableIn (tgt := 84) hx hb dX9_isDone_10 (by decide) (by decide) rfl (by decide) ?_
  refine lv_aload_n hx hb dX9_isDone_84 rfl (lv_at hl 2 rfl) ?_
  refine lv_iload_n hx hb dX9_isDone_85 rfl (lv_at hl 1 rfl) ?_
  refine lv_aload_n hx hb dX9_isDone_86 rfl (lv_at hl 2 rfl) ?_
  refine va_get (D := G.1) (ci := 8) (v := .ref (am 8)) (C := RX9) (T := TX9) (N := 13) hx hb hts in_X9 hown hK.1 hP 0 rfl rfl 11 (by decide) (hts _ q1173) (fun _ h9 => h9) rfl dX9_isDone_87 ?_
  refine lv_iconst (v := 1) hx hb dX9_isDone_90 (by decide) ?_
  refine x_ialdn (k := 1) hx hb hK.1 hP 4 0 rfl rfl (by decide) (by decide) (v := nI f1) h1 dX9_isDone_91 ?_
  refine lv_aload_n hx hb dX9_isDone_92 rfl (lv_at hl 2 rfl) ?_
  refine va_get (D := G.1) (ci := 8) (v := .ref (am 8)) (C := RX9) (T := TX9) (N := 13) hx hb hts in_X9 hown hK.1 hP 0 rfl rfl 11 (by decide) (hts _ q1173) (fun _ h9 => h9) rfl dX9_isDone_93 ?_
  refine lv_iconst (v := 2) hx hb dX9_isDone_96 (by decide) ?_
  refine x_ialdn (k := 2) hx hb hK.1 hP 4 0 rfl rfl (by decide) (by decide) (v := -9) h2 dX9_isDone_97 ?_
  refine x_Vi (wN := fun _ => (wM G am ho rn ln pl sd lt ro rf nb ++ [(am 1, .inl (G.2 0, 54, .inl (row (tdN (12, f1, c1, 0) r))))] ++ [(am 2, .inl (G.2 0, 54, .inl (row rm)))] ++ [(am 3, .inl (G.2 0, 54, .inl (row r2)))] ++ [(am 4, .inl (G.2 0, 54, .inl (row r4)))])) ⟨C0, hK, hP, hD, hS, hA⟩ 0 rfl (ci := 8) rfl rfl ((m9_adds_f l G am r rm r2 r4 ho rn ln pl sd lt ro rf nb hr hp f1 c1 hf1 hc1)) (cwV 3 hts (lw_V q1243 q1245 qs72 q95 q1246) rfl rfl rfl (by decide +kernel) ⟨Nat.le_of_ble_eq_true rfl, Nat.le_of_ble_eq_true rfl⟩) [0, 1, 2, 3, 4, 5, 6, 7, 8] [1, 3, 5, 7, 9, 11, 13, 15, 17] rfl (fun _ => rfl) rfl rfl hl.1 rfl (Nat.le_of_ble_eq_true rfl) dX9_isDone_98 ⟨(Nat.le_of_ble_eq_true rfl), (Nat.le_of_ble_eq_true rfl)⟩ (fun r_1 u_1 H locs hw_1 hP hD hS => ?_)
  have hw_1 : (bI (tdOk (12, f1, c1, 0) r) : Int32) = r_1 := hw_1.symm
  subst hw_1
  have hP : va_P G.1 vwCl (wM G am ho rn ln pl sd lt ro rf nb ++ [(am 1, .inl (G.2 0, 54, .inl (row (tdN (12, f1, c1, 0) r))))] ++ [(am 2, .inl (G.2 0, 54, .inl (row rm)))] ++ [(am 3, .inl (G.2 0, 54, .inl (row r2)))] ++ [(am 4, .inl (G.2 0, 54, .inl (row r4)))]) H := hP
  have hD : va_D A (wM G am ho rn ln pl sd lt ro rf nb ++ [(am 1, .inl (G.2 0, 54, .inl (row (tdN (12, f1, c1, 0) r))))] ++ [(am 2, .inl (G.2 0, 54, .inl (row rm)))] ++ [(am 3, .inl (G.2 0, 54, .inl (row r2)))] ++ [(am 4, .inl (G.2 0, 54, .inl (row r4)))]) := hD
  refine hret _ _ _ _ _ _ (bI (tdOk (12, f1, c1, 0) r)) () dX9_isDone_101 ?_ hP hD hS (Nat.le_of_ble_eq_true rfl) (Nat.le_of_ble_eq_true rfl)
  rfl
set_option maxHeartbeats 4000000 in
set_option maxRecDepth 100000 in
theorem m9_isDone_o (l : Launch) (G : xG) (am : Nat → Nat) (r rm r2 r4 : Rw) (ho rn ln pl sd : Int32) (lt ro rf nb : Nat → Int32) (hr : Ok r) (hp : r 5 3 = 0) (f1 c1 u1 : Nat) (hf1 : f1 ≤ 9) (hc1 : c1 < 6) (hu1 : u1 ≤ 9) (h0 : nb 0 = nI c1) (h1 : nb 1 = nI f1) (h2 : nb 2 = nI u1) : xCi l G yX9_isDone cX9_isDone 4 (some .boolean) ({ frames := 3, cells := 0, slots := 0, locals := 68 } : Room) [.ref (am 0), .int 111] (wM G am ho rn ln pl sd lt ro rf nb ++ [(am 1, .inl (G.2 0, 54, .inl (row r)))] ++ [(am 2, .inl (G.2 0, 54, .inl (row rm)))] ++ [(am 3, .inl (G.2 0, 54, .inl (row r2)))] ++ [(am 4, .inl (G.2 0, 54, .inl (row r4)))]) (S := Unit) (fun v _ => v = bI (tdOk (13, f1, c1, u1) r)) (fun _ => (wM G am ho rn ln pl sd lt ro rf nb ++ [(am 1, .inl (G.2 0, 54, .inl (row (tdN (13, f1, c1, u1) r))))] ++ [(am 2, .inl (G.2 0, 54, .inl (row rm)))] ++ [(am 3, .inl (G.2 0, 54, .inl (row r2)))] ++ [(am 4, .inl (G.2 0, 54, .inl (row r4)))])) := by
  refine x_openi (by decide) (Nat.le_of_ble_eq_true rfl) (fun _ _ h => by rw [h]; exact bI_z _) ?_
  intro p e s m args below meth c A Q ls C0 hK hP hD hA hl hret
  obtain ⟨hx, hb, hml, hown, hts⟩ := id C0
  have hS : va_S A s.heap s.heap [] := va_S.rf
  have hP : va_P G.1 vwCl (wM G am ho rn ln pl sd lt ro rf nb ++ [(am 1, .inl (G.2 0, 54, .inl (row r)))] ++ [(am 2, .inl (G.2 0, 54, .inl (row rm)))] ++ [(am 3, .inl (G.2 0, 54, .inl (row r2)))] ++ [(am 4, .inl (G.2 0, 54, .inl (row r4)))]) s.heap := hP
  have hD : va_D A (wM G am ho rn ln pl sd lt ro rf nb ++ [(am 1, .inl (G.2 0, 54, .inl (row r)))] ++ [(am 2, .inl (G.2 0, 54, .inl (row rm)))] ++ [(am 3, .inl (G.2 0, 54, .inl (row r2)))] ++ [(am 4, .inl (G.2 0, 54, .inl (row r4)))]) := hD
  have hl : lv_has ls 4 [(0, .ref (am 0)), (1, .int 111)] := hl
  have hr0 := hr.n
  have hN := hr.le
  refine lv_aload_n hx hb dX9_isDone_0 rfl (lv_at hl 0 rfl) ?_
  refine va_get (D := G.1) (ci := 8) (v := .ref (am 8)) (C := RX9) (T := TX9) (N := 13) hx hb hts in_X9 hown hK.1 hP 0 rfl rfl 11 (by decide) (hts _ q1173) (fun _ h9 => h9) rfl dX9_isDone_1 ?_
  refine lv_iconst (v := 0) hx hb dX9_isDone_4 (by decide) ?_
  refine x_ialdn (k := 0) hx hb hK.1 hP 4 0 rfl rfl (by decide) (by decide) (v := nI c1) h0 dX9_isDone_5 ?_
  refine lv_istore_n (lv' := [(2, .int (nI c1)), (0, .ref (am 0)), (1, .int 111)]) hx hb dX9_isDone_6 rfl hl (by decide) rfl (fun ls hl => ?_)
  refine lv_iconst (v := 0) hx hb dX9_isDone_7 (by decide) ?_
  refine lv_istore_n (lv' := [(3, .int 0), (2, .int (nI c1)), (0, .ref (am 0)), (1, .int 111)]) hx hb dX9_isDone_8 rfl hl (by decide) rfl (fun ls hl => ?_)
  refine lv_iload_n hx hb dX9_isDone_9 rfl (lv_at hl 3 rfl) ?_
  refine lv_tableIn (tgt := 84) hx hb dX9_isDone_10 (by decide) (by decide) rfl (by decide) ?_
  refine lv_aload_n hx hb dX9_isDone_84 rfl (lv_at hl 2 rfl) ?_
  refine lv_iload_n hx hb dX9_isDone_85 rfl (lv_at hl 1 rfl) ?_
  refine lv_aload_n hx hb dX9_isDone_86 rfl (lv_at hl 2 rfl) ?_
  refine va_get (D := G.1) (ci := 8) (v := .ref (am 8)) (C := RX9) (T := TX9) (N := 13) hx hb hts in_X9 hown hK.1 hP 0 rfl rfl 11 (by decide) (hts _ q1173) (fun _ h9 => h9) rfl dX9_isDone_87 ?_
  refine lv_iconst (v := 1) hx hb dX9_isDone_90 (by decide) ?_
  refine x_ialdn (k := 1) hx hb hK.1 hP 4 0 rfl rfl (by decide) (by decide) (v := nI f1) h1 dX9_isDone_91 ?_
  refine lv_aload_n hx hb dX9_isDone_92 rfl (lv_at hl 2 rfl) ?_
  refine va_get (D := G.1) (ci := 8) (v := .ref (am 8)) (C := RX9) (T := TX9) (N := 13) hx hb hts in_X9 hown hK.1 hP 0 rfl rfl 11 (by decide) (hts _ q1173) (fun _ h9 => h9) rfl dX9_isDone_93 ?_
  refine lv_iconst (v := 2) hx hb dX9_isDone_96 (by decide) ?_
  refine x_ialdn (k := 2) hx hb hK.1 hP 4 0 rfl rfl (by decide) (by decide) (v := nI u1) h2 dX9_isDone_97 ?_
  refine x_Vi (wN := fun _ => (wM G am ho rn ln pl sd lt ro rf nb ++ [(am 1, .inl (G.2 0, 54, .inl (row (tdN (13, f1, c1, u1) r))))] ++ [(am 2, .inl (G.2 0, 54, .inl (row rm)))] ++ [(am 3, .inl (G.2 0, 54, .inl (row r2)))] ++ [(am 4, .inl (G.2 0, 54, .inl (row r4)))])) ⟨C0, hK, hP, hD, hS, hA⟩ 0 rfl (ci := 8) rfl rfl ((m9_adds_o l G am r rm r2 r4 ho rn ln pl sd lt ro rf nb hr hp f1 c1 u1 hf1 hc1 hu1)) (cwV 3 hts (lw_V q1243 q1245 qs72 q95 q1246) rfl rfl rfl (by decide +kernel) ⟨Nat.le_of_ble_eq_true rfl, Nat.le_of_ble_eq_true rfl⟩) [0, 1, 2, 3, 4, 5, 6, 7, 8] [1, 3, 5, 7, 9, 11, 13, 15, 17] rfl (fun _ => rfl) rfl rfl hl.1 rfl (Nat.le_of_ble_eq_true rfl) dX9_isDone_98 ⟨(Nat.le_of_ble_eq_true rfl), (Nat.le_of_ble_eq_true rfl)⟩ (fun r_1 u_1 H locs hw_1 hP hD hS => ?_)
  have hw_1 : (bI (tdOk (13, f1, c1, u1) r) : Int32) = r_1 := hw_1.symm
  subst hw_1
  have hP : va_P G.1 vwCl (wM G am ho rn ln pl sd lt ro rf nb ++ [(am 1, .inl (G.2 0, 54, .inl (row (tdN (13, f1, c1, u1) r))))] ++ [(am 2, .inl (G.2 0, 54, .inl (row rm)))] ++ [(am 3, .inl (G.2 0, 54, .inl (row r2)))] ++ [(am 4, .inl (G.2 0, 54, .inl (row r4)))]) H := hP
  have hD : va_D A (wM G am ho rn ln pl sd lt ro rf nb ++ [(am 1, .inl (G.2 0, 54, .inl (row (tdN (13, f1, c1, u1) r))))] ++ [(am 2, .inl (G.2 0, 54, .inl (row rm)))] ++ [(am 3, .inl (G.2 0, 54, .inl (row r2)))] ++ [(am 4, .inl (G.2 0, 54, .inl (row r4)))]) := hD
  refine hret _ _ _ _ _ _ (bI (tdOk (13, f1, c1, u1) r)) () dX9_isDone_101 ?_ hP hD hS (Nat.le_of_ble_eq_true rfl) (Nat.le_of_ble_eq_true rfl)
  rfl
set_option maxHeartbeats 4000000 in
set_option maxRecDepth 100000 in
theorem m9_isDone_p (l : Launch) (G : xG) (am : Nat → Nat) (r rm r2 r4 : Rw) (ho rn ln pl sd : Int32) (lt ro rf nb : Nat → Int32) (hr : Ok r) (hp : r 5 3 = 0) (f1 u1 : Nat) (hf1 : f1 ≤ 9) (h0 : nb 0 = nI f1) (h1 : nb 1 = nI u1) : xCi l G yX9_isDone cX9_isDone 4 (some .boolean) ({ frames := 4, cells := 0, slots := 0, locals := 91 } : Room) [.ref (am 0), .int 112] (wM G am ho rn ln pl sd lt ro rf nb ++ [(am 1, .inl (G.2 0, 54, .inl (row r)))] ++ [(am 2, .inl (G.2 0, 54, .inl (row rm)))] ++ [(am 3, .inl (G.2 0, 54, .inl (row r2)))] ++ [(am 4, .inl (G.2 0, 54, .inl (row r4)))]) (S := Unit) (fun v _ => v = bI (tdOk (14, f1, 0, u1) r)) (fun _ => (wM G am ho rn ln pl sd lt ro rf nb ++ [(am 1, .inl (G.2 0, 54, .inl (row (tdN (14, f1, 0, u1) r))))] ++ [(am 2, .inl (G.2 0, 54, .inl (row rm)))] ++ [(am 3, .inl (G.2 0, 54, .inl (row r2)))] ++ [(am 4, .inl (G.2 0, 54, .inl (row r4)))])) := by
  refine x_openi (by decide) (Nat.le_of_ble_eq_true rfl) (fun _ _ h => by rw [h]; exact bI_z _) ?_
  intro p e s m args below meth c A Q ls C0 hK hP hD hA hl hret
  obtain ⟨hx, hb, hml, hown, hts⟩ := id C0
  have hS : va_S A s.heap s.heap [] := va_S.rf
  have hP : va_P G.1 vwCl (wM G am ho rn ln pl sd lt ro rf nb ++ [(am 1, .inl (G.2 0, 54, .inl (row r)))] ++ [(am 2, .inl (G.2 0, 54, .inl (row rm)))] ++ [(am 3, .inl (G.2 0, 54, .inl (row r2)))] ++ [(am 4, .inl (G.2 0, 54, .inl (row r4)))]) s.heap := hP
  have hD : va_D A (wM G am ho rn ln pl sd lt ro rf nb ++ [(am 1, .inl (G.2 0, 54, .inl (row r)))] ++ [(am 2, .inl (G.2 0, 54, .inl (row rm)))] ++ [(am 3, .inl (G.2 0, 54, .inl (row r2)))] ++ [(am 4, .inl (G.2 0, 54, .inl (row r4)))]) := hD
  have hl : lv_has ls 4 [(0, .ref (am 0)), (1, .int 112)] := hl
  have hr0 := hr.n
  have hN := hr.le
  refine lv_aload_n hx hb dX9_isDone_0 rfl (lv_at hl 0 rfl) ?_
  refine va_get (D := G.1) (ci := 8) (v := .ref (am 8)) (C := RX9) (T := TX9) (N := 13) hx hb hts in_X9 hown hK.1 hP 0 rfl rfl 11 (by decide) (hts _ q1173) (fun _ h9 => h9) rfl dX9_isDone_1 ?_
  refine lv_iconst (v := 0) hx hb dX9_isDone_4 (by decide) ?_
  refine x_ialdn (k := 0) hx hb hK.1 hP 4 0 rfl rfl (by decide) (by decide) (v := nI f1) h0 dX9_isDone_5 ?_
  refine lv_istore_n (lv' := [(2, .int (nI f1)), (0, .ref (am 0)), (1, .int 112)]) hx hb dX9_isDone_6 rfl hl (by decide) rfl (fun ls hl => ?_)
  refine lv_iconst (v := 0) hx hb dX9_isDone_7 (by decide) ?_
  refine lv_istore_n (lv' := [(3, .int 0), (2, .int (nI f1)), (0, .ref (am 0)), (1, .int 112)]) hx hb dX9_isDone_8 rfl hl (by decide) rfl (fun ls hl => ?_)
  refine lv_iload_n hx hb dX9_isDone_9 rfl (lv_at hl 3 rfl) ?_
  refine lv_tableIn (tgt := 102) hx hb dX9_isDone_10 (by decide) (by decide) rfl (by decide) ?_
  refine lv_aload_n hx hb dX9_isDone_102 rfl (lv_at hl 2 rfl) ?_
  refine lv_iload_n hx hb dX9_isDone_103 rfl (lv_at hl 1 rfl) ?_
  refine x_Vi (wN := fun _ => (wM G am ho rn ln pl sd lt ro rf nb ++ [(am 1, .inl (G.2 0, 54, .inl (row r)))] ++ [(am 2, .inl (G.2 0, 54, .inl (row rm)))] ++ [(am 3, .inl (G.2 0, 54, .inl (row r2)))] ++ [(am 4, .inl (G.2 0, 54, .inl (row r4)))])) ⟨C0, hK, hP, hD, hS, hA⟩ 0 rfl (ci := 8) rfl rfl ((m9_isThing l G am r rm r2 r4 ho rn ln pl sd lt ro rf nb hr hp (nI f1))) (cwV 1 hts (lw_V q1247 q1249 qs73 q95 q1250) rfl rfl rfl (by decide +kernel) ⟨Nat.le_of_ble_eq_true rfl, Nat.le_of_ble_eq_true rfl⟩) [0, 1, 2, 3, 4, 5, 6, 7, 8] [1, 3, 5, 7, 9, 11, 13, 15, 17] rfl (fun _ => rfl) rfl rfl hl.1 rfl (Nat.le_of_ble_eq_true rfl) dX9_isDone_104 ⟨(Nat.le_of_ble_eq_true rfl), (Nat.le_of_ble_eq_true rfl)⟩ (fun r_1 u_1 H locs hw_1 hP hD hS => ?_)
  have hw_1 : (bI (tB r (nI f1)) : Int32) = r_1 := hw_1.symm
  subst hw_1
  refine lv_if_eq (tgt := 121) hx hb dX9_isDone_107 (by decide) (fun c_2 => ?_) (fun c_2 => ?_)
  · skip
    refine lv_iconst (v := 0) hx hb dX9_isDone_121 (by decide) ?_
    have hok : (decide (f1 < mny r) && pSt r f1) = false := by rw [show (decide (f1 < mny r)) = false from by rw [← tB_n hN (by omega)]; exact bI_0.mp c_2]; rfl
    have hok : tdOk (14, f1, 0, u1) r = false := hok
    have hP : va_P G.1 vwCl (wM G am ho rn ln pl sd lt ro rf nb ++ [(am 1, .inl (G.2 0, 54, .inl (row (tdN (14, f1, 0, u1) r))))] ++ [(am 2, .inl (G.2 0, 54, .inl (row rm)))] ++ [(am 3, .inl (G.2 0, 54, .inl (row r2)))] ++ [(am 4, .inl (G.2 0, 54, .inl (row r4)))]) H := by rw [tdN_f hok]; exact hP
    have hD : va_D A (wM G am ho rn ln pl sd lt ro rf nb ++ [(am 1, .inl (G.2 0, 54, .inl (row (tdN (14, f1, 0, u1) r))))] ++ [(am 2, .inl (G.2 0, 54, .inl (row rm)))] ++ [(am 3, .inl (G.2 0, 54, .inl (row r2)))] ++ [(am 4, .inl (G.2 0, 54, .inl (row r4)))]) := by rw [tdN_f hok]; exact hD
    refine hret _ _ _ _ _ _ 0 () dX9_isDone_122 ?_ hP hD hS (Nat.le_of_ble_eq_true rfl) (Nat.le_of_ble_eq_true rfl)
    rw [hok]
    rfl
  · skip
    have hlt1 : f1 < mny r := of_decide_eq_true (by rw [← tB_n hN (by omega)]; exact bI_n0 c_2)
    refine lv_aload_n hx hb dX9_isDone_110 rfl (lv_at hl 2 rfl) ?_
    refine va_get (D := G.1) (ci := 8) (v := .ref (am 1)) (C := RX9) (T := TX9) (N := 13) hx hb hts in_X9 hown hK.1 hP 0 rfl rfl 0 (by decide) (hts _ q1162) (fun _ h9 => h9) rfl dX9_isDone_111 ?_
    refine lv_iload_n hx hb dX9_isDone_114 rfl (lv_at hl 1 rfl) ?_
    refine x_Si (wN := fun _ => (wM G am ho rn ln pl sd lt ro rf nb ++ [(am 1, .inl (G.2 0, 54, .inl (row r)))] ++ [(am 2, .inl (G.2 0, 54, .inl (row rm)))] ++ [(am 3, .inl (G.2 0, 54, .inl (row r2)))] ++ [(am 4, .inl (G.2 0, 54, .inl (row r4)))])) ⟨C0, hK, hP, hD, hS, hA⟩ ((m9_stands l G (am 1) r hr f1 (by omega))) (va_cwS 2 hts (lw_S q1251 q1252 q95 q1253) rfl rfl rfl (by decide +kernel) ⟨Nat.le_of_ble_eq_true rfl, Nat.le_of_ble_eq_true rfl⟩) [5] [0, 2, 4, 6, 8, 1, 12, 14, 16] rfl (fun _ => rfl) rfl rfl hl.1 rfl (Nat.le_of_ble_eq_true rfl) dX9_isDone_115 ⟨(Nat.le_of_ble_eq_true rfl), (Nat.le_of_ble_eq_true rfl)⟩ (fun r_3 u_3 H locs hw_3 hP hD hS => ?_)
    have hw_3 : (bI (pSt r f1) : Int32) = r_3 := hw_3.symm
    subst hw_3
    refine lv_if_ne (tgt := 123) hx hb dX9_isDone_118 (by decide) (fun c_4 => ?_) (fun c_4 => ?_)
    · skip
      refine lv_aload_n hx hb dX9_isDone_123 rfl (lv_at hl 2 rfl) ?_
      refine va_get (D := G.1) (ci := 8) (v := .ref (am 1)) (C := RX9) (T := TX9) (N := 13) hx hb hts in_X9 hown hK.1 hP 0 rfl rfl 0 (by decide) (hts _ q1162) (fun _ h9 => h9) rfl dX9_isDone_124 ?_
      refine lv_iload_n hx hb dX9_isDone_127 rfl (lv_at hl 1 rfl) ?_
      refine lv_aload_n hx hb dX9_isDone_128 rfl (lv_at hl 2 rfl) ?_
      refine va_get (D := G.1) (ci := 8) (v := .ref (am 8)) (C := RX9) (T := TX9) (N := 13) hx hb hts in_X9 hown hK.1 hP 0 rfl rfl 11 (by decide) (hts _ q1173) (fun _ h9 => h9) rfl dX9_isDone_129 ?_
      refine lv_iconst (v := 1) hx hb dX9_isDone_132 (by decide) ?_
      refine x_ialdn (k := 1) hx hb hK.1 hP 4 0 rfl rfl (by decide) (by decide) (v := nI u1) h1 dX9_isDone_133 ?_
      refine x_Si (wN := fun _ => (wM G am ho rn ln pl sd lt ro rf nb ++ [(am 1, .inl (G.2 0, 54, .inl (row (pPull r f1 (nI u1)))))] ++ [(am 2, .inl (G.2 0, 54, .inl (row rm)))] ++ [(am 3, .inl (G.2 0, 54, .inl (row r2)))] ++ [(am 4, .inl (G.2 0, 54, .inl (row r4)))])) ⟨C0, hK, hP, hD, hS, hA⟩ ((m9_pull l G (am 1) r hr f1 (nI u1) hlt1)) (va_cwS 3 hts (lw_S q1257 q1258 q95 q1259) rfl rfl rfl (by decide +kernel) ⟨Nat.le_of_ble_eq_true rfl, Nat.le_of_ble_eq_true rfl⟩) [5] [0, 2, 4, 6, 8, 1, 12, 14, 16] rfl (fun _ => rfl) rfl rfl hl.1 rfl (Nat.le_of_ble_eq_true rfl) dX9_isDone_134 ⟨(Nat.le_of_ble_eq_true rfl), (Nat.le_of_ble_eq_true rfl)⟩ (fun r_5 u_5 H locs hw_5 hP hD hS => ?_)
      have hw_5 : (pPullN r f1 (nI u1) : Int32) = r_5 := hw_5.symm
      subst hw_5
      have hP : va_P G.1 vwCl (wM G am ho rn ln pl sd lt ro rf nb ++ [(am 1, .inl (G.2 0, 54, .inl (row (pPull r f1 (nI u1)))))] ++ [(am 2, .inl (G.2 0, 54, .inl (row rm)))] ++ [(am 3, .inl (G.2 0, 54, .inl (row r2)))] ++ [(am 4, .inl (G.2 0, 54, .inl (row r4)))]) H := hP
      have hD : va_D A (wM G am ho rn ln pl sd lt ro rf nb ++ [(am 1, .inl (G.2 0, 54, .inl (row (pPull r f1 (nI u1)))))] ++ [(am 2, .inl (G.2 0, 54, .inl (row rm)))] ++ [(am 3, .inl (G.2 0, 54, .inl (row r2)))] ++ [(am 4, .inl (G.2 0, 54, .inl (row r4)))]) := hD
      refine lv_istore_n (lv' := [(3, .int (pPullN r f1 (nI u1))), (2, .int (nI f1)), (0, .ref (am 0)), (1, .int 112)]) hx hb dX9_isDone_137 rfl hl (by decide) rfl (fun ls hl => ?_)
      refine lv_iconst (v := 1) hx hb dX9_isDone_138 (by decide) ?_
      have hok : (decide (f1 < mny r) && pSt r f1) = true := by rw [show (decide (f1 < mny r)) = true from by rw [← tB_n hN (by omega)]; exact bI_n0 c_2, show (pSt r f1) = true from bI_n0 c_4]; rfl
      have hok : tdOk (14, f1, 0, u1) r = true := hok
      have hP : va_P G.1 vwCl (wM G am ho rn ln pl sd lt ro rf nb ++ [(am 1, .inl (G.2 0, 54, .inl (row (tdN (14, f1, 0, u1) r))))] ++ [(am 2, .inl (G.2 0, 54, .inl (row rm)))] ++ [(am 3, .inl (G.2 0, 54, .inl (row r2)))] ++ [(am 4, .inl (G.2 0, 54, .inl (row r4)))]) H := by rw [tdN_t hok]; exact hP
      have hD : va_D A (wM G am ho rn ln pl sd lt ro rf nb ++ [(am 1, .inl (G.2 0, 54, .inl (row (tdN (14, f1, 0, u1) r))))] ++ [(am 2, .inl (G.2 0, 54, .inl (row rm)))] ++ [(am 3, .inl (G.2 0, 54, .inl (row r2)))] ++ [(am 4, .inl (G.2 0, 54, .inl (row r4)))]) := by rw [tdN_t hok]; exact hD
      refine hret _ _ _ _ _ _ 1 () dX9_isDone_139 ?_ hP hD hS (Nat.le_of_ble_eq_true rfl) (Nat.le_of_ble_eq_true rfl)
      rw [hok]
      rfl
    · skip
      refine lv_iconst (v := 0) hx hb dX9_isDone_121 (by decide) ?_
      have hok : (decide (f1 < mny r) && pSt r f1) = false := by rw [show (decide (f1 < mny r)) = true from by rw [← tB_n hN (by omega)]; exact bI_n0 c_2, show (pSt r f1) = false from bI_0.mp c_4]; rfl
      have hok : tdOk (14, f1, 0, u1) r = false := hok
      have hP : va_P G.1 vwCl (wM G am ho rn ln pl sd lt ro rf nb ++ [(am 1, .inl (G.2 0, 54, .inl (row (tdN (14, f1, 0, u1) r))))] ++ [(am 2, .inl (G.2 0, 54, .inl (row rm)))] ++ [(am 3, .inl (G.2 0, 54, .inl (row r2)))] ++ [(am 4, .inl (G.2 0, 54, .inl (row r4)))]) H := by rw [tdN_f hok]; exact hP
      have hD : va_D A (wM G am ho rn ln pl sd lt ro rf nb ++ [(am 1, .inl (G.2 0, 54, .inl (row (tdN (14, f1, 0, u1) r))))] ++ [(am 2, .inl (G.2 0, 54, .inl (row rm)))] ++ [(am 3, .inl (G.2 0, 54, .inl (row r2)))] ++ [(am 4, .inl (G.2 0, 54, .inl (row r4)))]) := by rw [tdN_f hok]; exact hD
      refine hret _ _ _ _ _ _ 0 () dX9_isDone_122 ?_ hP hD hS (Nat.le_of_ble_eq_true rfl) (Nat.le_of_ble_eq_true rfl)
      rw [hok]
      rfl
set_option maxHeartbeats 4000000 in
set_option maxRecDepth 100000 in
theorem m9_isDone_f (l : Launch) (G : xG) (am : Nat → Nat) (r rm r2 r4 : Rw) (ho rn ln pl sd : Int32) (lt ro rf nb : Nat → Int32) (hr : Ok r) (hp : r 5 3 = 0) (f1 : Nat) (hf1 : f1 ≤ 9) (h0 : nb 0 = nI f1) : xCi l G yX9_isDone cX9_isDone 4 (some .boolean) ({ frames := 4, cells := 0, slots := 0, locals := 91 } : Room) [.ref (am 0), .int 102] (wM G am ho rn ln pl sd lt ro rf nb ++ [(am 1, .inl (G.2 0, 54, .inl (row r)))] ++ [(am 2, .inl (G.2 0, 54, .inl (row rm)))] ++ [(am 3, .inl (G.2 0, 54, .inl (row r2)))] ++ [(am 4, .inl (G.2 0, 54, .inl (row r4)))]) (S := Unit) (fun v _ => v = bI (tdOk (15, f1, 0, 0) r)) (fun _ => (wM G am ho rn ln pl sd lt ro rf nb ++ [(am 1, .inl (G.2 0, 54, .inl (row (tdN (15, f1, 0, 0) r))))] ++ [(am 2, .inl (G.2 0, 54, .inl (row rm)))] ++ [(am 3, .inl (G.2 0, 54, .inl (row r2)))] ++ [(am 4, .inl (G.2 0, 54, .inl (row r4)))])) := by
  refine x_openi (by decide) (Nat.le_of_ble_eq_true rfl) (fun _ _ h => by rw [h]; exact bI_z _) ?_
  intro p e s m args below meth c A Q ls C0 hK hP hD hA hl hret
  obtain ⟨hx, hb, hml, hown, hts⟩ := id C0
  have hS : va_S A s.heap s.heap [] := va_S.rf
  have hP : va_P G.1 vwCl (wM G am ho rn ln pl sd lt ro rf nb ++ [(am 1, .inl (G.2 0, 54, .inl (row r)))] ++ [(am 2, .inl (G.2 0, 54, .inl (row rm)))] ++ [(am 3, .inl (G.2 0, 54, .inl (row r2)))] ++ [(am 4, .inl (G.2 0, 54, .inl (row r4)))]) s.heap := hP
  have hD : va_D A (wM G am ho rn ln pl sd lt ro rf nb ++ [(am 1, .inl (G.2 0, 54, .inl (row r)))] ++ [(am 2, .inl (G.2 0, 54, .inl (row rm)))] ++ [(am 3, .inl (G.2 0, 54, .inl (row r2)))] ++ [(am 4, .inl (G.2 0, 54, .inl (row r4)))]) := hD
  have hl : lv_has ls 4 [(0, .ref (am 0)), (1, .int 102)] := hl
  have hr0 := hr.n
  have hN := hr.le
  refine lv_aload_n hx hb dX9_isDone_0 rfl (lv_at hl 0 rfl) ?_
  refine va_get (D := G.1) (ci := 8) (v := .ref (am 8)) (C := RX9) (T := TX9) (N := 13) hx hb hts in_X9 hown hK.1 hP 0 rfl rfl 11 (by decide) (hts _ q1173) (fun _ h9 => h9) rfl dX9_isDone_1 ?_
  refine lv_iconst (v := 0) hx hb dX9_isDone_4 (by decide) ?_
  refine x_ialdn (k := 0) hx hb hK.1 hP 4 0 rfl rfl (by decide) (by decide) (v := nI f1) h0 dX9_isDone_5 ?_
  refine lv_istore_n (lv' := [(2, .int (nI f1)), (0, .ref (am 0)), (1, .int 102)]) hx hb dX9_isDone_6 rfl hl (by decide) rfl (fun ls hl => ?_)
  refine lv_iconst (v := 0) hx hb dX9_isDone_7 (by decide) ?_
  refine lv_istore_n (lv' := [(3, .int 0), (2, .int (nI f1)), (0, .ref (am 0)), (1, .int 102)]) hx hb dX9_isDone_8 rfl hl (by decide) rfl (fun ls hl => ?_)
  refine lv_iload_n hx hb dX9_isDone_9 rfl (lv_at hl 3 rfl) ?_
  refine lv_tableIn (tgt := 140) hx hb dX9_isDone_10 (by decide) (by decide) rfl (by decide) ?_
  refine lv_aload_n hx hb dX9_isDone_140 rfl (lv_at hl 2 rfl) ?_
  refine va_get (D := G.1) (ci := 8) (v := .ref (am 1)) (C := RX9) (T := TX9) (N := 13) hx hb hts in_X9 hown hK.1 hP 0 rfl rfl 0 (by decide) (hts _ q1162) (fun _ h9 => h9) rfl dX9_isDone_141 ?_
  refine lv_iconst (v := 2) hx hb dX9_isDone_144 (by decide) ?_
  refine x_ialdn (k := 2) hx hb hK.1 hP 5 0 rfl rfl (by decide) (by decide) (v := r 5 2) rfl dX9_isDone_145 ?_
  refine lv_if_ne (tgt := 151) hx hb dX9_isDone_146 (by decide) (fun c_1 => ?_) (fun c_1 => ?_)
  · skip
    refine lv_aload_n hx hb dX9_isDone_151 rfl (lv_at hl 2 rfl) ?_
    refine va_get (D := G.1) (ci := 8) (v := .ref (am 1)) (C := RX9) (T := TX9) (N := 13) hx hb hts in_X9 hown hK.1 hP 0 rfl rfl 0 (by decide) (hts _ q1162) (fun _ h9 => h9) rfl dX9_isDone_152 ?_
    refine lv_bipush (v := (-9)) hx hb dX9_isDone_155 (by decide) ?_
    refine lv_iload_n hx hb dX9_isDone_157 rfl (lv_at hl 1 rfl) ?_
    refine x_Si (wN := fun _ => (wM G am ho rn ln pl sd lt ro rf nb ++ [(am 1, .inl (G.2 0, 54, .inl (row (pPullF r (nI f1)))))] ++ [(am 2, .inl (G.2 0, 54, .inl (row rm)))] ++ [(am 3, .inl (G.2 0, 54, .inl (row r2)))] ++ [(am 4, .inl (G.2 0, 54, .inl (row r4)))])) ⟨C0, hK, hP, hD, hS, hA⟩ ((m9_pullF l G (am 1) r hr (nI f1))) (va_cwS 3 hts (lw_S q1257 q1258 q95 q1259) rfl rfl rfl (by decide +kernel) ⟨Nat.le_of_ble_eq_true rfl, Nat.le_of_ble_eq_true rfl⟩) [5] [0, 2, 4, 6, 8, 1, 12, 14, 16] rfl (fun _ => rfl) rfl rfl hl.1 rfl (Nat.le_of_ble_eq_true rfl) dX9_isDone_158 ⟨(Nat.le_of_ble_eq_true rfl), (Nat.le_of_ble_eq_true rfl)⟩ (fun r_2 u_2 H locs hw_2 hP hD hS => ?_)
    have hw_2 : (pPullFN r (nI f1) : Int32) = r_2 := hw_2.symm
    subst hw_2
    have hP : va_P G.1 vwCl (wM G am ho rn ln pl sd lt ro rf nb ++ [(am 1, .inl (G.2 0, 54, .inl (row (pPullF r (nI f1)))))] ++ [(am 2, .inl (G.2 0, 54, .inl (row rm)))] ++ [(am 3, .inl (G.2 0, 54, .inl (row r2)))] ++ [(am 4, .inl (G.2 0, 54, .inl (row r4)))]) H := hP
    have hD : va_D A (wM G am ho rn ln pl sd lt ro rf nb ++ [(am 1, .inl (G.2 0, 54, .inl (row (pPullF r (nI f1)))))] ++ [(am 2, .inl (G.2 0, 54, .inl (row rm)))] ++ [(am 3, .inl (G.2 0, 54, .inl (row r2)))] ++ [(am 4, .inl (G.2 0, 54, .inl (row r4)))]) := hD
    refine lv_istore_n (lv' := [(3, .int (pPullFN r (nI f1))), (2, .int (nI f1)), (0, .ref (am 0)), (1, .int 102)]) hx hb dX9_isDone_161 rfl hl (by decide) rfl (fun ls hl => ?_)
    refine lv_iconst (v := 1) hx hb dX9_isDone_162 (by decide) ?_
    have hok : (bB r) = true := by rw [show (bB r) = true from bB_t hr c_1]; rfl
    have hok : tdOk (15, f1, 0, 0) r = true := hok
    have hP : va_P G.1 vwCl (wM G am ho rn ln pl sd lt ro rf nb ++ [(am 1, .inl (G.2 0, 54, .inl (row (tdN (15, f1, 0, 0) r))))] ++ [(am 2, .inl (G.2 0, 54, .inl (row rm)))] ++ [(am 3, .inl (G.2 0, 54, .inl (row r2)))] ++ [(am 4, .inl (G.2 0, 54, .inl (row r4)))]) H := by rw [tdN_t hok]; exact hP
    have hD : va_D A (wM G am ho rn ln pl sd lt ro rf nb ++ [(am 1, .inl (G.2 0, 54, .inl (row (tdN (15, f1, 0, 0) r))))] ++ [(am 2, .inl (G.2 0, 54, .inl (row rm)))] ++ [(am 3, .inl (G.2 0, 54, .inl (row r2)))] ++ [(am 4, .inl (G.2 0, 54, .inl (row r4)))]) := by rw [tdN_t hok]; exact hD
    refine hret _ _ _ _ _ _ 1 () dX9_isDone_163 ?_ hP hD hS (Nat.le_of_ble_eq_true rfl) (Nat.le_of_ble_eq_true rfl)
    rw [hok]
    rfl
  · skip
    refine lv_iconst (v := 0) hx hb dX9_isDone_149 (by decide) ?_
    have hok : (bB r) = false := by rw [show (bB r) = false from bB_f c_1]; rfl
    have hok : tdOk (15, f1, 0, 0) r = false := hok
    have hP : va_P G.1 vwCl (wM G am ho rn ln pl sd lt ro rf nb ++ [(am 1, .inl (G.2 0, 54, .inl (row (tdN (15, f1, 0, 0) r))))] ++ [(am 2, .inl (G.2 0, 54, .inl (row rm)))] ++ [(am 3, .inl (G.2 0, 54, .inl (row r2)))] ++ [(am 4, .inl (G.2 0, 54, .inl (row r4)))]) H := by rw [tdN_f hok]; exact hP
    have hD : va_D A (wM G am ho rn ln pl sd lt ro rf nb ++ [(am 1, .inl (G.2 0, 54, .inl (row (tdN (15, f1, 0, 0) r))))] ++ [(am 2, .inl (G.2 0, 54, .inl (row rm)))] ++ [(am 3, .inl (G.2 0, 54, .inl (row r2)))] ++ [(am 4, .inl (G.2 0, 54, .inl (row r4)))]) := by rw [tdN_f hok]; exact hD
    refine hret _ _ _ _ _ _ 0 () dX9_isDone_150 ?_ hP hD hS (Nat.le_of_ble_eq_true rfl) (Nat.le_of_ble_eq_true rfl)
    rw [hok]
    rfl
set_option maxHeartbeats 4000000 in
set_option maxRecDepth 100000 in
theorem m9_isDone_h (l : Launch) (G : xG) (am : Nat → Nat) (r rm r2 r4 : Rw) (ho rn ln pl sd : Int32) (lt ro rf nb : Nat → Int32) (hr : Ok r) (hp : r 5 3 = 0) (f1 : Nat) (hf1 : f1 ≤ 9) (h0 : nb 0 = nI f1) : xCi l G yX9_isDone cX9_isDone 4 (some .boolean) ({ frames := 2, cells := 0, slots := 0, locals := 43 } : Room) [.ref (am 0), .int 104] (wM G am ho rn ln pl sd lt ro rf nb ++ [(am 1, .inl (G.2 0, 54, .inl (row r)))] ++ [(am 2, .inl (G.2 0, 54, .inl (row rm)))] ++ [(am 3, .inl (G.2 0, 54, .inl (row r2)))] ++ [(am 4, .inl (G.2 0, 54, .inl (row r4)))]) (S := Unit) (fun v _ => v = bI (tdOk (16, f1, 0, 0) r)) (fun _ => (wM G am ho rn ln pl sd lt ro rf nb ++ [(am 1, .inl (G.2 0, 54, .inl (row (tdN (16, f1, 0, 0) r))))] ++ [(am 2, .inl (G.2 0, 54, .inl (row rm)))] ++ [(am 3, .inl (G.2 0, 54, .inl (row r2)))] ++ [(am 4, .inl (G.2 0, 54, .inl (row r4)))])) := by
  refine x_openi (by decide) (Nat.le_of_ble_eq_true rfl) (fun _ _ h => by rw [h]; exact bI_z _) ?_
  intro p e s m args below meth c A Q ls C0 hK hP hD hA hl hret
  obtain ⟨hx, hb, hml, hown, hts⟩ := id C0
  have hS : va_S A s.heap s.heap [] := va_S.rf
  have hP : va_P G.1 vwCl (wM G am ho rn ln pl sd lt ro rf nb ++ [(am 1, .inl (G.2 0, 54, .inl (row r)))] ++ [(am 2, .inl (G.2 0, 54, .inl (row rm)))] ++ [(am 3, .inl (G.2 0, 54, .inl (row r2)))] ++ [(am 4, .inl (G.2 0, 54, .inl (row r4)))]) s.heap := hP
  have hD : va_D A (wM G am ho rn ln pl sd lt ro rf nb ++ [(am 1, .inl (G.2 0, 54, .inl (row r)))] ++ [(am 2, .inl (G.2 0, 54, .inl (row rm)))] ++ [(am 3, .inl (G.2 0, 54, .inl (row r2)))] ++ [(am 4, .inl (G.2 0, 54, .inl (row r4)))]) := hD
  have hl : lv_has ls 4 [(0, .ref (am 0)), (1, .int 104)] := hl
  have hr0 := hr.n
  have hN := hr.le
  refine lv_aload_n hx hb dX9_isDone_0 rfl (lv_at hl 0 rfl) ?_
  refine va_get (D := G.1) (ci := 8) (v := .ref (am 8)) (C := RX9) (T := TX9) (N := 13) hx hb hts in_X9 hown hK.1 hP 0 rfl rfl 11 (by decide) (hts _ q1173) (fun _ h9 => h9) rfl dX9_isDone_1 ?_
  refine lv_iconst (v := 0) hx hb dX9_isDone_4 (by decide) ?_
  refine x_ialdn (k := 0) hx hb hK.1 hP 4 0 rfl rfl (by decide) (by decide) (v := nI f1) h0 dX9_isDone_5 ?_
  refine lv_istore_n (lv' := [(2, .int (nI f1)), (0, .ref (am 0)), (1, .int 104)]) hx hb dX9_isDone_6 rfl hl (by decide) rfl (fun ls hl => ?_)
  refine lv_iconst (v := 0) hx hb dX9_isDone_7 (by decide) ?_
  refine lv_istore_n (lv' := [(3, .int 0), (2, .int (nI f1)), (0, .ref (am 0)), (1, .int 104)]) hx hb dX9_isDone_8 rfl hl (by decide) rfl (fun ls hl => ?_)
  refine lv_iload_n hx hb dX9_isDone_9 rfl (lv_at hl 3 rfl) ?_
  refine lv_tableIn (tgt := 164) hx hb dX9_isDone_10 (by decide) (by decide) rfl (by decide) ?_
  refine lv_aload_n hx hb dX9_isDone_164 rfl (lv_at hl 2 rfl) ?_
  refine lv_iload_n hx hb dX9_isDone_165 rfl (lv_at hl 1 rfl) ?_
  refine x_Vi (wN := fun _ => (wM G am ho rn ln pl sd lt ro rf nb ++ [(am 1, .inl (G.2 0, 54, .inl (row r)))] ++ [(am 2, .inl (G.2 0, 54, .inl (row rm)))] ++ [(am 3, .inl (G.2 0, 54, .inl (row r2)))] ++ [(am 4, .inl (G.2 0, 54, .inl (row r4)))])) ⟨C0, hK, hP, hD, hS, hA⟩ 0 rfl (ci := 8) rfl rfl ((m9_isThing l G am r rm r2 r4 ho rn ln pl sd lt ro rf nb hr hp (nI f1))) (cwV 1 hts (lw_V q1247 q1249 qs73 q95 q1250) rfl rfl rfl (by decide +kernel) ⟨Nat.le_of_ble_eq_true rfl, Nat.le_of_ble_eq_true rfl⟩) [0, 1, 2, 3, 4, 5, 6, 7, 8] [1, 3, 5, 7, 9, 11, 13, 15, 17] rfl (fun _ => rfl) rfl rfl hl.1 rfl (Nat.le_of_ble_eq_true rfl) dX9_isDone_166 ⟨(Nat.le_of_ble_eq_true rfl), (Nat.le_of_ble_eq_true rfl)⟩ (fun r_1 u_1 H locs hw_1 hP hD hS => ?_)
  have hw_1 : (bI (tB r (nI f1)) : Int32) = r_1 := hw_1.symm
  subst hw_1
  refine lv_if_eq (tgt := 186) hx hb dX9_isDone_169 (by decide) (fun c_2 => ?_) (fun c_2 => ?_)
  · skip
    refine lv_iconst (v := 0) hx hb dX9_isDone_186 (by decide) ?_
    have hok : (decide (f1 < mny r) && decide (r 3 f1 ≠ 2)) = false := by rw [show (decide (f1 < mny r)) = false from by rw [← tB_n hN (by omega)]; exact bI_0.mp c_2]; rfl
    have hok : tdOk (16, f1, 0, 0) r = false := hok
    have hP : va_P G.1 vwCl (wM G am ho rn ln pl sd lt ro rf nb ++ [(am 1, .inl (G.2 0, 54, .inl (row (tdN (16, f1, 0, 0) r))))] ++ [(am 2, .inl (G.2 0, 54, .inl (row rm)))] ++ [(am 3, .inl (G.2 0, 54, .inl (row r2)))] ++ [(am 4, .inl (G.2 0, 54, .inl (row r4)))]) H := by rw [tdN_f hok]; exact hP
    have hD : va_D A (wM G am ho rn ln pl sd lt ro rf nb ++ [(am 1, .inl (G.2 0, 54, .inl (row (tdN (16, f1, 0, 0) r))))] ++ [(am 2, .inl (G.2 0, 54, .inl (row rm)))] ++ [(am 3, .inl (G.2 0, 54, .inl (row r2)))] ++ [(am 4, .inl (G.2 0, 54, .inl (row r4)))]) := by rw [tdN_f hok]; exact hD
    refine hret _ _ _ _ _ _ 0 () dX9_isDone_187 ?_ hP hD hS (Nat.le_of_ble_eq_true rfl) (Nat.le_of_ble_eq_true rfl)
    rw [hok]
    rfl
  · skip
    refine lv_aload_n hx hb dX9_isDone_172 rfl (lv_at hl 2 rfl) ?_
    refine va_get (D := G.1) (ci := 8) (v := .ref (am 1)) (C := RX9) (T := TX9) (N := 13) hx hb hts in_X9 hown hK.1 hP 0 rfl rfl 0 (by decide) (hts _ q1162) (fun _ h9 => h9) rfl dX9_isDone_173 ?_
    refine lv_iload_n hx hb dX9_isDone_176 rfl (lv_at hl 1 rfl) ?_
    refine lv_iconst (v := 3) hx hb dX9_isDone_177 (by decide) ?_
    refine x_Si (wN := fun _ => (wM G am ho rn ln pl sd lt ro rf nb ++ [(am 1, .inl (G.2 0, 54, .inl (row r)))] ++ [(am 2, .inl (G.2 0, 54, .inl (row rm)))] ++ [(am 3, .inl (G.2 0, 54, .inl (row r2)))] ++ [(am 4, .inl (G.2 0, 54, .inl (row r4)))])) ⟨C0, hK, hP, hD, hS, hA⟩ ((m9_of l G f1 3)) (va_cwS 2 hts (lw_S q1254 q1255 q95 q1256) rfl rfl rfl (by decide +kernel) ⟨Nat.le_of_ble_eq_true rfl, Nat.le_of_ble_eq_true rfl⟩) [] [0, 2, 4, 6, 8, 10, 12, 14, 16] rfl (fun _ => rfl) rfl rfl hl.1 rfl (Nat.le_of_ble_eq_true rfl) dX9_isDone_178 ⟨(Nat.le_of_ble_eq_true rfl), (Nat.le_of_ble_eq_true rfl)⟩ (fun r_3 u_3 H locs hw_3 hP hD hS => ?_)
    have hw_3 : (nI (4 + 5 * f1 + 3) : Int32) = r_3 := hw_3.symm
    subst hw_3
    refine x_ialdn (k := (4 + 5 * f1 + 3)) hx hb hK.1 hP 5 0 rfl rfl (by omega) (by decide) (v := (r 3) f1) (row_at _ (by decide)) dX9_isDone_181 ?_
    refine lv_iconst (v := 2) hx hb dX9_isDone_182 (by decide) ?_
    refine lv_icmp_ne (tgt := 188) hx hb dX9_isDone_183 (by decide) (fun c_4 => ?_) (fun c_4 => ?_)
    · skip
      refine lv_aload_n hx hb dX9_isDone_188 rfl (lv_at hl 2 rfl) ?_
      refine va_get (D := G.1) (ci := 8) (v := .ref (am 1)) (C := RX9) (T := TX9) (N := 13) hx hb hts in_X9 hown hK.1 hP 0 rfl rfl 0 (by decide) (hts _ q1162) (fun _ h9 => h9) rfl dX9_isDone_189 ?_
      refine lv_iload_n hx hb dX9_isDone_192 rfl (lv_at hl 1 rfl) ?_
      refine lv_iconst (v := 3) hx hb dX9_isDone_193 (by decide) ?_
      refine x_Si (wN := fun _ => (wM G am ho rn ln pl sd lt ro rf nb ++ [(am 1, .inl (G.2 0, 54, .inl (row r)))] ++ [(am 2, .inl (G.2 0, 54, .inl (row rm)))] ++ [(am 3, .inl (G.2 0, 54, .inl (row r2)))] ++ [(am 4, .inl (G.2 0, 54, .inl (row r4)))])) ⟨C0, hK, hP, hD, hS, hA⟩ ((m9_of l G f1 3)) (va_cwS 2 hts (lw_S q1254 q1255 q95 q1256) rfl rfl rfl (by decide +kernel) ⟨Nat.le_of_ble_eq_true rfl, Nat.le_of_ble_eq_true rfl⟩) [] [0, 2, 4, 6, 8, 10, 12, 14, 16] rfl (fun _ => rfl) rfl rfl hl.1 rfl (Nat.le_of_ble_eq_true rfl) dX9_isDone_194 ⟨(Nat.le_of_ble_eq_true rfl), (Nat.le_of_ble_eq_true rfl)⟩ (fun r_5 u_5 H locs hw_5 hP hD hS => ?_)
      have hw_5 : (nI (4 + 5 * f1 + 3) : Int32) = r_5 := hw_5.symm
      subst hw_5
      refine lv_iconst (v := 0) hx hb dX9_isDone_197 (by decide) ?_
      refine x_iastn (k := (4 + 5 * f1 + 3)) hx hb hK.1 hP hD hS 5 0 rfl rfl (by omega) (by decide) (g := row (sf r 3 (upd (r 3) f1 0))) (row_up _ (by decide) _) dX9_isDone_198 (fun H locs hP hD hS => ?_)
      have hP : va_P G.1 vwCl (wM G am ho rn ln pl sd lt ro rf nb ++ [(am 1, .inl (G.2 0, 54, .inl (row (sf r 3 (upd (r 3) f1 0)))))] ++ [(am 2, .inl (G.2 0, 54, .inl (row rm)))] ++ [(am 3, .inl (G.2 0, 54, .inl (row r2)))] ++ [(am 4, .inl (G.2 0, 54, .inl (row r4)))]) H := hP
      have hD : va_D A (wM G am ho rn ln pl sd lt ro rf nb ++ [(am 1, .inl (G.2 0, 54, .inl (row (sf r 3 (upd (r 3) f1 0)))))] ++ [(am 2, .inl (G.2 0, 54, .inl (row rm)))] ++ [(am 3, .inl (G.2 0, 54, .inl (row r2)))] ++ [(am 4, .inl (G.2 0, 54, .inl (row r4)))]) := hD
      refine lv_aload_n hx hb dX9_isDone_199 rfl (lv_at hl 2 rfl) ?_
      refine va_get (D := G.1) (ci := 8) (v := .ref (am 1)) (C := RX9) (T := TX9) (N := 13) hx hb hts in_X9 hown hK.1 hP 0 rfl rfl 0 (by decide) (hts _ q1162) (fun _ h9 => h9) rfl dX9_isDone_200 ?_
      refine lv_iload_n hx hb dX9_isDone_203 rfl (lv_at hl 1 rfl) ?_
      refine lv_iconst (v := 4) hx hb dX9_isDone_204 (by decide) ?_
      refine x_Si (wN := fun _ => (wM G am ho rn ln pl sd lt ro rf nb ++ [(am 1, .inl (G.2 0, 54, .inl (row (sf r 3 (upd (r 3) f1 0)))))] ++ [(am 2, .inl (G.2 0, 54, .inl (row rm)))] ++ [(am 3, .inl (G.2 0, 54, .inl (row r2)))] ++ [(am 4, .inl (G.2 0, 54, .inl (row r4)))])) ⟨C0, hK, hP, hD, hS, hA⟩ ((m9_of l G f1 4)) (va_cwS 2 hts (lw_S q1254 q1255 q95 q1256) rfl rfl rfl (by decide +kernel) ⟨Nat.le_of_ble_eq_true rfl, Nat.le_of_ble_eq_true rfl⟩) [] [0, 2, 4, 6, 8, 10, 12, 14, 16] rfl (fun _ => rfl) rfl rfl hl.1 rfl (Nat.le_of_ble_eq_true rfl) dX9_isDone_205 ⟨(Nat.le_of_ble_eq_true rfl), (Nat.le_of_ble_eq_true rfl)⟩ (fun r_6 u_6 H locs hw_6 hP hD hS => ?_)
      have hw_6 : (nI (4 + 5 * f1 + 4) : Int32) = r_6 := hw_6.symm
      subst hw_6
      refine lv_iconst (v := 0) hx hb dX9_isDone_208 (by decide) ?_
      refine x_iastn (k := (4 + 5 * f1 + 4)) hx hb hK.1 hP hD hS 5 0 rfl rfl (by omega) (by decide) (g := row (sf (sf r 3 (upd (r 3) f1 0)) 4 (upd (r 4) f1 0))) (row_up _ (by decide) _) dX9_isDone_209 (fun H locs hP hD hS => ?_)
      have hP : va_P G.1 vwCl (wM G am ho rn ln pl sd lt ro rf nb ++ [(am 1, .inl (G.2 0, 54, .inl (row (sf (sf r 3 (upd (r 3) f1 0)) 4 (upd (r 4) f1 0)))))] ++ [(am 2, .inl (G.2 0, 54, .inl (row rm)))] ++ [(am 3, .inl (G.2 0, 54, .inl (row r2)))] ++ [(am 4, .inl (G.2 0, 54, .inl (row r4)))]) H := hP
      have hD : va_D A (wM G am ho rn ln pl sd lt ro rf nb ++ [(am 1, .inl (G.2 0, 54, .inl (row (sf (sf r 3 (upd (r 3) f1 0)) 4 (upd (r 4) f1 0)))))] ++ [(am 2, .inl (G.2 0, 54, .inl (row rm)))] ++ [(am 3, .inl (G.2 0, 54, .inl (row r2)))] ++ [(am 4, .inl (G.2 0, 54, .inl (row r4)))]) := hD
      refine lv_iconst (v := 1) hx hb dX9_isDone_210 (by decide) ?_
      have hok : (decide (f1 < mny r) && decide (r 3 f1 ≠ 2)) = true := by rw [show (decide (f1 < mny r)) = true from by rw [← tB_n hN (by omega)]; exact bI_n0 c_2, show (decide (r 3 f1 ≠ 2)) = false from decide_eq_false (fun z9 => z9 c_4)]; rfl
      have hok : tdOk (16, f1, 0, 0) r = true := hok
      have hP : va_P G.1 vwCl (wM G am ho rn ln pl sd lt ro rf nb ++ [(am 1, .inl (G.2 0, 54, .inl (row (tdN (16, f1, 0, 0) r))))] ++ [(am 2, .inl (G.2 0, 54, .inl (row rm)))] ++ [(am 3, .inl (G.2 0, 54, .inl (row r2)))] ++ [(am 4, .inl (G.2 0, 54, .inl (row r4)))]) H := by rw [tdN_t hok]; exact hP
      have hD : va_D A (wM G am ho rn ln pl sd lt ro rf nb ++ [(am 1, .inl (G.2 0, 54, .inl (row (tdN (16, f1, 0, 0) r))))] ++ [(am 2, .inl (G.2 0, 54, .inl (row rm)))] ++ [(am 3, .inl (G.2 0, 54, .inl (row r2)))] ++ [(am 4, .inl (G.2 0, 54, .inl (row r4)))]) := by rw [tdN_t hok]; exact hD
      refine hret _ _ _ _ _ _ 1 () dX9_isDone_211 ?_ hP hD hS (Nat.le_of_ble_eq_true rfl) (Nat.le_of_ble_eq_true rfl)
      rw [hok]
      rfl
    · skip
      refine lv_iconst (v := 0) hx hb dX9_isDone_186 (by decide) ?_
      have hok : (decide (f1 < mny r) && decide (r 3 f1 ≠ 2)) = false := by rw [show (decide (f1 < mny r)) = true from by rw [← tB_n hN (by omega)]; exact bI_n0 c_2, show (decide (r 3 f1 ≠ 2)) = true from decide_eq_true c_4]; rfl
      have hok : tdOk (16, f1, 0, 0) r = false := hok
      have hP : va_P G.1 vwCl (wM G am ho rn ln pl sd lt ro rf nb ++ [(am 1, .inl (G.2 0, 54, .inl (row (tdN (16, f1, 0, 0) r))))] ++ [(am 2, .inl (G.2 0, 54, .inl (row rm)))] ++ [(am 3, .inl (G.2 0, 54, .inl (row r2)))] ++ [(am 4, .inl (G.2 0, 54, .inl (row r4)))]) H := by rw [tdN_f hok]; exact hP
      have hD : va_D A (wM G am ho rn ln pl sd lt ro rf nb ++ [(am 1, .inl (G.2 0, 54, .inl (row (tdN (16, f1, 0, 0) r))))] ++ [(am 2, .inl (G.2 0, 54, .inl (row rm)))] ++ [(am 3, .inl (G.2 0, 54, .inl (row r2)))] ++ [(am 4, .inl (G.2 0, 54, .inl (row r4)))]) := by rw [tdN_f hok]; exact hD
      refine hret _ _ _ _ _ _ 0 () dX9_isDone_187 ?_ hP hD hS (Nat.le_of_ble_eq_true rfl) (Nat.le_of_ble_eq_true rfl)
      rw [hok]
      rfl
set_option maxHeartbeats 4000000 in
set_option maxRecDepth 100000 in
theorem m9_isDone_m (l : Launch) (G : xG) (am : Nat → Nat) (r rm r2 r4 : Rw) (ho rn ln pl sd : Int32) (lt ro rf nb : Nat → Int32) (hr : Ok r) (hp : r 5 3 = 0) (f1 : Nat) (hf1 : f1 ≤ 99) (h0 : nb 0 = nI f1) : xCi l G yX9_isDone cX9_isDone 4 (some .boolean) ({ frames := 5, cells := 0, slots := 0, locals := 110 } : Room) [.ref (am 0), .int 109] (wM G am ho rn ln pl sd lt ro rf nb ++ [(am 1, .inl (G.2 0, 54, .inl (row r)))] ++ [(am 2, .inl (G.2 0, 54, .inl (row rm)))] ++ [(am 3, .inl (G.2 0, 54, .inl (row r2)))] ++ [(am 4, .inl (G.2 0, 54, .inl (row r4)))]) (S := Unit) (fun v _ => v = bI (tdOk (17, f1, 0, 0) r)) (fun _ => (wM G am ho rn ln pl sd lt ro rf nb ++ [(am 1, .inl (G.2 0, 54, .inl (row (tdN (17, f1, 0, 0) r))))] ++ [(am 2, .inl (G.2 0, 54, .inl (row rm)))] ++ [(am 3, .inl (G.2 0, 54, .inl (row r2)))] ++ [(am 4, .inl (G.2 0, 54, .inl (row r4)))])) := by
  refine x_openi (by decide) (Nat.le_of_ble_eq_true rfl) (fun _ _ h => by rw [h]; exact bI_z _) ?_
  intro p e s m args below meth c A Q ls C0 hK hP hD hA hl hret
  obtain ⟨hx, hb, hml, hown, hts⟩ := id C0
  have hS : va_S A s.heap s.heap [] := va_S.rf
  have hP : va_P G.1 vwCl (wM G am ho rn ln pl sd lt ro rf nb ++ [(am 1, .inl (G.2 0, 54, .inl (row r)))] ++ [(am 2, .inl (G.2 0, 54, .inl (row rm)))] ++ [(am 3, .inl (G.2 0, 54, .inl (row r2)))] ++ [(am 4, .inl (G.2 0, 54, .inl (row r4)))]) s.heap := hP
  have hD : va_D A (wM G am ho rn ln pl sd lt ro rf nb ++ [(am 1, .inl (G.2 0, 54, .inl (row r)))] ++ [(am 2, .inl (G.2 0, 54, .inl (row rm)))] ++ [(am 3, .inl (G.2 0, 54, .inl (row r2)))] ++ [(am 4, .inl (G.2 0, 54, .inl (row r4)))]) := hD
  have hl : lv_has ls 4 [(0, .ref (am 0)), (1, .int 109)] := hl
  have hr0 := hr.n
  have hN := hr.le
  refine lv_aload_n hx hb dX9_isDone_0 rfl (lv_at hl 0 rfl) ?_
  refine va_get (D := G.1) (ci := 8) (v := .ref (am 8)) (C := RX9) (T := TX9) (N := 13) hx hb hts in_X9 hown hK.1 hP 0 rfl rfl 11 (by decide) (hts _ q1173) (fun _ h9 => h9) rfl dX9_isDone_1 ?_
  refine lv_iconst (v := 0) hx hb dX9_isDone_4 (by decide) ?_
  refine x_ialdn (k := 0) hx hb hK.1 hP 4 0 rfl rfl (by decide) (by decide) (v := nI f1) h0 dX9_isDone_5 ?_
  refine lv_istore_n (lv' := [(2, .int (nI f1)), (0, .ref (am 0)), (1, .int 109)]) hx hb dX9_isDone_6 rfl hl (by decide) rfl (fun ls hl => ?_)
  refine lv_iconst (v := 0) hx hb dX9_isDone_7 (by decide) ?_
  refine lv_istore_n (lv' := [(3, .int 0), (2, .int (nI f1)), (0, .ref (am 0)), (1, .int 109)]) hx hb dX9_isDone_8 rfl hl (by decide) rfl (fun ls hl => ?_)
  refine lv_iload_n hx hb dX9_isDone_9 rfl (lv_at hl 3 rfl) ?_
  refine lv_tableIn (tgt := 212) hx hb dX9_isDone_10 (by decide) (by decide) rfl (by decide) ?_
  refine lv_iload_n hx hb dX9_isDone_212 rfl (lv_at hl 1 rfl) ?_
  refine lv_iconst (v := 1) hx hb dX9_isDone_213 (by decide) ?_
  refine lv_bipush (v := 60) hx hb dX9_isDone_214 (by decide) ?_
  refine x_Si (wN := fun _ => (wM G am ho rn ln pl sd lt ro rf nb ++ [(am 1, .inl (G.2 0, 54, .inl (row r)))] ++ [(am 2, .inl (G.2 0, 54, .inl (row rm)))] ++ [(am 3, .inl (G.2 0, 54, .inl (row r2)))] ++ [(am 4, .inl (G.2 0, 54, .inl (row r4)))])) ⟨C0, hK, hP, hD, hS, hA⟩ ((m9_isIn l G (nI f1) 1 60)) (va_cwS 3 hts (lw_S q1233 q1234 q95 q1235) rfl rfl rfl (by decide +kernel) ⟨Nat.le_of_ble_eq_true rfl, Nat.le_of_ble_eq_true rfl⟩) [] [0, 2, 4, 6, 8, 10, 12, 14, 16] rfl (fun _ => rfl) rfl rfl hl.1 rfl (Nat.le_of_ble_eq_true rfl) dX9_isDone_216 ⟨(Nat.le_of_ble_eq_true rfl), (Nat.le_of_ble_eq_true rfl)⟩ (fun r_1 u_1 H locs hw_1 hP hD hS => ?_)
  have hw_1 : (bI (inR (nI f1) (1 : Int32).toInt (60 : Int32).toInt) : Int32) = r_1 := hw_1.symm
  subst hw_1
  refine lv_if_eq (tgt := 236) hx hb dX9_isDone_219 (by decide) (fun c_2 => ?_) (fun c_2 => ?_)
  · skip
    refine lv_iconst (v := 0) hx hb dX9_isDone_236 (by decide) ?_
    have hok : (decide (1 ≤ f1 ∧ f1 ≤ 60) && decide (r 5 1 + nI f1 ≤ 999)) = false := by rw [show (decide (1 ≤ f1 ∧ f1 ≤ 60)) = false from (in60 hf1).symm.trans (bI_0.mp c_2)]; rfl
    have hok : tdOk (17, f1, 0, 0) r = false := hok
    have hP : va_P G.1 vwCl (wM G am ho rn ln pl sd lt ro rf nb ++ [(am 1, .inl (G.2 0, 54, .inl (row (tdN (17, f1, 0, 0) r))))] ++ [(am 2, .inl (G.2 0, 54, .inl (row rm)))] ++ [(am 3, .inl (G.2 0, 54, .inl (row r2)))] ++ [(am 4, .inl (G.2 0, 54, .inl (row r4)))]) H := by rw [tdN_f hok]; exact hP
    have hD : va_D A (wM G am ho rn ln pl sd lt ro rf nb ++ [(am 1, .inl (G.2 0, 54, .inl (row (tdN (17, f1, 0, 0) r))))] ++ [(am 2, .inl (G.2 0, 54, .inl (row rm)))] ++ [(am 3, .inl (G.2 0, 54, .inl (row r2)))] ++ [(am 4, .inl (G.2 0, 54, .inl (row r4)))]) := by rw [tdN_f hok]; exact hD
    refine hret _ _ _ _ _ _ 0 () dX9_isDone_237 ?_ hP hD hS (Nat.le_of_ble_eq_true rfl) (Nat.le_of_ble_eq_true rfl)
    rw [hok]
    rfl
  · skip
    refine lv_aload_n hx hb dX9_isDone_222 rfl (lv_at hl 2 rfl) ?_
    refine va_get (D := G.1) (ci := 8) (v := .ref (am 1)) (C := RX9) (T := TX9) (N := 13) hx hb hts in_X9 hown hK.1 hP 0 rfl rfl 0 (by decide) (hts _ q1162) (fun _ h9 => h9) rfl dX9_isDone_223 ?_
    refine lv_iconst (v := 1) hx hb dX9_isDone_226 (by decide) ?_
    refine x_ialdn (k := 1) hx hb hK.1 hP 5 0 rfl rfl (by decide) (by decide) (v := r 5 1) rfl dX9_isDone_227 ?_
    refine lv_iload_n hx hb dX9_isDone_228 rfl (lv_at hl 1 rfl) ?_
    refine x_iadd hx hb dX9_isDone_229 (v := (r 5 1) + (nI f1)) rfl ?_
    refine lv_sipush (v := 999) hx hb dX9_isDone_230 (by decide) ?_
    refine lv_icmp_le (tgt := 238) hx hb dX9_isDone_233 (by decide) (fun c_3 => ?_) (fun c_3 => ?_)
    · skip
      refine lv_aload_n hx hb dX9_isDone_238 rfl (lv_at hl 2 rfl) ?_
      refine va_get (D := G.1) (ci := 8) (v := .ref (am 1)) (C := RX9) (T := TX9) (N := 13) hx hb hts in_X9 hown hK.1 hP 0 rfl rfl 0 (by decide) (hts _ q1162) (fun _ h9 => h9) rfl dX9_isDone_239 ?_
      refine lv_iload_n hx hb dX9_isDone_242 rfl (lv_at hl 1 rfl) ?_
      refine x_Sv (wN := fun _ => (wM G am ho rn ln pl sd lt ro rf nb ++ [(am 1, .inl (G.2 0, 54, .inl (row (pMins r f1))))] ++ [(am 2, .inl (G.2 0, 54, .inl (row rm)))] ++ [(am 3, .inl (G.2 0, 54, .inl (row r2)))] ++ [(am 4, .inl (G.2 0, 54, .inl (row r4)))])) ⟨C0, hK, hP, hD, hS, hA⟩ ((m9_minutesOn l G (am 1) r hr f1 (by omega))) (va_cwS 2 hts (lw_S q1272 q1273 q95 q1274) rfl rfl rfl (by decide +kernel) ⟨Nat.le_of_ble_eq_true rfl, Nat.le_of_ble_eq_true rfl⟩) [5] [0, 2, 4, 6, 8, 1, 12, 14, 16] rfl (fun _ => rfl) rfl rfl hl.1 rfl (Nat.le_of_ble_eq_true rfl) dX9_isDone_243 ⟨(Nat.le_of_ble_eq_true rfl), (Nat.le_of_ble_eq_true rfl)⟩ (fun u_4 H locs hw_4 hP hD hS => ?_)
      have hP : va_P G.1 vwCl (wM G am ho rn ln pl sd lt ro rf nb ++ [(am 1, .inl (G.2 0, 54, .inl (row (pMins r f1))))] ++ [(am 2, .inl (G.2 0, 54, .inl (row rm)))] ++ [(am 3, .inl (G.2 0, 54, .inl (row r2)))] ++ [(am 4, .inl (G.2 0, 54, .inl (row r4)))]) H := hP
      have hD : va_D A (wM G am ho rn ln pl sd lt ro rf nb ++ [(am 1, .inl (G.2 0, 54, .inl (row (pMins r f1))))] ++ [(am 2, .inl (G.2 0, 54, .inl (row rm)))] ++ [(am 3, .inl (G.2 0, 54, .inl (row r2)))] ++ [(am 4, .inl (G.2 0, 54, .inl (row r4)))]) := hD
      refine lv_iconst (v := 1) hx hb dX9_isDone_246 (by decide) ?_
      have hok : (decide (1 ≤ f1 ∧ f1 ≤ 60) && decide (r 5 1 + nI f1 ≤ 999)) = true := by rw [show (decide (1 ≤ f1 ∧ f1 ≤ 60)) = true from (in60 hf1).symm.trans (bI_n0 c_2), show (decide (r 5 1 + nI f1 ≤ 999)) = true from decide_eq_true c_3]; rfl
      have hok : tdOk (17, f1, 0, 0) r = true := hok
      have hP : va_P G.1 vwCl (wM G am ho rn ln pl sd lt ro rf nb ++ [(am 1, .inl (G.2 0, 54, .inl (row (tdN (17, f1, 0, 0) r))))] ++ [(am 2, .inl (G.2 0, 54, .inl (row rm)))] ++ [(am 3, .inl (G.2 0, 54, .inl (row r2)))] ++ [(am 4, .inl (G.2 0, 54, .inl (row r4)))]) H := by rw [tdN_t hok]; exact hP
      have hD : va_D A (wM G am ho rn ln pl sd lt ro rf nb ++ [(am 1, .inl (G.2 0, 54, .inl (row (tdN (17, f1, 0, 0) r))))] ++ [(am 2, .inl (G.2 0, 54, .inl (row rm)))] ++ [(am 3, .inl (G.2 0, 54, .inl (row r2)))] ++ [(am 4, .inl (G.2 0, 54, .inl (row r4)))]) := by rw [tdN_t hok]; exact hD
      refine hret _ _ _ _ _ _ 1 () dX9_isDone_247 ?_ hP hD hS (Nat.le_of_ble_eq_true rfl) (Nat.le_of_ble_eq_true rfl)
      rw [hok]
      rfl
    · skip
      refine lv_iconst (v := 0) hx hb dX9_isDone_236 (by decide) ?_
      have hok : (decide (1 ≤ f1 ∧ f1 ≤ 60) && decide (r 5 1 + nI f1 ≤ 999)) = false := by rw [show (decide (1 ≤ f1 ∧ f1 ≤ 60)) = true from (in60 hf1).symm.trans (bI_n0 c_2), show (decide (r 5 1 + nI f1 ≤ 999)) = false from decide_eq_false c_3]; rfl
      have hok : tdOk (17, f1, 0, 0) r = false := hok
      have hP : va_P G.1 vwCl (wM G am ho rn ln pl sd lt ro rf nb ++ [(am 1, .inl (G.2 0, 54, .inl (row (tdN (17, f1, 0, 0) r))))] ++ [(am 2, .inl (G.2 0, 54, .inl (row rm)))] ++ [(am 3, .inl (G.2 0, 54, .inl (row r2)))] ++ [(am 4, .inl (G.2 0, 54, .inl (row r4)))]) H := by rw [tdN_f hok]; exact hP
      have hD : va_D A (wM G am ho rn ln pl sd lt ro rf nb ++ [(am 1, .inl (G.2 0, 54, .inl (row (tdN (17, f1, 0, 0) r))))] ++ [(am 2, .inl (G.2 0, 54, .inl (row rm)))] ++ [(am 3, .inl (G.2 0, 54, .inl (row r2)))] ++ [(am 4, .inl (G.2 0, 54, .inl (row r4)))]) := by rw [tdN_f hok]; exact hD
      refine hret _ _ _ _ _ _ 0 () dX9_isDone_237 ?_ hP hD hS (Nat.le_of_ble_eq_true rfl) (Nat.le_of_ble_eq_true rfl)
      rw [hok]
      rfl

/-! the model: letters and statements (printed by tools/model10.py) -/
/-! the model: letters and statements -/
set_option maxRecDepth 100000
theorem rd_n {a : Nat} {x : Int32} (h : dB x = true) : nI a + x - 48 = nI (a + dV x) := by
  rw [Int32.sub_eq_add_neg, Int32.add_assoc, ← Int32.sub_eq_add_neg, (dV_c h).1, nI_add]
theorem upd_upd (f : Nat → Int32) (k : Nat) (a b : Int32) : upd (upd f k a) k b = upd f k b := by
  funext j
  by_cases e : j = k
  · subst e; rw [pk_us, pk_us]
  · rw [pk_un e, pk_un e, pk_un e]
def kM (x : Int32) : Int32 := if x = 98 then 5 else if x = 99 then 3 else if x = 103 then 1 else if x = 112 then 2 else if x = 116 then 0 else if x = 119 then 4 else -9
theorem kM_c (x : Int32) : (kB x = true ∧ kM x = nI (kV x) ∧ kV x < 6) ∨ (kB x = false ∧ kM x = -9) := by
  unfold kB kV kO kM
  repeat' split
  all_goals first | exact Or.inl ⟨by decide, by decide, by decide⟩ | exact Or.inr ⟨by decide, rfl⟩
theorem ts15 (x : Int32) : (x.toInt < 102 ∨ (116 : Int) < x.toInt) ∨ ∃ k, k < 15 ∧ x = nI (102 + k) := by
  have h2 := Int32.toInt_lt x
  by_cases h : x.toInt < 102 ∨ (116 : Int) < x.toInt
  · exact Or.inl h
  · right
    refine ⟨(x.toInt - 102).toNat, by omega, ?_⟩
    apply Int32.toInt_inj.mp
    rw [nI_toInt (by omega)]
    omega
/-- what stands in the model's three numbers behind a statement -/
def nbOk (d : Td) (nb : Nat → Int32) : Prop := if d.1 = 12 then nb 0 = nI d.2.2.1 ∧ nb 1 = nI d.2.1 ∧ nb 2 = -9 else if d.1 = 13 then nb 0 = nI d.2.2.1 ∧ nb 1 = nI d.2.1 ∧ nb 2 = nI d.2.2.2 else if d.1 = 14 then nb 0 = nI d.2.1 ∧ nb 1 = nI d.2.2.2 else nb 0 = nI d.2.1
set_option maxHeartbeats 4000000 in
set_option maxRecDepth 100000 in
theorem n_letter (l : Launch) (G : xG) (am : Nat → Nat) (r rm r2 r4 : Rw) (ho rn ln pl sd : Int32) (lt ro rf nb : Nat → Int32) (hr : Ok r) (hp : r 5 3 = 0) (c1 : Int32) (lm : Nat) (hln : ln = nI lm) (hlm9 : lm ≤ 96) : xCi l G yX9_letter cX9_letter 2 (some .int) ({ frames := 1, cells := 0, slots := 0, locals := 21 } : Room) [.ref (am 0), .int c1] (wM G am ho rn ln pl sd lt ro rf nb ++ [(am 1, .inl (G.2 0, 54, .inl (row r)))] ++ [(am 2, .inl (G.2 0, 54, .inl (row rm)))] ++ [(am 3, .inl (G.2 0, 54, .inl (row r2)))] ++ [(am 4, .inl (G.2 0, 54, .inl (row r4)))]) (S := Unit) (fun v _ => v = sel (eW (wBy c1.toInt 0 255) (eS (decide (lm < 96)) (-6) 0)) (nI (lm + 1)) (eW (wBy c1.toInt 0 255) (eS (decide (lm < 96)) (-6) 0))) (fun _ => (wM G am ho rn (sel (eW (wBy c1.toInt 0 255) (eS (decide (lm < 96)) (-6) 0)) (nI (lm + 1)) ln) pl sd (sel (eW (wBy c1.toInt 0 255) (eS (decide (lm < 96)) (-6) 0)) (upd lt lm c1) lt) ro (sel (eW (wBy c1.toInt 0 255) (eS (decide (lm < 96)) (-6) 0)) rf (rfU rf (eW (wBy c1.toInt 0 255) (eS (decide (lm < 96)) (-6) 0)))) nb ++ [(am 1, .inl (G.2 0, 54, .inl (row r)))] ++ [(am 2, .inl (G.2 0, 54, .inl (row rm)))] ++ [(am 3, .inl (G.2 0, 54, .inl (row r2)))] ++ [(am 4, .inl (G.2 0, 54, .inl (row r4)))])) := by
  refine x_openi (by decide) (Nat.le_of_ble_eq_true rfl) (fun _ _ _ => rfl) ?_
  intro p e s m args below meth c A Q ls C0 hK hP hD hA hl hret
  obtain ⟨hx, hb, hml, hown, hts⟩ := id C0
  have hS : va_S A s.heap s.heap [] := va_S.rf
  have hP : va_P G.1 vwCl (wM G am ho rn ln pl sd lt ro rf nb ++ [(am 1, .inl (G.2 0, 54, .inl (row r)))] ++ [(am 2, .inl (G.2 0, 54, .inl (row rm)))] ++ [(am 3, .inl (G.2 0, 54, .inl (row r2)))] ++ [(am 4, .inl (G.2 0, 54, .inl (row r4)))]) s.heap := hP
  have hD : va_D A (wM G am ho rn ln pl sd lt ro rf nb ++ [(am 1, .inl (G.2 0, 54, .inl (row r)))] ++ [(am 2, .inl (G.2 0, 54, .inl (row rm)))] ++ [(am 3, .inl (G.2 0, 54, .inl (row r2)))] ++ [(am 4, .inl (G.2 0, 54, .inl (row r4)))]) := hD
  have hl : lv_has ls 2 [(0, .ref (am 0)), (1, .int c1)] := hl
  have hr0 := hr.n
  have hN := hr.le
  refine lv_iload_n hx hb dX9_letter_0 rfl (lv_at hl 1 rfl) ?_
  refine lv_if_ge (tgt := 11) hx hb dX9_letter_1 (by decide) (fun c_1 => ?_) (fun c_1 => ?_)
  · skip
    refine lv_iload_n hx hb dX9_letter_11 rfl (lv_at hl 1 rfl) ?_
    refine lv_sipush (v := 255) hx hb dX9_letter_12 (by decide) ?_
    refine lv_icmp_gt (tgt := 27) hx hb dX9_letter_15 (by decide) (fun c_2 => ?_) (fun c_2 => ?_)
    · skip
      refine lv_aload_n hx hb dX9_letter_27 rfl (lv_at hl 0 rfl) ?_
      refine lv_bipush (v := (-6)) hx hb dX9_letter_28 (by decide) ?_
      refine x_Vi (wN := fun _ => (wM G am ho rn ln pl sd lt ro (rfU rf (-6)) nb ++ [(am 1, .inl (G.2 0, 54, .inl (row r)))] ++ [(am 2, .inl (G.2 0, 54, .inl (row rm)))] ++ [(am 3, .inl (G.2 0, 54, .inl (row r2)))] ++ [(am 4, .inl (G.2 0, 54, .inl (row r4)))])) ⟨C0, hK, hP, hD, hS, hA⟩ 0 rfl (ci := 8) rfl rfl ((m9_no l G am ho rn ln pl sd lt ro rf nb (-6) noOk_k.2.2.2.2)) (cwV 1 hts (lw_V q1206 q1208 qs66 q95 q1209) rfl rfl rfl (by decide +kernel) ⟨Nat.le_of_ble_eq_true rfl, Nat.le_of_ble_eq_true rfl⟩) [0, 1, 2, 3, 4] [1, 3, 5, 7, 9, 10, 12, 14, 16] rfl (fun _ => rfl) rfl rfl hl.1 rfl (Nat.le_of_ble_eq_true rfl) dX9_letter_30 ⟨(Nat.le_of_ble_eq_true rfl), (Nat.le_of_ble_eq_true rfl)⟩ (fun r_3 u_3 H locs hw_3 hP hD hS => ?_)
      have hw_3 : ((-6) : Int32) = r_3 := hw_3.symm
      subst hw_3
      have hP : va_P G.1 vwCl (wM G am ho rn ln pl sd lt ro (rfU rf (-6)) nb ++ [(am 1, .inl (G.2 0, 54, .inl (row r)))] ++ [(am 2, .inl (G.2 0, 54, .inl (row rm)))] ++ [(am 3, .inl (G.2 0, 54, .inl (row r2)))] ++ [(am 4, .inl (G.2 0, 54, .inl (row r4)))]) H := hP
      have hD : va_D A (wM G am ho rn ln pl sd lt ro (rfU rf (-6)) nb ++ [(am 1, .inl (G.2 0, 54, .inl (row r)))] ++ [(am 2, .inl (G.2 0, 54, .inl (row rm)))] ++ [(am 3, .inl (G.2 0, 54, .inl (row r2)))] ++ [(am 4, .inl (G.2 0, 54, .inl (row r4)))]) := hD
      have hE : eW (wBy c1.toInt 0 255) (eS (decide (lm < 96)) (-6) 0) = (-6) := by rw [wBy_hi (lo := 0) (hi := 255) (y := 0) (by decide) (z := 255) (by decide) c_1 (Int32.not_le.mpr c_2), eW_n (show (-6 : Int32) ≠ 0 by decide)]
      have hne : ((-6) : Int32) ≠ 0 := (by decide)
      have hP : va_P G.1 vwCl (wM G am ho rn (sel (eW (wBy c1.toInt 0 255) (eS (decide (lm < 96)) (-6) 0)) (nI (lm + 1)) ln) pl sd (sel (eW (wBy c1.toInt 0 255) (eS (decide (lm < 96)) (-6) 0)) (upd lt lm c1) lt) ro (sel (eW (wBy c1.toInt 0 255) (eS (decide (lm < 96)) (-6) 0)) rf (rfU rf (eW (wBy c1.toInt 0 255) (eS (decide (lm < 96)) (-6) 0)))) nb ++ [(am 1, .inl (G.2 0, 54, .inl (row r)))] ++ [(am 2, .inl (G.2 0, 54, .inl (row rm)))] ++ [(am 3, .inl (G.2 0, 54, .inl (row r2)))] ++ [(am 4, .inl (G.2 0, 54, .inl (row r4)))]) H := by rw [hE]; simp only [sel_n hne]; exact hP
      have hD : va_D A (wM G am ho rn (sel (eW (wBy c1.toInt 0 255) (eS (decide (lm < 96)) (-6) 0)) (nI (lm + 1)) ln) pl sd (sel (eW (wBy c1.toInt 0 255) (eS (decide (lm < 96)) (-6) 0)) (upd lt lm c1) lt) ro (sel (eW (wBy c1.toInt 0 255) (eS (decide (lm < 96)) (-6) 0)) rf (rfU rf (eW (wBy c1.toInt 0 255) (eS (decide (lm < 96)) (-6) 0)))) nb ++ [(am 1, .inl (G.2 0, 54, .inl (row r)))] ++ [(am 2, .inl (G.2 0, 54, .inl (row rm)))] ++ [(am 3, .inl (G.2 0, 54, .inl (row r2)))] ++ [(am 4, .inl (G.2 0, 54, .inl (row r4)))]) := by rw [hE]; simp only [sel_n hne]; exact hD
      refine hret _ _ _ _ _ _ (-6) () dX9_letter_33 ?_ hP hD hS (Nat.le_of_ble_eq_true rfl) (Nat.le_of_ble_eq_true rfl)
      rw [hE, sel_n hne]
    · skip
      refine lv_aload_n hx hb dX9_letter_18 rfl (lv_at hl 0 rfl) ?_
      refine va_get (D := G.1) (ci := 8) (v := .int ln) (C := RX9) (T := TX9) (N := 13) hx hb hts in_X9 hown hK.1 hP 0 rfl rfl 8 (by decide) (hts _ q1170) (fun _ h9 => h9) rfl dX9_letter_19 ?_
      rw [show (ln : Int32) = nI lm from hln]
      refine lv_bipush (v := 96) hx hb dX9_letter_22 (by decide) ?_
      refine lv_icmp_ne (tgt := 34) hx hb dX9_letter_24 (by decide) (fun c_4 => ?_) (fun c_4 => ?_)
      · skip
        have g_4 := mt (nI_eq (by omega) (by omega)).mpr (show ¬ (nI lm = nI 96) from c_4)
        refine lv_aload_n hx hb dX9_letter_34 rfl (lv_at hl 0 rfl) ?_
        refine va_get (D := G.1) (ci := 8) (v := .ref (am 5)) (C := RX9) (T := TX9) (N := 13) hx hb hts in_X9 hown hK.1 hP 0 rfl rfl 5 (by decide) (hts _ q1167) (fun _ h9 => h9) rfl dX9_letter_35 ?_
        refine lv_aload_n hx hb dX9_letter_38 rfl (lv_at hl 0 rfl) ?_
        refine va_get (D := G.1) (ci := 8) (v := .int ln) (C := RX9) (T := TX9) (N := 13) hx hb hts in_X9 hown hK.1 hP 0 rfl rfl 8 (by decide) (hts _ q1170) (fun _ h9 => h9) rfl dX9_letter_39 ?_
        rw [show (ln : Int32) = nI lm from hln]
        refine lv_iload_n hx hb dX9_letter_42 rfl (lv_at hl 1 rfl) ?_
        refine x_iastn (k := lm) hx hb hK.1 hP hD hS 1 0 rfl rfl (by omega) (by decide) (g := upd lt lm c1) rfl dX9_letter_43 (fun H locs hP hD hS => ?_)
        have hP : va_P G.1 vwCl (wM G am ho rn ln pl sd (upd lt lm c1) ro rf nb ++ [(am 1, .inl (G.2 0, 54, .inl (row r)))] ++ [(am 2, .inl (G.2 0, 54, .inl (row rm)))] ++ [(am 3, .inl (G.2 0, 54, .inl (row r2)))] ++ [(am 4, .inl (G.2 0, 54, .inl (row r4)))]) H := hP
        have hD : va_D A (wM G am ho rn ln pl sd (upd lt lm c1) ro rf nb ++ [(am 1, .inl (G.2 0, 54, .inl (row r)))] ++ [(am 2, .inl (G.2 0, 54, .inl (row rm)))] ++ [(am 3, .inl (G.2 0, 54, .inl (row r2)))] ++ [(am 4, .inl (G.2 0, 54, .inl (row r4)))]) := hD
        refine lv_aload_n hx hb dX9_letter_44 rfl (lv_at hl 0 rfl) ?_
        refine lv_dup hx hb dX9_letter_45 rfl ?_
        refine va_get (D := G.1) (ci := 8) (v := .int ln) (C := RX9) (T := TX9) (N := 13) hx hb hts in_X9 hown hK.1 hP 0 rfl rfl 8 (by decide) (hts _ q1170) (fun _ h9 => h9) rfl dX9_letter_46 ?_
        refine lv_iconst (v := 1) hx hb dX9_letter_49 (by decide) ?_
        rw [show (1 : Int32) = nI lm from hln]
        refine x_iadd hx hb dX9_letter_50 (v := ln + (nI lm)) rfl ?_
        refine va_put (D := G.1) (ci := 8) (v := .int (ln + (nI lm))) (ty := .int) (C := RX9) (T := TX9) (N := 13) hx hb hts in_X9 tyX9 tyX9_ok nmX9 hown hK.1 hP hD hS 0 rfl rfl 8 (by decide) (hts _ q1170) (fun _ h9 => h9) rfl (by decide +kernel) rfl rfl (Nat.le_of_ble_eq_true rfl) dX9_letter_51 (fun H locs hP hD hS => ?_)
        have hP : va_P G.1 vwCl (wM G am ho rn (ln + (nI lm)) pl sd (upd lt lm c1) ro rf nb ++ [(am 1, .inl (G.2 0, 54, .inl (row r)))] ++ [(am 2, .inl (G.2 0, 54, .inl (row rm)))] ++ [(am 3, .inl (G.2 0, 54, .inl (row r2)))] ++ [(am 4, .inl (G.2 0, 54, .inl (row r4)))]) H := hP
        have hD : va_D A (wM G am ho rn (ln + (nI lm)) pl sd (upd lt lm c1) ro rf nb ++ [(am 1, .inl (G.2 0, 54, .inl (row r)))] ++ [(am 2, .inl (G.2 0, 54, .inl (row rm)))] ++ [(am 3, .inl (G.2 0, 54, .inl (row r2)))] ++ [(am 4, .inl (G.2 0, 54, .inl (row r4)))]) := hD
        refine lv_aload_n hx hb dX9_letter_54 rfl (lv_at hl 0 rfl) ?_
        refine va_get (D := G.1) (ci := 8) (v := .int (ln + (nI lm))) (C := RX9) (T := TX9) (N := 13) hx hb hts in_X9 hown hK.1 hP 0 rfl rfl 8 (by decide) (hts _ q1170) (fun _ h9 => h9) rfl dX9_letter_55 ?_
        have hE : eW (wBy c1.toInt 0 255) (eS (decide (lm < 96)) (-6) 0) = 0 := by rw [wBy_ok (lo := 0) (hi := 255) (y := 0) (by decide) (z := 255) (by decide) c_1 (Int32.not_lt.mp c_2), eW_0 rfl, eS_t (decide_eq_true (by omega))]
        have hP : va_P G.1 vwCl (wM G am ho rn (sel (eW (wBy c1.toInt 0 255) (eS (decide (lm < 96)) (-6) 0)) (nI (lm + 1)) ln) pl sd (sel (eW (wBy c1.toInt 0 255) (eS (decide (lm < 96)) (-6) 0)) (upd lt lm c1) lt) ro (sel (eW (wBy c1.toInt 0 255) (eS (decide (lm < 96)) (-6) 0)) rf (rfU rf (eW (wBy c1.toInt 0 255) (eS (decide (lm < 96)) (-6) 0)))) nb ++ [(am 1, .inl (G.2 0, 54, .inl (row r)))] ++ [(am 2, .inl (G.2 0, 54, .inl (row rm)))] ++ [(am 3, .inl (G.2 0, 54, .inl (row r2)))] ++ [(am 4, .inl (G.2 0, 54, .inl (row r4)))]) H := by rw [hE]; simp only [sel_0 rfl]; exact hP
        have hD : va_D A (wM G am ho rn (sel (eW (wBy c1.toInt 0 255) (eS (decide (lm < 96)) (-6) 0)) (nI (lm + 1)) ln) pl sd (sel (eW (wBy c1.toInt 0 255) (eS (decide (lm < 96)) (-6) 0)) (upd lt lm c1) lt) ro (sel (eW (wBy c1.toInt 0 255) (eS (decide (lm < 96)) (-6) 0)) rf (rfU rf (eW (wBy c1.toInt 0 255) (eS (decide (lm < 96)) (-6) 0)))) nb ++ [(am 1, .inl (G.2 0, 54, .inl (row r)))] ++ [(am 2, .inl (G.2 0, 54, .inl (row rm)))] ++ [(am 3, .inl (G.2 0, 54, .inl (row r2)))] ++ [(am 4, .inl (G.2 0, 54, .inl (row r4)))]) := by rw [hE]; simp only [sel_0 rfl]; exact hD
        refine hret _ _ _ _ _ _ (ln + (nI lm)) () dX9_letter_58 ?_ hP hD hS (Nat.le_of_ble_eq_true rfl) (Nat.le_of_ble_eq_true rfl)
        rw [hE, sel_0 rfl]
      · skip
        have g_4 := (nI_eq (by omega) (by omega)).mp (show nI lm = nI 96 from c_4)
        refine lv_aload_n hx hb dX9_letter_27 rfl (lv_at hl 0 rfl) ?_
        refine lv_bipush (v := (-6)) hx hb dX9_letter_28 (by decide) ?_
        refine x_Vi (wN := fun _ => (wM G am ho rn ln pl sd lt ro (rfU rf (-6)) nb ++ [(am 1, .inl (G.2 0, 54, .inl (row r)))] ++ [(am 2, .inl (G.2 0, 54, .inl (row rm)))] ++ [(am 3, .inl (G.2 0, 54, .inl (row r2)))] ++ [(am 4, .inl (G.2 0, 54, .inl (row r4)))])) ⟨C0, hK, hP, hD, hS, hA⟩ 0 rfl (ci := 8) rfl rfl ((m9_no l G am ho rn ln pl sd lt ro rf nb (-6) noOk_k.2.2.2.2)) (cwV 1 hts (lw_V q1206 q1208 qs66 q95 q1209) rfl rfl rfl (by decide +kernel) ⟨Nat.le_of_ble_eq_true rfl, Nat.le_of_ble_eq_true rfl⟩) [0, 1, 2, 3, 4] [1, 3, 5, 7, 9, 10, 12, 14, 16] rfl (fun _ => rfl) rfl rfl hl.1 rfl (Nat.le_of_ble_eq_true rfl) dX9_letter_30 ⟨(Nat.le_of_ble_eq_true rfl), (Nat.le_of_ble_eq_true rfl)⟩ (fun r_5 u_5 H locs hw_5 hP hD hS => ?_)
        have hw_5 : ((-6) : Int32) = r_5 := hw_5.symm
        subst hw_5
        have hP : va_P G.1 vwCl (wM G am ho rn ln pl sd lt ro (rfU rf (-6)) nb ++ [(am 1, .inl (G.2 0, 54, .inl (row r)))] ++ [(am 2, .inl (G.2 0, 54, .inl (row rm)))] ++ [(am 3, .inl (G.2 0, 54, .inl (row r2)))] ++ [(am 4, .inl (G.2 0, 54, .inl (row r4)))]) H := hP
        have hD : va_D A (wM G am ho rn ln pl sd lt ro (rfU rf (-6)) nb ++ [(am 1, .inl (G.2 0, 54, .inl (row r)))] ++ [(am 2, .inl (G.2 0, 54, .inl (row rm)))] ++ [(am 3, .inl (G.2 0, 54, .inl (row r2)))] ++ [(am 4, .inl (G.2 0, 54, .inl (row r4)))]) := hD
        have hE : eW (wBy c1.toInt 0 255) (eS (decide (lm < 96)) (-6) 0) = (-6) := by rw [wBy_ok (lo := 0) (hi := 255) (y := 0) (by decide) (z := 255) (by decide) c_1 (Int32.not_lt.mp c_2), eW_0 rfl, eS_f (decide_eq_false (by omega))]
        have hne : ((-6) : Int32) ≠ 0 := (by decide)
        have hP : va_P G.1 vwCl (wM G am ho rn (sel (eW (wBy c1.toInt 0 255) (eS (decide (lm < 96)) (-6) 0)) (nI (lm + 1)) ln) pl sd (sel (eW (wBy c1.toInt 0 255) (eS (decide (lm < 96)) (-6) 0)) (upd lt lm c1) lt) ro (sel (eW (wBy c1.toInt 0 255) (eS (decide (lm < 96)) (-6) 0)) rf (rfU rf (eW (wBy c1.toInt 0 255) (eS (decide (lm < 96)) (-6) 0)))) nb ++ [(am 1, .inl (G.2 0, 54, .inl (row r)))] ++ [(am 2, .inl (G.2 0, 54, .inl (row rm)))] ++ [(am 3, .inl (G.2 0, 54, .inl (row r2)))] ++ [(am 4, .inl (G.2 0, 54, .inl (row r4)))]) H := by rw [hE]; simp only [sel_n hne]; exact hP
        have hD : va_D A (wM G am ho rn (sel (eW (wBy c1.toInt 0 255) (eS (decide (lm < 96)) (-6) 0)) (nI (lm + 1)) ln) pl sd (sel (eW (wBy c1.toInt 0 255) (eS (decide (lm < 96)) (-6) 0)) (upd lt lm c1) lt) ro (sel (eW (wBy c1.toInt 0 255) (eS (decide (lm < 96)) (-6) 0)) rf (rfU rf (eW (wBy c1.toInt 0 255) (eS (decide (lm < 96)) (-6) 0)))) nb ++ [(am 1, .inl (G.2 0, 54, .inl (row r)))] ++ [(am 2, .inl (G.2 0, 54, .inl (row rm)))] ++ [(am 3, .inl (G.2 0, 54, .inl (row r2)))] ++ [(am 4, .inl (G.2 0, 54, .inl (row r4)))]) := by rw [hE]; simp only [sel_n hne]; exact hD
        refine hret _ _ _ _ _ _ (-6) () dX9_letter_33 ?_ hP hD hS (Nat.le_of_ble_eq_true rfl) (Nat.le_of_ble_eq_true rfl)
        rw [hE, sel_n hne]
  · skip
    refine lv_aload_n hx hb dX9_letter_4 rfl (lv_at hl 0 rfl) ?_
    refine lv_bipush (v := (-4)) hx hb dX9_letter_5 (by decide) ?_
    refine x_Vi (wN := fun _ => (wM G am ho rn ln pl sd lt ro (rfU rf (-4)) nb ++ [(am 1, .inl (G.2 0, 54, .inl (row r)))] ++ [(am 2, .inl (G.2 0, 54, .inl (row rm)))] ++ [(am 3, .inl (G.2 0, 54, .inl (row r2)))] ++ [(am 4, .inl (G.2 0, 54, .inl (row r4)))])) ⟨C0, hK, hP, hD, hS, hA⟩ 0 rfl (ci := 8) rfl rfl ((m9_no l G am ho rn ln pl sd lt ro rf nb (-4) noOk_k.2.2.2.1)) (cwV 1 hts (lw_V q1206 q1208 qs66 q95 q1209) rfl rfl rfl (by decide +kernel) ⟨Nat.le_of_ble_eq_true rfl, Nat.le_of_ble_eq_true rfl⟩) [0, 1, 2, 3, 4] [1, 3, 5, 7, 9, 10, 12, 14, 16] rfl (fun _ => rfl) rfl rfl hl.1 rfl (Nat.le_of_ble_eq_true rfl) dX9_letter_7 ⟨(Nat.le_of_ble_eq_true rfl), (Nat.le_of_ble_eq_true rfl)⟩ (fun r_6 u_6 H locs hw_6 hP hD hS => ?_)
    have hw_6 : ((-4) : Int32) = r_6 := hw_6.symm
    subst hw_6
    have hP : va_P G.1 vwCl (wM G am ho rn ln pl sd lt ro (rfU rf (-4)) nb ++ [(am 1, .inl (G.2 0, 54, .inl (row r)))] ++ [(am 2, .inl (G.2 0, 54, .inl (row rm)))] ++ [(am 3, .inl (G.2 0, 54, .inl (row r2)))] ++ [(am 4, .inl (G.2 0, 54, .inl (row r4)))]) H := hP
    have hD : va_D A (wM G am ho rn ln pl sd lt ro (rfU rf (-4)) nb ++ [(am 1, .inl (G.2 0, 54, .inl (row r)))] ++ [(am 2, .inl (G.2 0, 54, .inl (row rm)))] ++ [(am 3, .inl (G.2 0, 54, .inl (row r2)))] ++ [(am 4, .inl (G.2 0, 54, .inl (row r4)))]) := hD
    have hE : eW (wBy c1.toInt 0 255) (eS (decide (lm < 96)) (-6) 0) = (-4) := by rw [wBy_lo (lo := 0) (hi := 255) (y := 0) (by decide) c_1, eW_n (show (-4 : Int32) ≠ 0 by decide)]
    have hne : ((-4) : Int32) ≠ 0 := (by decide)
    have hP : va_P G.1 vwCl (wM G am ho rn (sel (eW (wBy c1.toInt 0 255) (eS (decide (lm < 96)) (-6) 0)) (nI (lm + 1)) ln) pl sd (sel (eW (wBy c1.toInt 0 255) (eS (decide (lm < 96)) (-6) 0)) (upd lt lm c1) lt) ro (sel (eW (wBy c1.toInt 0 255) (eS (decide (lm < 96)) (-6) 0)) rf (rfU rf (eW (wBy c1.toInt 0 255) (eS (decide (lm < 96)) (-6) 0)))) nb ++ [(am 1, .inl (G.2 0, 54, .inl (row r)))] ++ [(am 2, .inl (G.2 0, 54, .inl (row rm)))] ++ [(am 3, .inl (G.2 0, 54, .inl (row r2)))] ++ [(am 4, .inl (G.2 0, 54, .inl (row r4)))]) H := by rw [hE]; simp only [sel_n hne]; exact hP
    have hD : va_D A (wM G am ho rn (sel (eW (wBy c1.toInt 0 255) (eS (decide (lm < 96)) (-6) 0)) (nI (lm + 1)) ln) pl sd (sel (eW (wBy c1.toInt 0 255) (eS (decide (lm < 96)) (-6) 0)) (upd lt lm c1) lt) ro (sel (eW (wBy c1.toInt 0 255) (eS (decide (lm < 96)) (-6) 0)) rf (rfU rf (eW (wBy c1.toInt 0 255) (eS (decide (lm < 96)) (-6) 0)))) nb ++ [(am 1, .inl (G.2 0, 54, .inl (row r)))] ++ [(am 2, .inl (G.2 0, 54, .inl (row rm)))] ++ [(am 3, .inl (G.2 0, 54, .inl (row r2)))] ++ [(am 4, .inl (G.2 0, 54, .inl (row r4)))]) := by rw [hE]; simp only [sel_n hne]; exact hD
    refine hret _ _ _ _ _ _ (-4) () dX9_letter_10 ?_ hP hD hS (Nat.le_of_ble_eq_true rfl) (Nat.le_of_ble_eq_true rfl)
    rw [hE, sel_n hne]
set_option maxHeartbeats 4000000 in
set_option maxRecDepth 100000 in
theorem m9_here (l : Launch) (G : xG) (am : Nat → Nat) (ho rn ln pl sd : Int32) (lt ro rf nb : Nat → Int32) (z k : Nat) (hz : z ≤ 96) (hk9 : k < 2 ^ 30) : xCi l G yX9_here cX9_here 1 (some .int) ({ frames := 0, cells := 0, slots := 0, locals := 0 } : Room) [.ref (am 0)] (wM G am ho rn (nI z) (nI k) sd lt ro rf nb) (S := Unit) (fun v _ => v = hC lt z k) (fun _ => (wM G am ho rn (nI z) (nI k) sd lt ro rf nb)) := by
  refine x_openi (by decide) (Nat.le_of_ble_eq_true rfl) (fun _ _ _ => rfl) ?_
  intro p e s m args below meth c A Q ls C0 hK hP hD hA hl hret
  obtain ⟨hx, hb, hml, hown, hts⟩ := id C0
  have hS : va_S A s.heap s.heap [] := va_S.rf
  have hP : va_P G.1 vwCl (wM G am ho rn (nI z) (nI k) sd lt ro rf nb) s.heap := hP
  have hD : va_D A (wM G am ho rn (nI z) (nI k) sd lt ro rf nb) := hD
  have hl : lv_has ls 1 [(0, .ref (am 0))] := hl
  refine lv_aload_n hx hb dX9_here_0 rfl (lv_at hl 0 rfl) ?_
  refine va_get (D := G.1) (ci := 8) (v := .int (nI k)) (C := RX9) (T := TX9) (N := 13) hx hb hts in_X9 hown hK.1 hP 0 rfl rfl 10 (by decide) (hts _ q1172) (fun _ h9 => h9) rfl dX9_here_1 ?_
  refine lv_aload_n hx hb dX9_here_4 rfl (lv_at hl 0 rfl) ?_
  refine va_get (D := G.1) (ci := 8) (v := .int (nI z)) (C := RX9) (T := TX9) (N := 13) hx hb hts in_X9 hown hK.1 hP 0 rfl rfl 8 (by decide) (hts _ q1170) (fun _ h9 => h9) rfl dX9_here_5 ?_
  refine lv_icmp_ge (tgt := 23) hx hb dX9_here_8 (by decide) (fun c_1 => ?_) (fun c_1 => ?_)
  · skip
    have g_1 := (nI_leI (by omega) (by omega)).mp c_1
    refine lv_iconst (v := (-1)) hx hb dX9_here_23 (by decide) ?_
    refine hret _ _ _ _ _ _ (-1) () dX9_here_24 ?_ hP hD hS (Nat.le_of_ble_eq_true rfl) (Nat.le_of_ble_eq_true rfl)
    unfold hC
    exact (if_neg (by omega)).symm
  · skip
    have g_1 := mt (nI_leI (by omega) (by omega)).mpr c_1
    refine lv_aload_n hx hb dX9_here_11 rfl (lv_at hl 0 rfl) ?_
    refine va_get (D := G.1) (ci := 8) (v := .ref (am 5)) (C := RX9) (T := TX9) (N := 13) hx hb hts in_X9 hown hK.1 hP 0 rfl rfl 5 (by decide) (hts _ q1167) (fun _ h9 => h9) rfl dX9_here_12 ?_
    refine lv_aload_n hx hb dX9_here_15 rfl (lv_at hl 0 rfl) ?_
    refine va_get (D := G.1) (ci := 8) (v := .int (nI k)) (C := RX9) (T := TX9) (N := 13) hx hb hts in_X9 hown hK.1 hP 0 rfl rfl 10 (by decide) (hts _ q1172) (fun _ h9 => h9) rfl dX9_here_16 ?_
    refine x_ialdn (k := k) hx hb hK.1 hP 1 0 rfl rfl (by omega) (by decide) (v := lt k) rfl dX9_here_19 ?_
    refine lv_goto (tgt := 24) hx hb dX9_here_20 (by decide) ?_
    refine hret _ _ _ _ _ _ (lt k) () dX9_here_24 ?_ hP hD hS (Nat.le_of_ble_eq_true rfl) (Nat.le_of_ble_eq_true rfl)
    unfold hC
    exact (if_pos (by omega)).symm
set_option maxHeartbeats 4000000 in
set_option maxRecDepth 100000 in
theorem m9_rn1 (l : Launch) (G : xG) (am : Nat → Nat) (ho rn ln pl sd : Int32) (lt ro rf nb : Nat → Int32) (z k : Nat) (hz : z ≤ 96) (hk9 : k < 2 ^ 29) (k0 : Nat) (hk0 : k0 < 3) : xCi l G yX9_readsNumber cX9_readsNumber 4 (some .boolean) ({ frames := 1, cells := 0, slots := 0, locals := 22 } : Room) [.ref (am 0), .int (nI k0), .int 1] (wM G am ho rn (nI z) (nI k) sd lt ro rf nb) (S := ((Nat → Int32) × Nat)) (fun v u => (v = 1 ∧ dB (hC lt z k) = true ∧ u.1 = upd nb k0 (nI (dV (hC lt z k))) ∧ u.2 = k + 1) ∨ (v = 0 ∧ dB (hC lt z k) = false ∧ u.2 = k)) (fun u => (wM G am ho rn (nI z) (nI u.2) sd lt ro rf u.1)) := by
  refine x_openi (by decide) (Nat.le_of_ble_eq_true rfl) (fun _ _ h => by rcases h with ⟨h, -⟩ | ⟨h, -⟩ <;> rw [h] <;> decide) ?_
  intro p e s m args below meth c A Q ls C0 hK hP hD hA hl hret
  obtain ⟨hx, hb, hml, hown, hts⟩ := id C0
  have hS : va_S A s.heap s.heap [] := va_S.rf
  have hP : va_P G.1 vwCl (wM G am ho rn (nI z) (nI k) sd lt ro rf nb) s.heap := hP
  have hD : va_D A (wM G am ho rn (nI z) (nI k) sd lt ro rf nb) := hD
  have hl : lv_has ls 4 [(0, .ref (am 0)), (1, .int (nI k0)), (2, .int 1)] := hl
  refine lv_aload_n hx hb dX9_readsNumber_0 rfl (lv_at hl 0 rfl) ?_
  refine va_get (D := G.1) (ci := 8) (v := .ref (am 8)) (C := RX9) (T := TX9) (N := 13) hx hb hts in_X9 hown hK.1 hP 0 rfl rfl 11 (by decide) (hts _ q1173) (fun _ h9 => h9) rfl dX9_readsNumber_1 ?_
  refine lv_iload_n hx hb dX9_readsNumber_4 rfl (lv_at hl 1 rfl) ?_
  refine lv_iconst (v := 0) hx hb dX9_readsNumber_5 (by decide) ?_
  refine x_iastn (k := k0) hx hb hK.1 hP hD hS 4 0 rfl rfl (by omega) (by decide) (g := upd nb k0 0) rfl dX9_readsNumber_6 (fun H locs hP hD hS => ?_)
  have hP : va_P G.1 vwCl (wM G am ho rn (nI z) (nI k) sd lt ro rf (upd nb k0 0)) H := hP
  have hD : va_D A (wM G am ho rn (nI z) (nI k) sd lt ro rf (upd nb k0 0)) := hD
  refine lv_iconst (v := 0) hx hb dX9_readsNumber_7 (by decide) ?_
  refine lv_istore_n (lv' := [(3, .int 0), (0, .ref (am 0)), (1, .int (nI k0)), (2, .int 1)]) hx hb dX9_readsNumber_8 rfl hl (by decide) rfl (fun ls hl => ?_)
  refine lv_iload_n hx hb dX9_readsNumber_9 rfl (lv_at hl 0 rfl) ?_
  refine lv_iload_n hx hb dX9_readsNumber_10 rfl (lv_at hl 3 rfl) ?_
  refine lv_icmp_ge (tgt := 69) hx hb dX9_readsNumber_11 (by decide) (fun c_1 => ?_) (fun c_1 => ?_)
  · skip
    exact absurd c_1 (by decide)
  · skip
    refine lv_aload_n hx hb dX9_readsNumber_14 rfl (lv_at hl 1 rfl) ?_
    refine x_Vi (wN := fun _ => (wM G am ho rn (nI z) (nI k) sd lt ro rf (upd nb k0 0))) ⟨C0, hK, hP, hD, hS, hA⟩ 0 rfl (ci := 8) rfl rfl ((m9_here l G am ho rn (nI z) (nI k) sd lt ro rf (upd nb k0 0) z k hz (by omega) )) (cwV 0 hts (lw_V q1218 q1220 qs68 q95 q1221) rfl rfl rfl (by decide +kernel) ⟨Nat.le_of_ble_eq_true rfl, Nat.le_of_ble_eq_true rfl⟩) [0, 1, 2, 3, 4] [1, 3, 5, 7, 9] rfl (fun _ => rfl) rfl rfl hl.1 rfl (Nat.le_of_ble_eq_true rfl) dX9_readsNumber_15 ⟨(Nat.le_of_ble_eq_true rfl), (Nat.le_of_ble_eq_true rfl)⟩ (fun r_2 u_2 H locs hw_2 hP hD hS => ?_)
    have hw_2 : (hC lt z k : Int32) = r_2 := hw_2.symm
    subst hw_2
    refine lv_bipush (v := 48) hx hb dX9_readsNumber_18 (by decide) ?_
    refine lv_bipush (v := 57) hx hb dX9_readsNumber_20 (by decide) ?_
    refine x_Si (wN := fun _ => (wM G am ho rn (nI z) (nI k) sd lt ro rf (upd nb k0 0))) ⟨C0, hK, hP, hD, hS, hA⟩ ((m9_isIn l G (hC lt z k) 48 57)) (va_cwS 3 hts (lw_S q1233 q1234 q95 q1235) rfl rfl rfl (by decide +kernel) ⟨Nat.le_of_ble_eq_true rfl, Nat.le_of_ble_eq_true rfl⟩) [] [0, 2, 4, 6, 8] rfl (fun _ => rfl) rfl rfl hl.1 rfl (Nat.le_of_ble_eq_true rfl) dX9_readsNumber_22 ⟨(Nat.le_of_ble_eq_true rfl), (Nat.le_of_ble_eq_true rfl)⟩ (fun r_3 u_3 H locs hw_3 hP hD hS => ?_)
    have hw_3 : (bI (inR (hC lt z k) (48 : Int32).toInt (57 : Int32).toInt) : Int32) = r_3 := hw_3.symm
    subst hw_3
    refine lv_if_ne (tgt := 30) hx hb dX9_readsNumber_25 (by decide) (fun c_4 => ?_) (fun c_4 => ?_)
    · skip
      have hd_0 : dB (hC lt z k) = true := (by first | exact bI_n0 c_4 | exact bI_0.mp c_4)
      have hz_0 := (hC_d hd_0).1
      refine lv_aload_n hx hb dX9_readsNumber_30 rfl (lv_at hl 1 rfl) ?_
      refine va_get (D := G.1) (ci := 8) (v := .ref (am 8)) (C := RX9) (T := TX9) (N := 13) hx hb hts in_X9 hown hK.1 hP 0 rfl rfl 11 (by decide) (hts _ q1173) (fun _ h9 => h9) rfl dX9_readsNumber_31 ?_
      refine lv_iload_n hx hb dX9_readsNumber_34 rfl (lv_at hl 2 rfl) ?_
      refine lv_bipush (v := 10) hx hb dX9_readsNumber_35 (by decide) ?_
      refine lv_aload_n hx hb dX9_readsNumber_37 rfl (lv_at hl 1 rfl) ?_
      refine va_get (D := G.1) (ci := 8) (v := .ref (am 8)) (C := RX9) (T := TX9) (N := 13) hx hb hts in_X9 hown hK.1 hP 0 rfl rfl 11 (by decide) (hts _ q1173) (fun _ h9 => h9) rfl dX9_readsNumber_38 ?_
      refine lv_iload_n hx hb dX9_readsNumber_41 rfl (lv_at hl 2 rfl) ?_
      refine x_ialdn (k := k0) hx hb hK.1 hP 4 0 rfl rfl (by omega) (by decide) (v := 0) (pk_us _ _ _) dX9_readsNumber_42 ?_
      refine x_imul hx hb dX9_readsNumber_43 (v := 0) (by decide) ?_
      refine lv_aload_n hx hb dX9_readsNumber_44 rfl (lv_at hl 1 rfl) ?_
      refine x_Vi (wN := fun _ => (wM G am ho rn (nI z) (nI k) sd lt ro rf (upd nb k0 0))) ⟨C0, hK, hP, hD, hS, hA⟩ 0 rfl (ci := 8) rfl rfl ((m9_here l G am ho rn (nI z) (nI k) sd lt ro rf (upd nb k0 0) z k hz (by omega) )) (cwV 0 hts (lw_V q1218 q1220 qs68 q95 q1221) rfl rfl rfl (by decide +kernel) ⟨Nat.le_of_ble_eq_true rfl, Nat.le_of_ble_eq_true rfl⟩) [0, 1, 2, 3, 4] [1, 3, 5, 7, 9] rfl (fun _ => rfl) rfl rfl hl.1 rfl (Nat.le_of_ble_eq_true rfl) dX9_readsNumber_45 ⟨(Nat.le_of_ble_eq_true rfl), (Nat.le_of_ble_eq_true rfl)⟩ (fun r_5 u_5 H locs hw_5 hP hD hS => ?_)
      have hw_5 : (hC lt z k : Int32) = r_5 := hw_5.symm
      subst hw_5
      refine x_iadd hx hb dX9_readsNumber_48 (v := nI 0 + hC lt z k) (by rfl) ?_
      refine lv_bipush (v := 48) hx hb dX9_readsNumber_49 (by decide) ?_
      refine x_isub hx hb dX9_readsNumber_51 (v := nI (0 + dV (hC lt z k))) (rd_n hd_0) ?_
      refine x_iastn (k := k0) hx hb hK.1 hP hD hS 4 0 rfl rfl (by omega) (by decide) (g := upd (upd nb k0 0) k0 (nI (0 + dV (hC lt z k)))) rfl dX9_readsNumber_52 (fun H locs hP hD hS => ?_)
      have hP : va_P G.1 vwCl (wM G am ho rn (nI z) (nI k) sd lt ro rf (upd (upd nb k0 0) k0 (nI (0 + dV (hC lt z k))))) H := hP
      have hD : va_D A (wM G am ho rn (nI z) (nI k) sd lt ro rf (upd (upd nb k0 0) k0 (nI (0 + dV (hC lt z k))))) := hD
      have hP : va_P G.1 vwCl (wM G am ho rn (nI z) (nI k) sd lt ro rf (upd nb k0 (nI (dV (hC lt z k))))) H := by rw [upd_upd, Nat.zero_add] at hP; exact hP
      have hD : va_D A (wM G am ho rn (nI z) (nI k) sd lt ro rf (upd nb k0 (nI (dV (hC lt z k))))) := by rw [upd_upd, Nat.zero_add] at hD; exact hD
      refine lv_aload_n hx hb dX9_readsNumber_53 rfl (lv_at hl 1 rfl) ?_
      refine lv_dup hx hb dX9_readsNumber_54 rfl ?_
      refine va_get (D := G.1) (ci := 8) (v := .int (nI k)) (C := RX9) (T := TX9) (N := 13) hx hb hts in_X9 hown hK.1 hP 0 rfl rfl 10 (by decide) (hts _ q1172) (fun _ h9 => h9) rfl dX9_readsNumber_55 ?_
      refine lv_iconst (v := 1) hx hb dX9_readsNumber_58 (by decide) ?_
      refine x_iadd hx hb dX9_readsNumber_59 (v := nI (k + 1)) (nI_1 _) ?_
      refine va_put (D := G.1) (ci := 8) (v := .int (nI (k + 1))) (ty := .int) (C := RX9) (T := TX9) (N := 13) hx hb hts in_X9 tyX9 tyX9_ok nmX9 hown hK.1 hP hD hS 0 rfl rfl 10 (by decide) (hts _ q1172) (fun _ h9 => h9) rfl (by decide +kernel) rfl rfl (Nat.le_of_ble_eq_true rfl) dX9_readsNumber_60 (fun H locs hP hD hS => ?_)
      have hP : va_P G.1 vwCl (wM G am ho rn (nI z) (nI (k + 1)) sd lt ro rf (upd nb k0 (nI (dV (hC lt z k))))) H := hP
      have hD : va_D A (wM G am ho rn (nI z) (nI (k + 1)) sd lt ro rf (upd nb k0 (nI (dV (hC lt z k))))) := hD
      refine lv_iinc (v := 1) (lv' := [(3, .int 1), (0, .ref (am 0)), (1, .int (nI k0)), (2, .int 1)]) hx hb dX9_readsNumber_63 hl (k := 0) rfl rfl (by decide) rfl (fun ls hl => ?_)
      refine lv_goto (tgt := 9) hx hb dX9_readsNumber_66 (by decide) ?_
      refine lv_iload_n hx hb dX9_readsNumber_9 rfl (lv_at hl 0 rfl) ?_
      refine lv_iload_n hx hb dX9_readsNumber_10 rfl (lv_at hl 3 rfl) ?_
      refine lv_icmp_ge (tgt := 69) hx hb dX9_readsNumber_11 (by decide) (fun c_6 => ?_) (fun c_6 => ?_)
      · skip
        refine lv_iconst (v := 1) hx hb dX9_readsNumber_69 (by decide) ?_
        refine hret _ _ _ _ _ _ 1 (upd nb k0 (nI (dV (hC lt z k))), (k + 1)) dX9_readsNumber_70 ?_ hP hD hS (Nat.le_of_ble_eq_true rfl) (Nat.le_of_ble_eq_true rfl)
        exact Or.inl ⟨rfl, hd_0, rfl, rfl⟩
      · skip
        exact absurd c_6 (by decide)
    · skip
      have hd_0 : dB (hC lt z k) = false := (by first | exact bI_n0 c_4 | exact bI_0.mp c_4)
      refine lv_iconst (v := 0) hx hb dX9_readsNumber_28 (by decide) ?_
      refine hret _ _ _ _ _ _ 0 (upd nb k0 0, k) dX9_readsNumber_29 ?_ hP hD hS (Nat.le_of_ble_eq_true rfl) (Nat.le_of_ble_eq_true rfl)
      exact Or.inr ⟨rfl, hd_0, rfl⟩
set_option maxHeartbeats 4000000 in
set_option maxRecDepth 100000 in
theorem m9_rn2 (l : Launch) (G : xG) (am : Nat → Nat) (ho rn ln pl sd : Int32) (lt ro rf nb : Nat → Int32) (z k : Nat) (hz : z ≤ 96) (hk9 : k < 2 ^ 29) (k0 : Nat) (hk0 : k0 < 3) : xCi l G yX9_readsNumber cX9_readsNumber 4 (some .boolean) ({ frames := 1, cells := 0, slots := 0, locals := 22 } : Room) [.ref (am 0), .int (nI k0), .int 2] (wM G am ho rn (nI z) (nI k) sd lt ro rf nb) (S := ((Nat → Int32) × Nat)) (fun v u => (v = 1 ∧ dB (hC lt z k) = true ∧ dB (hC lt z (k + 1)) = true ∧ u.1 = upd nb k0 (nI (10 * dV (hC lt z k) + dV (hC lt z (k + 1)))) ∧ u.2 = k + 2) ∨ (v = 0 ∧ ((dB (hC lt z k) = false ∧ u.2 = k) ∨ (dB (hC lt z k) = true ∧ dB (hC lt z (k + 1)) = false ∧ u.2 = k + 1)))) (fun u => (wM G am ho rn (nI z) (nI u.2) sd lt ro rf u.1)) := by
  refine x_openi (by decide) (Nat.le_of_ble_eq_true rfl) (fun _ _ h => by rcases h with ⟨h, -⟩ | ⟨h, -⟩ <;> rw [h] <;> decide) ?_
  intro p e s m args below meth c A Q ls C0 hK hP hD hA hl hret
  obtain ⟨hx, hb, hml, hown, hts⟩ := id C0
  have hS : va_S A s.heap s.heap [] := va_S.rf
  have hP : va_P G.1 vwCl (wM G am ho rn (nI z) (nI k) sd lt ro rf nb) s.heap := hP
  have hD : va_D A (wM G am ho rn (nI z) (nI k) sd lt ro rf nb) := hD
  have hl : lv_has ls 4 [(0, .ref (am 0)), (1, .int (nI k0)), (2, .int 2)] := hl
  refine lv_aload_n hx hb dX9_readsNumber_0 rfl (lv_at hl 0 rfl) ?_
  refine va_get (D := G.1) (ci := 8) (v := .ref (am 8)) (C := RX9) (T := TX9) (N := 13) hx hb hts in_X9 hown hK.1 hP 0 rfl rfl 11 (by decide) (hts _ q1173) (fun _ h9 => h9) rfl dX9_readsNumber_1 ?_
  refine lv_iload_n hx hb dX9_readsNumber_4 rfl (lv_at hl 1 rfl) ?_
  refine lv_iconst (v := 0) hx hb dX9_readsNumber_5 (by decide) ?_
  refine x_iastn (k := k0) hx hb hK.1 hP hD hS 4 0 rfl rfl (by omega) (by decide) (g := upd nb k0 0) rfl dX9_readsNumber_6 (fun H locs hP hD hS => ?_)
  have hP : va_P G.1 vwCl (wM G am ho rn (nI z) (nI k) sd lt ro rf (upd nb k0 0)) H := hP
  have hD : va_D A (wM G am ho rn (nI z) (nI k) sd lt ro rf (upd nb k0 0)) := hD
  refine lv_iconst (v := 0) hx hb dX9_readsNumber_7 (by decide) ?_
  refine lv_istore_n (lv' := [(3, .int 0), (0, .ref (am 0)), (1, .int (nI k0)), (2, .int 2)]) hx hb dX9_readsNumber_8 rfl hl (by decide) rfl (fun ls hl => ?_)
  refine lv_iload_n hx hb dX9_readsNumber_9 rfl (lv_at hl 0 rfl) ?_
  refine lv_iload_n hx hb dX9_readsNumber_10 rfl (lv_at hl 3 rfl) ?_
  refine lv_icmp_ge (tgt := 69) hx hb dX9_readsNumber_11 (by decide) (fun c_1 => ?_) (fun c_1 => ?_)
  · skip
    exact absurd c_1 (by decide)
  · skip
    refine lv_aload_n hx hb dX9_readsNumber_14 rfl (lv_at hl 1 rfl) ?_
    refine x_Vi (wN := fun _ => (wM G am ho rn (nI z) (nI k) sd lt ro rf (upd nb k0 0))) ⟨C0, hK, hP, hD, hS, hA⟩ 0 rfl (ci := 8) rfl rfl ((m9_here l G am ho rn (nI z) (nI k) sd lt ro rf (upd nb k0 0) z k hz (by omega) )) (cwV 0 hts (lw_V q1218 q1220 qs68 q95 q1221) rfl rfl rfl (by decide +kernel) ⟨Nat.le_of_ble_eq_true rfl, Nat.le_of_ble_eq_true rfl⟩) [0, 1, 2, 3, 4] [1, 3, 5, 7, 9] rfl (fun _ => rfl) rfl rfl hl.1 rfl (Nat.le_of_ble_eq_true rfl) dX9_readsNumber_15 ⟨(Nat.le_of_ble_eq_true rfl), (Nat.le_of_ble_eq_true rfl)⟩ (fun r_2 u_2 H locs hw_2 hP hD hS => ?_)
    have hw_2 : (hC lt z k : Int32) = r_2 := hw_2.symm
    subst hw_2
    refine lv_bipush (v := 48) hx hb dX9_readsNumber_18 (by decide) ?_
    refine lv_bipush (v := 57) hx hb dX9_readsNumber_20 (by decide) ?_
    refine x_Si (wN := fun _ => (wM G am ho rn (nI z) (nI k) sd lt ro rf (upd nb k0 0))) ⟨C0, hK, hP, hD, hS, hA⟩ ((m9_isIn l G (hC lt z k) 48 57)) (va_cwS 3 hts (lw_S q1233 q1234 q95 q1235) rfl rfl rfl (by decide +kernel) ⟨Nat.le_of_ble_eq_true rfl, Nat.le_of_ble_eq_true rfl⟩) [] [0, 2, 4, 6, 8] rfl (fun _ => rfl) rfl rfl hl.1 rfl (Nat.le_of_ble_eq_true rfl) dX9_readsNumber_22 ⟨(Nat.le_of_ble_eq_true rfl), (Nat.le_of_ble_eq_true rfl)⟩ (fun r_3 u_3 H locs hw_3 hP hD hS => ?_)
    have hw_3 : (bI (inR (hC lt z k) (48 : Int32).toInt (57 : Int32).toInt) : Int32) = r_3 := hw_3.symm
    subst hw_3
    refine lv_if_ne (tgt := 30) hx hb dX9_readsNumber_25 (by decide) (fun c_4 => ?_) (fun c_4 => ?_)
    · skip
      have hd_0 : dB (hC lt z k) = true := (by first | exact bI_n0 c_4 | exact bI_0.mp c_4)
      have hz_0 := (hC_d hd_0).1
      refine lv_aload_n hx hb dX9_readsNumber_30 rfl (lv_at hl 1 rfl) ?_
      refine va_get (D := G.1) (ci := 8) (v := .ref (am 8)) (C := RX9) (T := TX9) (N := 13) hx hb hts in_X9 hown hK.1 hP 0 rfl rfl 11 (by decide) (hts _ q1173) (fun _ h9 => h9) rfl dX9_readsNumber_31 ?_
      refine lv_iload_n hx hb dX9_readsNumber_34 rfl (lv_at hl 2 rfl) ?_
      refine lv_bipush (v := 10) hx hb dX9_readsNumber_35 (by decide) ?_
      refine lv_aload_n hx hb dX9_readsNumber_37 rfl (lv_at hl 1 rfl) ?_
      refine va_get (D := G.1) (ci := 8) (v := .ref (am 8)) (C := RX9) (T := TX9) (N := 13) hx hb hts in_X9 hown hK.1 hP 0 rfl rfl 11 (by decide) (hts _ q1173) (fun _ h9 => h9) rfl dX9_readsNumber_38 ?_
      refine lv_iload_n hx hb dX9_readsNumber_41 rfl (lv_at hl 2 rfl) ?_
      refine x_ialdn (k := k0) hx hb hK.1 hP 4 0 rfl rfl (by omega) (by decide) (v := 0) (pk_us _ _ _) dX9_readsNumber_42 ?_
      refine x_imul hx hb dX9_readsNumber_43 (v := 0) (by decide) ?_
      refine lv_aload_n hx hb dX9_readsNumber_44 rfl (lv_at hl 1 rfl) ?_
      refine x_Vi (wN := fun _ => (wM G am ho rn (nI z) (nI k) sd lt ro rf (upd nb k0 0))) ⟨C0, hK, hP, hD, hS, hA⟩ 0 rfl (ci := 8) rfl rfl ((m9_here l G am ho rn (nI z) (nI k) sd lt ro rf (upd nb k0 0) z k hz (by omega) )) (cwV 0 hts (lw_V q1218 q1220 qs68 q95 q1221) rfl rfl rfl (by decide +kernel) ⟨Nat.le_of_ble_eq_true rfl, Nat.le_of_ble_eq_true rfl⟩) [0, 1, 2, 3, 4] [1, 3, 5, 7, 9] rfl (fun _ => rfl) rfl rfl hl.1 rfl (Nat.le_of_ble_eq_true rfl) dX9_readsNumber_45 ⟨(Nat.le_of_ble_eq_true rfl), (Nat.le_of_ble_eq_true rfl)⟩ (fun r_5 u_5 H locs hw_5 hP hD hS => ?_)
      have hw_5 : (hC lt z k : Int32) = r_5 := hw_5.symm
      subst hw_5
      refine x_iadd hx hb dX9_readsNumber_48 (v := nI 0 + hC lt z k) (by rfl) ?_
      refine lv_bipush (v := 48) hx hb dX9_readsNumber_49 (by decide) ?_
      refine x_isub hx hb dX9_readsNumber_51 (v := nI (0 + dV (hC lt z k))) (rd_n hd_0) ?_
      refine x_iastn (k := k0) hx hb hK.1 hP hD hS 4 0 rfl rfl (by omega) (by decide) (g := upd (upd nb k0 0) k0 (nI (0 + dV (hC lt z k)))) rfl dX9_readsNumber_52 (fun H locs hP hD hS => ?_)
      have hP : va_P G.1 vwCl (wM G am ho rn (nI z) (nI k) sd lt ro rf (upd (upd nb k0 0) k0 (nI (0 + dV (hC lt z k))))) H := hP
      have hD : va_D A (wM G am ho rn (nI z) (nI k) sd lt ro rf (upd (upd nb k0 0) k0 (nI (0 + dV (hC lt z k))))) := hD
      have hP : va_P G.1 vwCl (wM G am ho rn (nI z) (nI k) sd lt ro rf (upd nb k0 (nI (dV (hC lt z k))))) H := by rw [upd_upd, Nat.zero_add] at hP; exact hP
      have hD : va_D A (wM G am ho rn (nI z) (nI k) sd lt ro rf (upd nb k0 (nI (dV (hC lt z k))))) := by rw [upd_upd, Nat.zero_add] at hD; exact hD
      refine lv_aload_n hx hb dX9_readsNumber_53 rfl (lv_at hl 1 rfl) ?_
      refine lv_dup hx hb dX9_readsNumber_54 rfl ?_
      refine va_get (D := G.1) (ci := 8) (v := .int (nI k)) (C := RX9) (T := TX9) (N := 13) hx hb hts in_X9 hown hK.1 hP 0 rfl rfl 10 (by decide) (hts _ q1172) (fun _ h9 => h9) rfl dX9_readsNumber_55 ?_
      refine lv_iconst (v := 1) hx hb dX9_readsNumber_58 (by decide) ?_
      refine x_iadd hx hb dX9_readsNumber_59 (v := nI (k + 1)) (nI_1 _) ?_
      refine va_put (D := G.1) (ci := 8) (v := .int (nI (k + 1))) (ty := .int) (C := RX9) (T := TX9) (N := 13) hx hb hts in_X9 tyX9 tyX9_ok nmX9 hown hK.1 hP hD hS 0 rfl rfl 10 (by decide) (hts _ q1172) (fun _ h9 => h9) rfl (by decide +kernel) rfl rfl (Nat.le_of_ble_eq_true rfl) dX9_readsNumber_60 (fun H locs hP hD hS => ?_)
      have hP : va_P G.1 vwCl (wM G am ho rn (nI z) (nI (k + 1)) sd lt ro rf (upd nb k0 (nI (dV (hC lt z k))))) H := hP
      have hD : va_D A (wM G am ho rn (nI z) (nI (k + 1)) sd lt ro rf (upd nb k0 (nI (dV (hC lt z k))))) := hD
      refine lv_iinc (v := 1) (lv' := [(3, .int 1), (0, .ref (am 0)), (1, .int (nI k0)), (2, .int 2)]) hx hb dX9_readsNumber_63 hl (k := 0) rfl rfl (by decide) rfl (fun ls hl => ?_)
      refine lv_goto (tgt := 9) hx hb dX9_readsNumber_66 (by decide) ?_
      refine lv_iload_n hx hb dX9_readsNumber_9 rfl (lv_at hl 0 rfl) ?_
      refine lv_iload_n hx hb dX9_readsNumber_10 rfl (lv_at hl 3 rfl) ?_
      refine lv_icmp_ge (tgt := 69) hx hb dX9_readsNumber_11 (by decide) (fun c_6 => ?_) (fun c_6 => ?_)
      · skip
        exact absurd c_6 (by decide)
      · skip
        refine lv_aload_n hx hb dX9_readsNumber_14 rfl (lv_at hl 1 rfl) ?_
        refine x_Vi (wN := fun _ => (wM G am ho rn (nI z) (nI (k + 1)) sd lt ro rf (upd nb k0 (nI (dV (hC lt z k)))))) ⟨C0, hK, hP, hD, hS, hA⟩ 0 rfl (ci := 8) rfl rfl ((m9_here l G am ho rn (nI z) (nI (k + 1)) sd lt ro rf (upd nb k0 (nI (dV (hC lt z k)))) z (k + 1) hz (by omega) )) (cwV 0 hts (lw_V q1218 q1220 qs68 q95 q1221) rfl rfl rfl (by decide +kernel) ⟨Nat.le_of_ble_eq_true rfl, Nat.le_of_ble_eq_true rfl⟩) [0, 1, 2, 3, 4] [1, 3, 5, 7, 9] rfl (fun _ => rfl) rfl rfl hl.1 rfl (Nat.le_of_ble_eq_true rfl) dX9_readsNumber_15 ⟨(Nat.le_of_ble_eq_true rfl), (Nat.le_of_ble_eq_true rfl)⟩ (fun r_7 u_7 H locs hw_7 hP hD hS => ?_)
        have hw_7 : (hC lt z (k + 1) : Int32) = r_7 := hw_7.symm
        subst hw_7
        refine lv_bipush (v := 48) hx hb dX9_readsNumber_18 (by decide) ?_
        refine lv_bipush (v := 57) hx hb dX9_readsNumber_20 (by decide) ?_
        refine x_Si (wN := fun _ => (wM G am ho rn (nI z) (nI (k + 1)) sd lt ro rf (upd nb k0 (nI (dV (hC lt z k)))))) ⟨C0, hK, hP, hD, hS, hA⟩ ((m9_isIn l G (hC lt z (k + 1)) 48 57)) (va_cwS 3 hts (lw_S q1233 q1234 q95 q1235) rfl rfl rfl (by decide +kernel) ⟨Nat.le_of_ble_eq_true rfl, Nat.le_of_ble_eq_true rfl⟩) [] [0, 2, 4, 6, 8] rfl (fun _ => rfl) rfl rfl hl.1 rfl (Nat.le_of_ble_eq_true rfl) dX9_readsNumber_22 ⟨(Nat.le_of_ble_eq_true rfl), (Nat.le_of_ble_eq_true rfl)⟩ (fun r_8 u_8 H locs hw_8 hP hD hS => ?_)
        have hw_8 : (bI (inR (hC lt z (k + 1)) (48 : Int32).toInt (57 : Int32).toInt) : Int32) = r_8 := hw_8.symm
        subst hw_8
        refine lv_if_ne (tgt := 30) hx hb dX9_readsNumber_25 (by decide) (fun c_9 => ?_) (fun c_9 => ?_)
        · skip
          have hd_1 : dB (hC lt z (k + 1)) = true := (by first | exact bI_n0 c_9 | exact bI_0.mp c_9)
          have hz_1 := (hC_d hd_1).1
          refine lv_aload_n hx hb dX9_readsNumber_30 rfl (lv_at hl 1 rfl) ?_
          refine va_get (D := G.1) (ci := 8) (v := .ref (am 8)) (C := RX9) (T := TX9) (N := 13) hx hb hts in_X9 hown hK.1 hP 0 rfl rfl 11 (by decide) (hts _ q1173) (fun _ h9 => h9) rfl dX9_readsNumber_31 ?_
          refine lv_iload_n hx hb dX9_readsNumber_34 rfl (lv_at hl 2 rfl) ?_
          refine lv_bipush (v := 10) hx hb dX9_readsNumber_35 (by decide) ?_
          refine lv_aload_n hx hb dX9_readsNumber_37 rfl (lv_at hl 1 rfl) ?_
          refine va_get (D := G.1) (ci := 8) (v := .ref (am 8)) (C := RX9) (T := TX9) (N := 13) hx hb hts in_X9 hown hK.1 hP 0 rfl rfl 11 (by decide) (hts _ q1173) (fun _ h9 => h9) rfl dX9_readsNumber_38 ?_
          refine lv_iload_n hx hb dX9_readsNumber_41 rfl (lv_at hl 2 rfl) ?_
          refine x_ialdn (k := k0) hx hb hK.1 hP 4 0 rfl rfl (by omega) (by decide) (v := nI (dV (hC lt z k))) (pk_us _ _ _) dX9_readsNumber_42 ?_
          refine x_imul hx hb dX9_readsNumber_43 (v := nI (10 * dV (hC lt z k))) (show (10 : Int32) * _ = _ from pk_mul 10 _) ?_
          refine lv_aload_n hx hb dX9_readsNumber_44 rfl (lv_at hl 1 rfl) ?_
          refine x_Vi (wN := fun _ => (wM G am ho rn (nI z) (nI (k + 1)) sd lt ro rf (upd nb k0 (nI (dV (hC lt z k)))))) ⟨C0, hK, hP, hD, hS, hA⟩ 0 rfl (ci := 8) rfl rfl ((m9_here l G am ho rn (nI z) (nI (k + 1)) sd lt ro rf (upd nb k0 (nI (dV (hC lt z k)))) z (k + 1) hz (by omega) )) (cwV 0 hts (lw_V q1218 q1220 qs68 q95 q1221) rfl rfl rfl (by decide +kernel) ⟨Nat.le_of_ble_eq_true rfl, Nat.le_of_ble_eq_true rfl⟩) [0, 1, 2, 3, 4] [1, 3, 5, 7, 9] rfl (fun _ => rfl) rfl rfl hl.1 rfl (Nat.le_of_ble_eq_true rfl) dX9_readsNumber_45 ⟨(Nat.le_of_ble_eq_true rfl), (Nat.le_of_ble_eq_true rfl)⟩ (fun r_10 u_10 H locs hw_10 hP hD hS => ?_)
          have hw_10 : (hC lt z (k + 1) : Int32) = r_10 := hw_10.symm
          subst hw_10
          refine x_iadd hx hb dX9_readsNumber_48 (v := (nI (10 * dV (hC lt z k))) + (hC lt z (k + 1))) rfl ?_
          refine lv_bipush (v := 48) hx hb dX9_readsNumber_49 (by decide) ?_
          refine x_isub hx hb dX9_readsNumber_51 (v := nI (10 * dV (hC lt z k) + dV (hC lt z (k + 1)))) (rd_n hd_1) ?_
          refine x_iastn (k := k0) hx hb hK.1 hP hD hS 4 0 rfl rfl (by omega) (by decide) (g := upd (upd nb k0 (nI (dV (hC lt z k)))) k0 (nI (10 * dV (hC lt z k) + dV (hC lt z (k + 1))))) rfl dX9_readsNumber_52 (fun H locs hP hD hS => ?_)
          have hP : va_P G.1 vwCl (wM G am ho rn (nI z) (nI (k + 1)) sd lt ro rf (upd (upd nb k0 (nI (dV (hC lt z k)))) k0 (nI (10 * dV (hC lt z k) + dV (hC lt z (k + 1)))))) H := hP
          have hD : va_D A (wM G am ho rn (nI z) (nI (k + 1)) sd lt ro rf (upd (upd nb k0 (nI (dV (hC lt z k)))) k0 (nI (10 * dV (hC lt z k) + dV (hC lt z (k + 1)))))) := hD
          have hP : va_P G.1 vwCl (wM G am ho rn (nI z) (nI (k + 1)) sd lt ro rf (upd nb k0 (nI (10 * dV (hC lt z k) + dV (hC lt z (k + 1)))))) H := by rw [upd_upd] at hP; exact hP
          have hD : va_D A (wM G am ho rn (nI z) (nI (k + 1)) sd lt ro rf (upd nb k0 (nI (10 * dV (hC lt z k) + dV (hC lt z (k + 1)))))) := by rw [upd_upd] at hD; exact hD
          refine lv_aload_n hx hb dX9_readsNumber_53 rfl (lv_at hl 1 rfl) ?_
          refine lv_dup hx hb dX9_readsNumber_54 rfl ?_
          refine va_get (D := G.1) (ci := 8) (v := .int (nI (k + 1))) (C := RX9) (T := TX9) (N := 13) hx hb hts in_X9 hown hK.1 hP 0 rfl rfl 10 (by decide) (hts _ q1172) (fun _ h9 => h9) rfl dX9_readsNumber_55 ?_
          refine lv_iconst (v := 1) hx hb dX9_readsNumber_58 (by decide) ?_
          refine x_iadd hx hb dX9_readsNumber_59 (v := nI ((k + 1) + 1)) (nI_1 _) ?_
          refine va_put (D := G.1) (ci := 8) (v := .int (nI ((k + 1) + 1))) (ty := .int) (C := RX9) (T := TX9) (N := 13) hx hb hts in_X9 tyX9 tyX9_ok nmX9 hown hK.1 hP hD hS 0 rfl rfl 10 (by decide) (hts _ q1172) (fun _ h9 => h9) rfl (by decide +kernel) rfl rfl (Nat.le_of_ble_eq_true rfl) dX9_readsNumber_60 (fun H locs hP hD hS => ?_)
          have hP : va_P G.1 vwCl (wM G am ho rn (nI z) (nI ((k + 1) + 1)) sd lt ro rf (upd nb k0 (nI (10 * dV (hC lt z k) + dV (hC lt z (k + 1)))))) H := hP
          have hD : va_D A (wM G am ho rn (nI z) (nI ((k + 1) + 1)) sd lt ro rf (upd nb k0 (nI (10 * dV (hC lt z k) + dV (hC lt z (k + 1)))))) := hD
          refine lv_iinc (v := 2) (lv' := [(3, .int 2), (0, .ref (am 0)), (1, .int (nI k0)), (2, .int 2)]) hx hb dX9_readsNumber_63 hl (k := 0) rfl rfl (by decide) rfl (fun ls hl => ?_)
          refine lv_goto (tgt := 9) hx hb dX9_readsNumber_66 (by decide) ?_
          refine lv_iload_n hx hb dX9_readsNumber_9 rfl (lv_at hl 0 rfl) ?_
          refine lv_iload_n hx hb dX9_readsNumber_10 rfl (lv_at hl 3 rfl) ?_
          refine lv_icmp_ge (tgt := 69) hx hb dX9_readsNumber_11 (by decide) (fun c_11 => ?_) (fun c_11 => ?_)
          · skip
            refine lv_iconst (v := 1) hx hb dX9_readsNumber_69 (by decide) ?_
            refine hret _ _ _ _ _ _ 1 (upd nb k0 (nI (10 * dV (hC lt z k) + dV (hC lt z (k + 1)))), ((k + 1) + 1)) dX9_readsNumber_70 ?_ hP hD hS (Nat.le_of_ble_eq_true rfl) (Nat.le_of_ble_eq_true rfl)
            exact Or.inl ⟨rfl, hd_0, hd_1, rfl, rfl⟩
          · skip
            exact absurd c_11 (by decide)
        · skip
          have hd_1 : dB (hC lt z (k + 1)) = false := (by first | exact bI_n0 c_9 | exact bI_0.mp c_9)
          refine lv_iconst (v := 0) hx hb dX9_readsNumber_28 (by decide) ?_
          refine hret _ _ _ _ _ _ 0 (upd nb k0 (nI (dV (hC lt z k))), (k + 1)) dX9_readsNumber_29 ?_ hP hD hS (Nat.le_of_ble_eq_true rfl) (Nat.le_of_ble_eq_true rfl)
          exact Or.inr ⟨rfl, Or.inr ⟨hd_0, hd_1, rfl⟩⟩
    · skip
      have hd_0 : dB (hC lt z k) = false := (by first | exact bI_n0 c_4 | exact bI_0.mp c_4)
      refine lv_iconst (v := 0) hx hb dX9_readsNumber_28 (by decide) ?_
      refine hret _ _ _ _ _ _ 0 (upd nb k0 0, k) dX9_readsNumber_29 ?_ hP hD hS (Nat.le_of_ble_eq_true rfl) (Nat.le_of_ble_eq_true rfl)
      exact Or.inr ⟨rfl, Or.inl ⟨hd_0, rfl⟩⟩
set_option maxHeartbeats 4000000 in
set_option maxRecDepth 100000 in
theorem m9_kindBy (l : Launch) (G : xG) (x : Int32) : xCi l G yX9_kindBy cX9_kindBy 1 (some .int) ({ frames := 0, cells := 0, slots := 0, locals := 0 } : Room) [.int x] ([] : va_W) (S := Unit) (fun v _ => v = kM x) (fun _ => []) := by
  refine x_openi (by decide) (Nat.le_of_ble_eq_true rfl) (fun _ _ _ => rfl) ?_
  intro p e s m args below meth c A Q ls C0 hK hP hD hA hl hret
  obtain ⟨hx, hb, hml, hown, hts⟩ := id C0
  have hS : va_S A s.heap s.heap [] := va_S.rf
  have hP : va_P G.1 vwCl ([] : va_W) s.heap := hP
  have hD : va_D A ([] : va_W) := hD
  have hl : lv_has ls 1 [(0, .int x)] := hl
  refine lv_iload_n hx hb dX9_kindBy_0 rfl (lv_at hl 0 rfl) ?_
  by_cases e_1_0 : x = 98
  · skip
    refine lv_lookup (off := 69) (tgt := 70) hx hb dX9_kindBy_1 (by decide) (by rw [e_1_0]; decide) (by decide) ?_
    refine lv_iconst (v := 5) hx hb dX9_kindBy_70 (by decide) ?_
    refine hret _ _ _ _ _ _ 5 () dX9_kindBy_71 ?_ hP hD hS (Nat.le_of_ble_eq_true rfl) (Nat.le_of_ble_eq_true rfl)
    unfold kM
    rw [if_pos e_1_0]
  · skip
    by_cases e_1_1 : x = 99
    · skip
      refine lv_lookup (off := 65) (tgt := 66) hx hb dX9_kindBy_1 (by decide) (by rw [e_1_1]; decide) (by decide) ?_
      refine lv_iconst (v := 3) hx hb dX9_kindBy_66 (by decide) ?_
      refine hret _ _ _ _ _ _ 3 () dX9_kindBy_67 ?_ hP hD hS (Nat.le_of_ble_eq_true rfl) (Nat.le_of_ble_eq_true rfl)
      unfold kM
      rw [if_neg e_1_0, if_pos e_1_1]
    · skip
      by_cases e_1_2 : x = 103
      · skip
        refine lv_lookup (off := 61) (tgt := 62) hx hb dX9_kindBy_1 (by decide) (by rw [e_1_2]; decide) (by decide) ?_
        refine lv_iconst (v := 1) hx hb dX9_kindBy_62 (by decide) ?_
        refine hret _ _ _ _ _ _ 1 () dX9_kindBy_63 ?_ hP hD hS (Nat.le_of_ble_eq_true rfl) (Nat.le_of_ble_eq_true rfl)
        unfold kM
        rw [if_neg e_1_0, if_neg e_1_1, if_pos e_1_2]
      · skip
        by_cases e_1_3 : x = 112
        · skip
          refine lv_lookup (off := 63) (tgt := 64) hx hb dX9_kindBy_1 (by decide) (by rw [e_1_3]; decide) (by decide) ?_
          refine lv_iconst (v := 2) hx hb dX9_kindBy_64 (by decide) ?_
          refine hret _ _ _ _ _ _ 2 () dX9_kindBy_65 ?_ hP hD hS (Nat.le_of_ble_eq_true rfl) (Nat.le_of_ble_eq_true rfl)
          unfold kM
          rw [if_neg e_1_0, if_neg e_1_1, if_neg e_1_2, if_pos e_1_3]
        · skip
          by_cases e_1_4 : x = 116
          · skip
            refine lv_lookup (off := 59) (tgt := 60) hx hb dX9_kindBy_1 (by decide) (by rw [e_1_4]; decide) (by decide) ?_
            refine lv_iconst (v := 0) hx hb dX9_kindBy_60 (by decide) ?_
            refine hret _ _ _ _ _ _ 0 () dX9_kindBy_61 ?_ hP hD hS (Nat.le_of_ble_eq_true rfl) (Nat.le_of_ble_eq_true rfl)
            unfold kM
            rw [if_neg e_1_0, if_neg e_1_1, if_neg e_1_2, if_neg e_1_3, if_pos e_1_4]
          · skip
            by_cases e_1_5 : x = 119
            · skip
              refine lv_lookup (off := 67) (tgt := 68) hx hb dX9_kindBy_1 (by decide) (by rw [e_1_5]; decide) (by decide) ?_
              refine lv_iconst (v := 4) hx hb dX9_kindBy_68 (by decide) ?_
              refine hret _ _ _ _ _ _ 4 () dX9_kindBy_69 ?_ hP hD hS (Nat.le_of_ble_eq_true rfl) (Nat.le_of_ble_eq_true rfl)
              unfold kM
              rw [if_neg e_1_0, if_neg e_1_1, if_neg e_1_2, if_neg e_1_3, if_neg e_1_4, if_pos e_1_5]
            · skip
              refine lv_lookup (off := 71) (tgt := 72) hx hb dX9_kindBy_1 (by decide) (by show Op.lookupswitch.offset [(98, 69), (99, 65), (103, 61), (112, 63), (116, 59), (119, 67)] 71 _ = _; rw [lv_osw (a := 98) e_1_0 rfl, lv_osw (a := 99) e_1_1 rfl, lv_osw (a := 103) e_1_2 rfl, lv_osw (a := 112) e_1_3 rfl, lv_osw (a := 116) e_1_4 rfl, lv_osw (a := 119) e_1_5 rfl]; rfl) (by decide) ?_
              refine lv_bipush (v := (-9)) hx hb dX9_kindBy_72 (by decide) ?_
              refine hret _ _ _ _ _ _ (-9) () dX9_kindBy_74 ?_ hP hD hS (Nat.le_of_ble_eq_true rfl) (Nat.le_of_ble_eq_true rfl)
              unfold kM
              rw [if_neg e_1_0, if_neg e_1_1, if_neg e_1_2, if_neg e_1_3, if_neg e_1_4, if_neg e_1_5]
set_option maxHeartbeats 4000000 in
set_option maxRecDepth 100000 in
theorem m9_readsKind (l : Launch) (G : xG) (am : Nat → Nat) (ho rn ln pl sd : Int32) (lt ro rf nb : Nat → Int32) (z k : Nat) (hz : z ≤ 96) (hk9 : k < 2 ^ 29) : xCi l G yX9_readsKind cX9_readsKind 1 (some .boolean) ({ frames := 1, cells := 0, slots := 0, locals := 20 } : Room) [.ref (am 0)] (wM G am ho rn (nI z) (nI k) sd lt ro rf nb) (S := ((Nat → Int32) × Nat)) (fun v u => (v = 1 ∧ kB (hC lt z k) = true ∧ u.1 = upd nb 0 (nI (kV (hC lt z k))) ∧ u.2 = k + 1) ∨ (v = 0 ∧ kB (hC lt z k) = false ∧ u.2 = k)) (fun u => (wM G am ho rn (nI z) (nI u.2) sd lt ro rf u.1)) := by
  refine x_openi (by decide) (Nat.le_of_ble_eq_true rfl) (fun _ _ h => by rcases h with ⟨h, -⟩ | ⟨h, -⟩ <;> rw [h] <;> decide) ?_
  intro p e s m args below meth c A Q ls C0 hK hP hD hA hl hret
  obtain ⟨hx, hb, hml, hown, hts⟩ := id C0
  have hS : va_S A s.heap s.heap [] := va_S.rf
  have hP : va_P G.1 vwCl (wM G am ho rn (nI z) (nI k) sd lt ro rf nb) s.heap := hP
  have hD : va_D A (wM G am ho rn (nI z) (nI k) sd lt ro rf nb) := hD
  have hl : lv_has ls 1 [(0, .ref (am 0))] := hl
  refine lv_aload_n hx hb dX9_readsKind_0 rfl (lv_at hl 0 rfl) ?_
  refine va_get (D := G.1) (ci := 8) (v := .ref (am 8)) (C := RX9) (T := TX9) (N := 13) hx hb hts in_X9 hown hK.1 hP 0 rfl rfl 11 (by decide) (hts _ q1173) (fun _ h9 => h9) rfl dX9_readsKind_1 ?_
  refine lv_iconst (v := 0) hx hb dX9_readsKind_4 (by decide) ?_
  refine lv_aload_n hx hb dX9_readsKind_5 rfl (lv_at hl 0 rfl) ?_
  refine x_Vi (wN := fun _ => (wM G am ho rn (nI z) (nI k) sd lt ro rf nb)) ⟨C0, hK, hP, hD, hS, hA⟩ 0 rfl (ci := 8) rfl rfl ((m9_here l G am ho rn (nI z) (nI k) sd lt ro rf nb z k hz (by omega) )) (cwV 0 hts (lw_V q1218 q1220 qs68 q95 q1221) rfl rfl rfl (by decide +kernel) ⟨Nat.le_of_ble_eq_true rfl, Nat.le_of_ble_eq_true rfl⟩) [0, 1, 2, 3, 4] [1, 3, 5, 7, 9] rfl (fun _ => rfl) rfl rfl hl.1 rfl (Nat.le_of_ble_eq_true rfl) dX9_readsKind_6 ⟨(Nat.le_of_ble_eq_true rfl), (Nat.le_of_ble_eq_true rfl)⟩ (fun r_1 u_1 H locs hw_1 hP hD hS => ?_)
  have hw_1 : (hC lt z k : Int32) = r_1 := hw_1.symm
  subst hw_1
  refine x_Si (wN := fun _ => (wM G am ho rn (nI z) (nI k) sd lt ro rf nb)) ⟨C0, hK, hP, hD, hS, hA⟩ ((m9_kindBy l G (hC lt z k))) (va_cwS 1 hts (lw_S q1226 q1227 q95 q1228) rfl rfl rfl (by decide +kernel) ⟨Nat.le_of_ble_eq_true rfl, Nat.le_of_ble_eq_true rfl⟩) [] [0, 2, 4, 6, 8] rfl (fun _ => rfl) rfl rfl hl.1 rfl (Nat.le_of_ble_eq_true rfl) dX9_readsKind_9 ⟨(Nat.le_of_ble_eq_true rfl), (Nat.le_of_ble_eq_true rfl)⟩ (fun r_2 u_2 H locs hw_2 hP hD hS => ?_)
  have hw_2 : (kM (hC lt z k) : Int32) = r_2 := hw_2.symm
  subst hw_2
  rcases kM_c (hC lt z k) with ⟨hkb, ekm, hkv⟩ | ⟨hkb, ekm⟩
  · skip
    rw [ekm]
    refine x_iastn (k := 0) hx hb hK.1 hP hD hS 4 0 rfl rfl (by decide) (by decide) (g := upd nb 0 (nI (kV (hC lt z k)))) rfl dX9_readsKind_12 (fun H locs hP hD hS => ?_)
    have hP : va_P G.1 vwCl (wM G am ho rn (nI z) (nI k) sd lt ro rf (upd nb 0 (nI (kV (hC lt z k))))) H := hP
    have hD : va_D A (wM G am ho rn (nI z) (nI k) sd lt ro rf (upd nb 0 (nI (kV (hC lt z k))))) := hD
    refine lv_aload_n hx hb dX9_readsKind_13 rfl (lv_at hl 0 rfl) ?_
    refine lv_dup hx hb dX9_readsKind_14 rfl ?_
    refine va_get (D := G.1) (ci := 8) (v := .int (nI k)) (C := RX9) (T := TX9) (N := 13) hx hb hts in_X9 hown hK.1 hP 0 rfl rfl 10 (by decide) (hts _ q1172) (fun _ h9 => h9) rfl dX9_readsKind_15 ?_
    refine lv_aload_n hx hb dX9_readsKind_18 rfl (lv_at hl 0 rfl) ?_
    refine va_get (D := G.1) (ci := 8) (v := .ref (am 8)) (C := RX9) (T := TX9) (N := 13) hx hb hts in_X9 hown hK.1 hP 0 rfl rfl 11 (by decide) (hts _ q1173) (fun _ h9 => h9) rfl dX9_readsKind_19 ?_
    refine lv_iconst (v := 0) hx hb dX9_readsKind_22 (by decide) ?_
    refine x_ialdn (k := 0) hx hb hK.1 hP 4 0 rfl rfl (by decide) (by decide) (v := nI (kV (hC lt z k))) (pk_us _ _ _) dX9_readsKind_23 ?_
    refine lv_if_ge (tgt := 31) hx hb dX9_readsKind_24 (by decide) (fun c_3 => ?_) (fun c_3 => ?_)
    · skip
      have g_3 := (nI_leI (by omega) (by omega)).mp (show nI (kV (hC lt z k)) ≥ nI 0 from c_3)
      refine lv_iconst (v := 1) hx hb dX9_readsKind_31 (by decide) ?_
      refine x_iadd hx hb dX9_readsKind_32 (v := nI (k + 1)) (nI_1 _) ?_
      refine va_put (D := G.1) (ci := 8) (v := .int (nI (k + 1))) (ty := .int) (C := RX9) (T := TX9) (N := 13) hx hb hts in_X9 tyX9 tyX9_ok nmX9 hown hK.1 hP hD hS 0 rfl rfl 10 (by decide) (hts _ q1172) (fun _ h9 => h9) rfl (by decide +kernel) rfl rfl (Nat.le_of_ble_eq_true rfl) dX9_readsKind_33 (fun H locs hP hD hS => ?_)
      have hP : va_P G.1 vwCl (wM G am ho rn (nI z) (nI (k + 1)) sd lt ro rf (upd nb 0 (nI (kV (hC lt z k))))) H := hP
      have hD : va_D A (wM G am ho rn (nI z) (nI (k + 1)) sd lt ro rf (upd nb 0 (nI (kV (hC lt z k))))) := hD
      refine lv_aload_n hx hb dX9_readsKind_36 rfl (lv_at hl 0 rfl) ?_
      refine va_get (D := G.1) (ci := 8) (v := .ref (am 8)) (C := RX9) (T := TX9) (N := 13) hx hb hts in_X9 hown hK.1 hP 0 rfl rfl 11 (by decide) (hts _ q1173) (fun _ h9 => h9) rfl dX9_readsKind_37 ?_
      refine lv_iconst (v := 0) hx hb dX9_readsKind_40 (by decide) ?_
      refine x_ialdn (k := 0) hx hb hK.1 hP 4 0 rfl rfl (by decide) (by decide) (v := nI (kV (hC lt z k))) (pk_us _ _ _) dX9_readsKind_41 ?_
      refine lv_if_lt (tgt := 49) hx hb dX9_readsKind_42 (by decide) (fun c_4 => ?_) (fun c_4 => ?_)
      · skip
        exact absurd c_4 (nI_nn (by omega))
      · skip
        have g_4 := mt (nI_ltI (by omega) (by omega)).mpr (show ¬ (nI (kV (hC lt z k)) < nI 0) from c_4)
        refine lv_iconst (v := 1) hx hb dX9_readsKind_45 (by decide) ?_
        refine lv_goto (tgt := 50) hx hb dX9_readsKind_46 (by decide) ?_
        refine hret _ _ _ _ _ _ 1 (upd nb 0 (nI (kV (hC lt z k))), (k + 1)) dX9_readsKind_50 ?_ hP hD hS (Nat.le_of_ble_eq_true rfl) (Nat.le_of_ble_eq_true rfl)
        exact Or.inl ⟨rfl, hkb, rfl, rfl⟩
    · skip
      exact absurd (nI_pos' (by omega)) c_3
  · skip
    rw [ekm]
    refine x_iastn (k := 0) hx hb hK.1 hP hD hS 4 0 rfl rfl (by decide) (by decide) (g := upd nb 0 (-9)) rfl dX9_readsKind_12 (fun H locs hP hD hS => ?_)
    have hP : va_P G.1 vwCl (wM G am ho rn (nI z) (nI k) sd lt ro rf (upd nb 0 (-9))) H := hP
    have hD : va_D A (wM G am ho rn (nI z) (nI k) sd lt ro rf (upd nb 0 (-9))) := hD
    refine lv_aload_n hx hb dX9_readsKind_13 rfl (lv_at hl 0 rfl) ?_
    refine lv_dup hx hb dX9_readsKind_14 rfl ?_
    refine va_get (D := G.1) (ci := 8) (v := .int (nI k)) (C := RX9) (T := TX9) (N := 13) hx hb hts in_X9 hown hK.1 hP 0 rfl rfl 10 (by decide) (hts _ q1172) (fun _ h9 => h9) rfl dX9_readsKind_15 ?_
    refine lv_aload_n hx hb dX9_readsKind_18 rfl (lv_at hl 0 rfl) ?_
    refine va_get (D := G.1) (ci := 8) (v := .ref (am 8)) (C := RX9) (T := TX9) (N := 13) hx hb hts in_X9 hown hK.1 hP 0 rfl rfl 11 (by decide) (hts _ q1173) (fun _ h9 => h9) rfl dX9_readsKind_19 ?_
    refine lv_iconst (v := 0) hx hb dX9_readsKind_22 (by decide) ?_
    refine x_ialdn (k := 0) hx hb hK.1 hP 4 0 rfl rfl (by decide) (by decide) (v := -9) (pk_us _ _ _) dX9_readsKind_23 ?_
    refine lv_if_ge (tgt := 31) hx hb dX9_readsKind_24 (by decide) (fun c_5 => ?_) (fun c_5 => ?_)
    · skip
      exact absurd c_5 (by decide)
    · skip
      refine lv_iconst (v := 0) hx hb dX9_readsKind_27 (by decide) ?_
      refine lv_goto (tgt := 32) hx hb dX9_readsKind_28 (by decide) ?_
      refine x_iadd hx hb dX9_readsKind_32 (v := nI k) (Int32.add_zero _) ?_
      refine va_put (D := G.1) (ci := 8) (v := .int (nI k)) (ty := .int) (C := RX9) (T := TX9) (N := 13) hx hb hts in_X9 tyX9 tyX9_ok nmX9 hown hK.1 hP hD hS 0 rfl rfl 10 (by decide) (hts _ q1172) (fun _ h9 => h9) rfl (by decide +kernel) rfl rfl (Nat.le_of_ble_eq_true rfl) dX9_readsKind_33 (fun H locs hP hD hS => ?_)
      have hP : va_P G.1 vwCl (wM G am ho rn (nI z) (nI k) sd lt ro rf (upd nb 0 (-9))) H := hP
      have hD : va_D A (wM G am ho rn (nI z) (nI k) sd lt ro rf (upd nb 0 (-9))) := hD
      refine lv_aload_n hx hb dX9_readsKind_36 rfl (lv_at hl 0 rfl) ?_
      refine va_get (D := G.1) (ci := 8) (v := .ref (am 8)) (C := RX9) (T := TX9) (N := 13) hx hb hts in_X9 hown hK.1 hP 0 rfl rfl 11 (by decide) (hts _ q1173) (fun _ h9 => h9) rfl dX9_readsKind_37 ?_
      refine lv_iconst (v := 0) hx hb dX9_readsKind_40 (by decide) ?_
      refine x_ialdn (k := 0) hx hb hK.1 hP 4 0 rfl rfl (by decide) (by decide) (v := -9) (pk_us _ _ _) dX9_readsKind_41 ?_
      refine lv_if_lt (tgt := 49) hx hb dX9_readsKind_42 (by decide) (fun c_6 => ?_) (fun c_6 => ?_)
      · skip
        refine lv_iconst (v := 0) hx hb dX9_readsKind_49 (by decide) ?_
        refine hret _ _ _ _ _ _ 0 (upd nb 0 (-9), k) dX9_readsKind_50 ?_ hP hD hS (Nat.le_of_ble_eq_true rfl) (Nat.le_of_ble_eq_true rfl)
        exact Or.inr ⟨rfl, hkb, rfl⟩
      · skip
        exact absurd c_6 (by decide)
set_option maxHeartbeats 4000000 in
set_option maxRecDepth 100000 in
theorem m9_readsStatement (l : Launch) (G : xG) (am : Nat → Nat) (ho rn ln pl sd : Int32) (lt ro rf nb : Nat → Int32) (z k : Nat) (hz : z ≤ 96) (hk9 : k < 2 ^ 28) : xCi l G yX9_readsStatement cX9_readsStatement 3 (some .boolean) ({ frames := 2, cells := 0, slots := 0, locals := 45 } : Room) [.ref (am 0)] (wM G am ho rn (nI z) (nI k) sd lt ro rf nb) (S := ((Nat → Int32) × Nat)) (fun v u => v = bI (sR lt z k).1 ∧ u.2 = (sR lt z k).2 ∧ ((sR lt z k).1 = true → nbOk (sT lt z k) u.1)) (fun u => (wM G am ho rn (nI z) (nI u.2) sd lt ro rf u.1)) := by
  refine x_openi (by decide) (Nat.le_of_ble_eq_true rfl) (fun _ _ h => by rw [h.1]; exact bI_z _) ?_
  intro p e s m args below meth c A Q ls C0 hK hP hD hA hl hret
  obtain ⟨hx, hb, hml, hown, hts⟩ := id C0
  have hS : va_S A s.heap s.heap [] := va_S.rf
  have hP : va_P G.1 vwCl (wM G am ho rn (nI z) (nI k) sd lt ro rf nb) s.heap := hP
  have hD : va_D A (wM G am ho rn (nI z) (nI k) sd lt ro rf nb) := hD
  have hl : lv_has ls 3 [(0, .ref (am 0))] := hl
  refine lv_aload_n hx hb dX9_readsStatement_0 rfl (lv_at hl 0 rfl) ?_
  refine x_Vi (wN := fun _ => (wM G am ho rn (nI z) (nI k) sd lt ro rf nb)) ⟨C0, hK, hP, hD, hS, hA⟩ 0 rfl (ci := 8) rfl rfl ((m9_here l G am ho rn (nI z) (nI k) sd lt ro rf nb z k hz (by omega) )) (cwV 0 hts (lw_V q1218 q1220 qs68 q95 q1221) rfl rfl rfl (by decide +kernel) ⟨Nat.le_of_ble_eq_true rfl, Nat.le_of_ble_eq_true rfl⟩) [0, 1, 2, 3, 4] [1, 3, 5, 7, 9] rfl (fun _ => rfl) rfl rfl hl.1 rfl (Nat.le_of_ble_eq_true rfl) dX9_readsStatement_1 ⟨(Nat.le_of_ble_eq_true rfl), (Nat.le_of_ble_eq_true rfl)⟩ (fun r_1 u_1 H locs hw_1 hP hD hS => ?_)
  have hw_1 : (hC lt z k : Int32) = r_1 := hw_1.symm
  subst hw_1
  refine lv_istore_n (lv' := [(1, .int (hC lt z k)), (0, .ref (am 0))]) hx hb dX9_readsStatement_4 rfl hl (by decide) rfl (fun ls hl => ?_)
  refine lv_aload_n hx hb dX9_readsStatement_5 rfl (lv_at hl 1 rfl) ?_
  refine lv_dup hx hb dX9_readsStatement_6 rfl ?_
  refine va_get (D := G.1) (ci := 8) (v := .int (nI k)) (C := RX9) (T := TX9) (N := 13) hx hb hts in_X9 hown hK.1 hP 0 rfl rfl 10 (by decide) (hts _ q1172) (fun _ h9 => h9) rfl dX9_readsStatement_7 ?_
  refine lv_iconst (v := 1) hx hb dX9_readsStatement_10 (by decide) ?_
  refine x_iadd hx hb dX9_readsStatement_11 (v := nI (k + 1)) (nI_1 _) ?_
  refine va_put (D := G.1) (ci := 8) (v := .int (nI (k + 1))) (ty := .int) (C := RX9) (T := TX9) (N := 13) hx hb hts in_X9 tyX9 tyX9_ok nmX9 hown hK.1 hP hD hS 0 rfl rfl 10 (by decide) (hts _ q1172) (fun _ h9 => h9) rfl (by decide +kernel) rfl rfl (Nat.le_of_ble_eq_true rfl) dX9_readsStatement_12 (fun H locs hP hD hS => ?_)
  have hP : va_P G.1 vwCl (wM G am ho rn (nI z) (nI (k + 1)) sd lt ro rf nb) H := hP
  have hD : va_D A (wM G am ho rn (nI z) (nI (k + 1)) sd lt ro rf nb) := hD
  refine lv_iload_n hx hb dX9_readsStatement_15 rfl (lv_at hl 0 rfl) ?_
  rcases ts15 (hC lt z k) with eo | ⟨j, hj, ej⟩
  · skip
    refine lv_tableOut (tgt := 206) hx hb dX9_readsStatement_16 eo (by decide) ?_
    have hno : sLt (hC lt z k) = false := decide_eq_false (fun z9 => by rcases z9 with q | q | q | q | q | q <;> rw [q] at eo <;> exact absurd eo (by decide))
    refine lv_aload_n hx hb dX9_readsStatement_206 rfl (lv_at hl 1 rfl) ?_
    refine lv_dup hx hb dX9_readsStatement_207 rfl ?_
    refine va_get (D := G.1) (ci := 8) (v := .int (nI (k + 1))) (C := RX9) (T := TX9) (N := 13) hx hb hts in_X9 hown hK.1 hP 0 rfl rfl 10 (by decide) (hts _ q1172) (fun _ h9 => h9) rfl dX9_readsStatement_208 ?_
    refine lv_iconst (v := 1) hx hb dX9_readsStatement_211 (by decide) ?_
    refine x_isub hx hb dX9_readsStatement_212 (v := nI k) (nI_prd _) ?_
    refine va_put (D := G.1) (ci := 8) (v := .int (nI k)) (ty := .int) (C := RX9) (T := TX9) (N := 13) hx hb hts in_X9 tyX9 tyX9_ok nmX9 hown hK.1 hP hD hS 0 rfl rfl 10 (by decide) (hts _ q1172) (fun _ h9 => h9) rfl (by decide +kernel) rfl rfl (Nat.le_of_ble_eq_true rfl) dX9_readsStatement_213 (fun H locs hP hD hS => ?_)
    have hP : va_P G.1 vwCl (wM G am ho rn (nI z) (nI k) sd lt ro rf nb) H := hP
    have hD : va_D A (wM G am ho rn (nI z) (nI k) sd lt ro rf nb) := hD
    refine lv_iconst (v := 0) hx hb dX9_readsStatement_216 (by decide) ?_
    refine hret _ _ _ _ _ _ 0 (nb, k) dX9_readsStatement_217 ?_ hP hD hS (Nat.le_of_ble_eq_true rfl) (Nat.le_of_ble_eq_true rfl)
    exact ⟨by rw [sR_no hno] <;> rfl, by rw [sR_no hno] <;> rfl, fun q => by rw [sR_no hno] at q; cases q⟩
  · skip
    rcases (show j = 0 ∨ j = 1 ∨ j = 2 ∨ j = 3 ∨ j = 4 ∨ j = 5 ∨ j = 6 ∨ j = 7 ∨ j = 8 ∨ j = 9 ∨ j = 10 ∨ j = 11 ∨ j = 12 ∨ j = 13 ∨ j = 14 by omega) with rfl | rfl | rfl | rfl | rfl | rfl | rfl | rfl | rfl | rfl | rfl | rfl | rfl | rfl | rfl
    · skip
      have ej : hC lt z k = 102 := ej
      refine lv_tableIn (tgt := 186) hx hb dX9_readsStatement_16 (by rw [ej]; decide) (by rw [ej]; decide) (by rw [ej]; rfl) (by decide) ?_
      refine lv_aload_n hx hb dX9_readsStatement_186 rfl (lv_at hl 1 rfl) ?_
      refine lv_iconst (v := 0) hx hb dX9_readsStatement_187 (by decide) ?_
      refine lv_iconst (v := 1) hx hb dX9_readsStatement_188 (by decide) ?_
      refine x_Vi (wN := fun u_2 => (wM G am ho rn (nI z) (nI u_2.2) sd lt ro rf u_2.1)) ⟨C0, hK, hP, hD, hS, hA⟩ 0 rfl (ci := 8) rfl rfl ((m9_rn1 l G am ho rn (nI z) (nI (k + 1)) sd lt ro rf nb z (k + 1) hz (by omega) 0 (by omega))) (cwV 2 hts (lw_V q1229 q1231 qs70 q95 q1232) rfl rfl rfl (by decide +kernel) ⟨Nat.le_of_ble_eq_true rfl, Nat.le_of_ble_eq_true rfl⟩) [0, 1, 2, 3, 4] [1, 3, 5, 7, 9] rfl (fun _ => rfl) rfl rfl hl.1 rfl (Nat.le_of_ble_eq_true rfl) dX9_readsStatement_189 ⟨(Nat.le_of_ble_eq_true rfl), (Nat.le_of_ble_eq_true rfl)⟩ (fun r_2 u_2 H locs hw_2 hP hD hS => ?_)
      have hP : va_P G.1 vwCl (wM G am ho rn (nI z) (nI u_2.2) sd lt ro rf u_2.1) H := hP
      have hD : va_D A (wM G am ho rn (nI z) (nI u_2.2) sd lt ro rf u_2.1) := hD
      rcases hw_2 with ⟨er, hb_2, e1_2, e2_2⟩ | ⟨er, hb_2, e2_2⟩
      · skip
        subst er
        rw [e1_2, e2_2] at hP hD
        have hP : va_P G.1 vwCl (wM G am ho rn (nI z) (nI ((k + 1) + 1)) sd lt ro rf (upd nb 0 (nI (dV (hC lt z (k + 1)))))) H := hP
        have hD : va_D A (wM G am ho rn (nI z) (nI ((k + 1) + 1)) sd lt ro rf (upd nb 0 (nI (dV (hC lt z (k + 1)))))) := hD
        refine lv_istore_n (lv' := [(2, .int 1), (1, .int (hC lt z k)), (0, .ref (am 0))]) hx hb dX9_readsStatement_192 rfl hl (by decide) rfl (fun ls hl => ?_)
        refine lv_goto (tgt := 218) hx hb dX9_readsStatement_193 (by decide) ?_
        refine lv_iload_n hx hb dX9_readsStatement_218 rfl (lv_at hl 0 rfl) ?_
        refine lv_if_eq (tgt := 231) hx hb dX9_readsStatement_219 (by decide) (fun c_3 => ?_) (fun c_3 => ?_)
        · skip
          exact absurd c_3 (by decide)
        · skip
          refine lv_aload_n hx hb dX9_readsStatement_222 rfl (lv_at hl 2 rfl) ?_
          refine x_Vi (wN := fun _ => (wM G am ho rn (nI z) (nI ((k + 1) + 1)) sd lt ro rf (upd nb 0 (nI (dV (hC lt z (k + 1))))))) ⟨C0, hK, hP, hD, hS, hA⟩ 0 rfl (ci := 8) rfl rfl ((m9_here l G am ho rn (nI z) (nI ((k + 1) + 1)) sd lt ro rf (upd nb 0 (nI (dV (hC lt z (k + 1))))) z ((k + 1) + 1) hz (by omega) )) (cwV 0 hts (lw_V q1218 q1220 qs68 q95 q1221) rfl rfl rfl (by decide +kernel) ⟨Nat.le_of_ble_eq_true rfl, Nat.le_of_ble_eq_true rfl⟩) [0, 1, 2, 3, 4] [1, 3, 5, 7, 9] rfl (fun _ => rfl) rfl rfl hl.1 rfl (Nat.le_of_ble_eq_true rfl) dX9_readsStatement_223 ⟨(Nat.le_of_ble_eq_true rfl), (Nat.le_of_ble_eq_true rfl)⟩ (fun r_4 u_4 H locs hw_4 hP hD hS => ?_)
          have hw_4 : (hC lt z ((k + 1) + 1) : Int32) = r_4 := hw_4.symm
          subst hw_4
          refine lv_bipush (v := 59) hx hb dX9_readsStatement_226 (by decide) ?_
          refine lv_icmp_eq (tgt := 233) hx hb dX9_readsStatement_228 (by decide) (fun c_5 => ?_) (fun c_5 => ?_)
          · skip
            refine lv_aload_n hx hb dX9_readsStatement_233 rfl (lv_at hl 2 rfl) ?_
            refine lv_dup hx hb dX9_readsStatement_234 rfl ?_
            refine va_get (D := G.1) (ci := 8) (v := .int (nI ((k + 1) + 1))) (C := RX9) (T := TX9) (N := 13) hx hb hts in_X9 hown hK.1 hP 0 rfl rfl 10 (by decide) (hts _ q1172) (fun _ h9 => h9) rfl dX9_readsStatement_235 ?_
            refine lv_iconst (v := 1) hx hb dX9_readsStatement_238 (by decide) ?_
            refine x_iadd hx hb dX9_readsStatement_239 (v := nI (((k + 1) + 1) + 1)) (nI_1 _) ?_
            refine va_put (D := G.1) (ci := 8) (v := .int (nI (((k + 1) + 1) + 1))) (ty := .int) (C := RX9) (T := TX9) (N := 13) hx hb hts in_X9 tyX9 tyX9_ok nmX9 hown hK.1 hP hD hS 0 rfl rfl 10 (by decide) (hts _ q1172) (fun _ h9 => h9) rfl (by decide +kernel) rfl rfl (Nat.le_of_ble_eq_true rfl) dX9_readsStatement_240 (fun H locs hP hD hS => ?_)
            have hP : va_P G.1 vwCl (wM G am ho rn (nI z) (nI (((k + 1) + 1) + 1)) sd lt ro rf (upd nb 0 (nI (dV (hC lt z (k + 1)))))) H := hP
            have hD : va_D A (wM G am ho rn (nI z) (nI (((k + 1) + 1) + 1)) sd lt ro rf (upd nb 0 (nI (dV (hC lt z (k + 1)))))) := hD
            refine lv_iconst (v := 1) hx hb dX9_readsStatement_243 (by decide) ?_
            refine hret _ _ _ _ _ _ 1 (upd nb 0 (nI (dV (hC lt z (k + 1)))), (((k + 1) + 1) + 1)) dX9_readsStatement_244 ?_ hP hD hS (Nat.le_of_ble_eq_true rfl) (Nat.le_of_ble_eq_true rfl)
            refine ⟨by rw [sR_f ej, ck_t hb_2, ck_t (show cB _ = true from decide_eq_true c_5)] <;> rfl, by rw [sR_f ej, ck_t hb_2, ck_t (show cB _ = true from decide_eq_true c_5)] <;> rfl, fun _ => ?_⟩
            rw [sT_f ej]
            exact rfl
          · skip
            refine lv_iconst (v := 0) hx hb dX9_readsStatement_231 (by decide) ?_
            refine hret _ _ _ _ _ _ 0 (upd nb 0 (nI (dV (hC lt z (k + 1)))), ((k + 1) + 1)) dX9_readsStatement_232 ?_ hP hD hS (Nat.le_of_ble_eq_true rfl) (Nat.le_of_ble_eq_true rfl)
            exact ⟨by rw [sR_f ej, ck_t hb_2, ck_f (show cB _ = false from decide_eq_false c_5)] <;> rfl, by rw [sR_f ej, ck_t hb_2, ck_f (show cB _ = false from decide_eq_false c_5)] <;> rfl, fun q => by rw [sR_f ej, ck_t hb_2, ck_f (show cB _ = false from decide_eq_false c_5)] at q; cases q⟩
      · skip
        subst er
        rw [e2_2] at hP hD
        have hP : va_P G.1 vwCl (wM G am ho rn (nI z) (nI (k + 1)) sd lt ro rf u_2.1) H := hP
        have hD : va_D A (wM G am ho rn (nI z) (nI (k + 1)) sd lt ro rf u_2.1) := hD
        refine lv_istore_n (lv' := [(2, .int 0), (1, .int (hC lt z k)), (0, .ref (am 0))]) hx hb dX9_readsStatement_192 rfl hl (by decide) rfl (fun ls hl => ?_)
        refine lv_goto (tgt := 218) hx hb dX9_readsStatement_193 (by decide) ?_
        refine lv_iload_n hx hb dX9_readsStatement_218 rfl (lv_at hl 0 rfl) ?_
        refine lv_if_eq (tgt := 231) hx hb dX9_readsStatement_219 (by decide) (fun c_6 => ?_) (fun c_6 => ?_)
        · skip
          refine lv_iconst (v := 0) hx hb dX9_readsStatement_231 (by decide) ?_
          refine hret _ _ _ _ _ _ 0 (u_2.1, (k + 1)) dX9_readsStatement_232 ?_ hP hD hS (Nat.le_of_ble_eq_true rfl) (Nat.le_of_ble_eq_true rfl)
          exact ⟨by rw [sR_f ej, ck_f hb_2] <;> rfl, by rw [sR_f ej, ck_f hb_2] <;> rfl, fun q => by rw [sR_f ej, ck_f hb_2] at q; cases q⟩
        · skip
          exact absurd c_6 (by decide)
    · skip
      have ej : hC lt z k = 103 := ej
      refine lv_tableIn (tgt := 206) hx hb dX9_readsStatement_16 (by rw [ej]; decide) (by rw [ej]; decide) (by rw [ej]; rfl) (by decide) ?_
      have hno : sLt (hC lt z k) = false := decide_eq_false (by rw [ej]; decide)
      refine lv_aload_n hx hb dX9_readsStatement_206 rfl (lv_at hl 1 rfl) ?_
      refine lv_dup hx hb dX9_readsStatement_207 rfl ?_
      refine va_get (D := G.1) (ci := 8) (v := .int (nI (k + 1))) (C := RX9) (T := TX9) (N := 13) hx hb hts in_X9 hown hK.1 hP 0 rfl rfl 10 (by decide) (hts _ q1172) (fun _ h9 => h9) rfl dX9_readsStatement_208 ?_
      refine lv_iconst (v := 1) hx hb dX9_readsStatement_211 (by decide) ?_
      refine x_isub hx hb dX9_readsStatement_212 (v := nI k) (nI_prd _) ?_
      refine va_put (D := G.1) (ci := 8) (v := .int (nI k)) (ty := .int) (C := RX9) (T := TX9) (N := 13) hx hb hts in_X9 tyX9 tyX9_ok nmX9 hown hK.1 hP hD hS 0 rfl rfl 10 (by decide) (hts _ q1172) (fun _ h9 => h9) rfl (by decide +kernel) rfl rfl (Nat.le_of_ble_eq_true rfl) dX9_readsStatement_213 (fun H locs hP hD hS => ?_)
      have hP : va_P G.1 vwCl (wM G am ho rn (nI z) (nI k) sd lt ro rf nb) H := hP
      have hD : va_D A (wM G am ho rn (nI z) (nI k) sd lt ro rf nb) := hD
      refine lv_iconst (v := 0) hx hb dX9_readsStatement_216 (by decide) ?_
      refine hret _ _ _ _ _ _ 0 (nb, k) dX9_readsStatement_217 ?_ hP hD hS (Nat.le_of_ble_eq_true rfl) (Nat.le_of_ble_eq_true rfl)
      exact ⟨by rw [sR_no hno] <;> rfl, by rw [sR_no hno] <;> rfl, fun q => by rw [sR_no hno] at q; cases q⟩
    · skip
      have ej : hC lt z k = 104 := ej
      refine lv_tableIn (tgt := 186) hx hb dX9_readsStatement_16 (by rw [ej]; decide) (by rw [ej]; decide) (by rw [ej]; rfl) (by decide) ?_
      refine lv_aload_n hx hb dX9_readsStatement_186 rfl (lv_at hl 1 rfl) ?_
      refine lv_iconst (v := 0) hx hb dX9_readsStatement_187 (by decide) ?_
      refine lv_iconst (v := 1) hx hb dX9_readsStatement_188 (by decide) ?_
      refine x_Vi (wN := fun u_7 => (wM G am ho rn (nI z) (nI u_7.2) sd lt ro rf u_7.1)) ⟨C0, hK, hP, hD, hS, hA⟩ 0 rfl (ci := 8) rfl rfl ((m9_rn1 l G am ho rn (nI z) (nI (k + 1)) sd lt ro rf nb z (k + 1) hz (by omega) 0 (by omega))) (cwV 2 hts (lw_V q1229 q1231 qs70 q95 q1232) rfl rfl rfl (by decide +kernel) ⟨Nat.le_of_ble_eq_true rfl, Nat.le_of_ble_eq_true rfl⟩) [0, 1, 2, 3, 4] [1, 3, 5, 7, 9] rfl (fun _ => rfl) rfl rfl hl.1 rfl (Nat.le_of_ble_eq_true rfl) dX9_readsStatement_189 ⟨(Nat.le_of_ble_eq_true rfl), (Nat.le_of_ble_eq_true rfl)⟩ (fun r_7 u_7 H locs hw_7 hP hD hS => ?_)
      have hP : va_P G.1 vwCl (wM G am ho rn (nI z) (nI u_7.2) sd lt ro rf u_7.1) H := hP
      have hD : va_D A (wM G am ho rn (nI z) (nI u_7.2) sd lt ro rf u_7.1) := hD
      rcases hw_7 with ⟨er, hb_7, e1_7, e2_7⟩ | ⟨er, hb_7, e2_7⟩
      · skip
        subst er
        rw [e1_7, e2_7] at hP hD
        have hP : va_P G.1 vwCl (wM G am ho rn (nI z) (nI ((k + 1) + 1)) sd lt ro rf (upd nb 0 (nI (dV (hC lt z (k + 1)))))) H := hP
        have hD : va_D A (wM G am ho rn (nI z) (nI ((k + 1) + 1)) sd lt ro rf (upd nb 0 (nI (dV (hC lt z (k + 1)))))) := hD
        refine lv_istore_n (lv' := [(2, .int 1), (1, .int (hC lt z k)), (0, .ref (am 0))]) hx hb dX9_readsStatement_192 rfl hl (by decide) rfl (fun ls hl => ?_)
        refine lv_goto (tgt := 218) hx hb dX9_readsStatement_193 (by decide) ?_
        refine lv_iload_n hx hb dX9_readsStatement_218 rfl (lv_at hl 0 rfl) ?_
        refine lv_if_eq (tgt := 231) hx hb dX9_readsStatement_219 (by decide) (fun c_8 => ?_) (fun c_8 => ?_)
        · skip
          exact absurd c_8 (by decide)
        · skip
          refine lv_aload_n hx hb dX9_readsStatement_222 rfl (lv_at hl 2 rfl) ?_
          refine x_Vi (wN := fun _ => (wM G am ho rn (nI z) (nI ((k + 1) + 1)) sd lt ro rf (upd nb 0 (nI (dV (hC lt z (k + 1))))))) ⟨C0, hK, hP, hD, hS, hA⟩ 0 rfl (ci := 8) rfl rfl ((m9_here l G am ho rn (nI z) (nI ((k + 1) + 1)) sd lt ro rf (upd nb 0 (nI (dV (hC lt z (k + 1))))) z ((k + 1) + 1) hz (by omega) )) (cwV 0 hts (lw_V q1218 q1220 qs68 q95 q1221) rfl rfl rfl (by decide +kernel) ⟨Nat.le_of_ble_eq_true rfl, Nat.le_of_ble_eq_true rfl⟩) [0, 1, 2, 3, 4] [1, 3, 5, 7, 9] rfl (fun _ => rfl) rfl rfl hl.1 rfl (Nat.le_of_ble_eq_true rfl) dX9_readsStatement_223 ⟨(Nat.le_of_ble_eq_true rfl), (Nat.le_of_ble_eq_true rfl)⟩ (fun r_9 u_9 H locs hw_9 hP hD hS => ?_)
          have hw_9 : (hC lt z ((k + 1) + 1) : Int32) = r_9 := hw_9.symm
          subst hw_9
          refine lv_bipush (v := 59) hx hb dX9_readsStatement_226 (by decide) ?_
          refine lv_icmp_eq (tgt := 233) hx hb dX9_readsStatement_228 (by decide) (fun c_10 => ?_) (fun c_10 => ?_)
          · skip
            refine lv_aload_n hx hb dX9_readsStatement_233 rfl (lv_at hl 2 rfl) ?_
            refine lv_dup hx hb dX9_readsStatement_234 rfl ?_
            refine va_get (D := G.1) (ci := 8) (v := .int (nI ((k + 1) + 1))) (C := RX9) (T := TX9) (N := 13) hx hb hts in_X9 hown hK.1 hP 0 rfl rfl 10 (by decide) (hts _ q1172) (fun _ h9 => h9) rfl dX9_readsStatement_235 ?_
            refine lv_iconst (v := 1) hx hb dX9_readsStatement_238 (by decide) ?_
            refine x_iadd hx hb dX9_readsStatement_239 (v := nI (((k + 1) + 1) + 1)) (nI_1 _) ?_
            refine va_put (D := G.1) (ci := 8) (v := .int (nI (((k + 1) + 1) + 1))) (ty := .int) (C := RX9) (T := TX9) (N := 13) hx hb hts in_X9 tyX9 tyX9_ok nmX9 hown hK.1 hP hD hS 0 rfl rfl 10 (by decide) (hts _ q1172) (fun _ h9 => h9) rfl (by decide +kernel) rfl rfl (Nat.le_of_ble_eq_true rfl) dX9_readsStatement_240 (fun H locs hP hD hS => ?_)
            have hP : va_P G.1 vwCl (wM G am ho rn (nI z) (nI (((k + 1) + 1) + 1)) sd lt ro rf (upd nb 0 (nI (dV (hC lt z (k + 1)))))) H := hP
            have hD : va_D A (wM G am ho rn (nI z) (nI (((k + 1) + 1) + 1)) sd lt ro rf (upd nb 0 (nI (dV (hC lt z (k + 1)))))) := hD
            refine lv_iconst (v := 1) hx hb dX9_readsStatement_243 (by decide) ?_
            refine hret _ _ _ _ _ _ 1 (upd nb 0 (nI (dV (hC lt z (k + 1)))), (((k + 1) + 1) + 1)) dX9_readsStatement_244 ?_ hP hD hS (Nat.le_of_ble_eq_true rfl) (Nat.le_of_ble_eq_true rfl)
            refine ⟨by rw [sR_h ej, ck_t hb_7, ck_t (show cB _ = true from decide_eq_true c_10)] <;> rfl, by rw [sR_h ej, ck_t hb_7, ck_t (show cB _ = true from decide_eq_true c_10)] <;> rfl, fun _ => ?_⟩
            rw [sT_h ej]
            exact rfl
          · skip
            refine lv_iconst (v := 0) hx hb dX9_readsStatement_231 (by decide) ?_
            refine hret _ _ _ _ _ _ 0 (upd nb 0 (nI (dV (hC lt z (k + 1)))), ((k + 1) + 1)) dX9_readsStatement_232 ?_ hP hD hS (Nat.le_of_ble_eq_true rfl) (Nat.le_of_ble_eq_true rfl)
            exact ⟨by rw [sR_h ej, ck_t hb_7, ck_f (show cB _ = false from decide_eq_false c_10)] <;> rfl, by rw [sR_h ej, ck_t hb_7, ck_f (show cB _ = false from decide_eq_false c_10)] <;> rfl, fun q => by rw [sR_h ej, ck_t hb_7, ck_f (show cB _ = false from decide_eq_false c_10)] at q; cases q⟩
      · skip
        subst er
        rw [e2_7] at hP hD
        have hP : va_P G.1 vwCl (wM G am ho rn (nI z) (nI (k + 1)) sd lt ro rf u_7.1) H := hP
        have hD : va_D A (wM G am ho rn (nI z) (nI (k + 1)) sd lt ro rf u_7.1) := hD
        refine lv_istore_n (lv' := [(2, .int 0), (1, .int (hC lt z k)), (0, .ref (am 0))]) hx hb dX9_readsStatement_192 rfl hl (by decide) rfl (fun ls hl => ?_)
        refine lv_goto (tgt := 218) hx hb dX9_readsStatement_193 (by decide) ?_
        refine lv_iload_n hx hb dX9_readsStatement_218 rfl (lv_at hl 0 rfl) ?_
        refine lv_if_eq (tgt := 231) hx hb dX9_readsStatement_219 (by decide) (fun c_11 => ?_) (fun c_11 => ?_)
        · skip
          refine lv_iconst (v := 0) hx hb dX9_readsStatement_231 (by decide) ?_
          refine hret _ _ _ _ _ _ 0 (u_7.1, (k + 1)) dX9_readsStatement_232 ?_ hP hD hS (Nat.le_of_ble_eq_true rfl) (Nat.le_of_ble_eq_true rfl)
          exact ⟨by rw [sR_h ej, ck_f hb_7] <;> rfl, by rw [sR_h ej, ck_f hb_7] <;> rfl, fun q => by rw [sR_h ej, ck_f hb_7] at q; cases q⟩
        · skip
          exact absurd c_11 (by decide)
    · skip
      have ej : hC lt z k = 105 := ej
      refine lv_tableIn (tgt := 206) hx hb dX9_readsStatement_16 (by rw [ej]; decide) (by rw [ej]; decide) (by rw [ej]; rfl) (by decide) ?_
      have hno : sLt (hC lt z k) = false := decide_eq_false (by rw [ej]; decide)
      refine lv_aload_n hx hb dX9_readsStatement_206 rfl (lv_at hl 1 rfl) ?_
      refine lv_dup hx hb dX9_readsStatement_207 rfl ?_
      refine va_get (D := G.1) (ci := 8) (v := .int (nI (k + 1))) (C := RX9) (T := TX9) (N := 13) hx hb hts in_X9 hown hK.1 hP 0 rfl rfl 10 (by decide) (hts _ q1172) (fun _ h9 => h9) rfl dX9_readsStatement_208 ?_
      refine lv_iconst (v := 1) hx hb dX9_readsStatement_211 (by decide) ?_
      refine x_isub hx hb dX9_readsStatement_212 (v := nI k) (nI_prd _) ?_
      refine va_put (D := G.1) (ci := 8) (v := .int (nI k)) (ty := .int) (C := RX9) (T := TX9) (N := 13) hx hb hts in_X9 tyX9 tyX9_ok nmX9 hown hK.1 hP hD hS 0 rfl rfl 10 (by decide) (hts _ q1172) (fun _ h9 => h9) rfl (by decide +kernel) rfl rfl (Nat.le_of_ble_eq_true rfl) dX9_readsStatement_213 (fun H locs hP hD hS => ?_)
      have hP : va_P G.1 vwCl (wM G am ho rn (nI z) (nI k) sd lt ro rf nb) H := hP
      have hD : va_D A (wM G am ho rn (nI z) (nI k) sd lt ro rf nb) := hD
      refine lv_iconst (v := 0) hx hb dX9_readsStatement_216 (by decide) ?_
      refine hret _ _ _ _ _ _ 0 (nb, k) dX9_readsStatement_217 ?_ hP hD hS (Nat.le_of_ble_eq_true rfl) (Nat.le_of_ble_eq_true rfl)
      exact ⟨by rw [sR_no hno] <;> rfl, by rw [sR_no hno] <;> rfl, fun q => by rw [sR_no hno] at q; cases q⟩
    · skip
      have ej : hC lt z k = 106 := ej
      refine lv_tableIn (tgt := 206) hx hb dX9_readsStatement_16 (by rw [ej]; decide) (by rw [ej]; decide) (by rw [ej]; rfl) (by decide) ?_
      have hno : sLt (hC lt z k) = false := decide_eq_false (by rw [ej]; decide)
      refine lv_aload_n hx hb dX9_readsStatement_206 rfl (lv_at hl 1 rfl) ?_
      refine lv_dup hx hb dX9_readsStatement_207 rfl ?_
      refine va_get (D := G.1) (ci := 8) (v := .int (nI (k + 1))) (C := RX9) (T := TX9) (N := 13) hx hb hts in_X9 hown hK.1 hP 0 rfl rfl 10 (by decide) (hts _ q1172) (fun _ h9 => h9) rfl dX9_readsStatement_208 ?_
      refine lv_iconst (v := 1) hx hb dX9_readsStatement_211 (by decide) ?_
      refine x_isub hx hb dX9_readsStatement_212 (v := nI k) (nI_prd _) ?_
      refine va_put (D := G.1) (ci := 8) (v := .int (nI k)) (ty := .int) (C := RX9) (T := TX9) (N := 13) hx hb hts in_X9 tyX9 tyX9_ok nmX9 hown hK.1 hP hD hS 0 rfl rfl 10 (by decide) (hts _ q1172) (fun _ h9 => h9) rfl (by decide +kernel) rfl rfl (Nat.le_of_ble_eq_true rfl) dX9_readsStatement_213 (fun H locs hP hD hS => ?_)
      have hP : va_P G.1 vwCl (wM G am ho rn (nI z) (nI k) sd lt ro rf nb) H := hP
      have hD : va_D A (wM G am ho rn (nI z) (nI k) sd lt ro rf nb) := hD
      refine lv_iconst (v := 0) hx hb dX9_readsStatement_216 (by decide) ?_
      refine hret _ _ _ _ _ _ 0 (nb, k) dX9_readsStatement_217 ?_ hP hD hS (Nat.le_of_ble_eq_true rfl) (Nat.le_of_ble_eq_true rfl)
      exact ⟨by rw [sR_no hno] <;> rfl, by rw [sR_no hno] <;> rfl, fun q => by rw [sR_no hno] at q; cases q⟩
    · skip
      have ej : hC lt z k = 107 := ej
      refine lv_tableIn (tgt := 206) hx hb dX9_readsStatement_16 (by rw [ej]; decide) (by rw [ej]; decide) (by rw [ej]; rfl) (by decide) ?_
      have hno : sLt (hC lt z k) = false := decide_eq_false (by rw [ej]; decide)
      refine lv_aload_n hx hb dX9_readsStatement_206 rfl (lv_at hl 1 rfl) ?_
      refine lv_dup hx hb dX9_readsStatement_207 rfl ?_
      refine va_get (D := G.1) (ci := 8) (v := .int (nI (k + 1))) (C := RX9) (T := TX9) (N := 13) hx hb hts in_X9 hown hK.1 hP 0 rfl rfl 10 (by decide) (hts _ q1172) (fun _ h9 => h9) rfl dX9_readsStatement_208 ?_
      refine lv_iconst (v := 1) hx hb dX9_readsStatement_211 (by decide) ?_
      refine x_isub hx hb dX9_readsStatement_212 (v := nI k) (nI_prd _) ?_
      refine va_put (D := G.1) (ci := 8) (v := .int (nI k)) (ty := .int) (C := RX9) (T := TX9) (N := 13) hx hb hts in_X9 tyX9 tyX9_ok nmX9 hown hK.1 hP hD hS 0 rfl rfl 10 (by decide) (hts _ q1172) (fun _ h9 => h9) rfl (by decide +kernel) rfl rfl (Nat.le_of_ble_eq_true rfl) dX9_readsStatement_213 (fun H locs hP hD hS => ?_)
      have hP : va_P G.1 vwCl (wM G am ho rn (nI z) (nI k) sd lt ro rf nb) H := hP
      have hD : va_D A (wM G am ho rn (nI z) (nI k) sd lt ro rf nb) := hD
      refine lv_iconst (v := 0) hx hb dX9_readsStatement_216 (by decide) ?_
      refine hret _ _ _ _ _ _ 0 (nb, k) dX9_readsStatement_217 ?_ hP hD hS (Nat.le_of_ble_eq_true rfl) (Nat.le_of_ble_eq_true rfl)
      exact ⟨by rw [sR_no hno] <;> rfl, by rw [sR_no hno] <;> rfl, fun q => by rw [sR_no hno] at q; cases q⟩
    · skip
      have ej : hC lt z k = 108 := ej
      refine lv_tableIn (tgt := 206) hx hb dX9_readsStatement_16 (by rw [ej]; decide) (by rw [ej]; decide) (by rw [ej]; rfl) (by decide) ?_
      have hno : sLt (hC lt z k) = false := decide_eq_false (by rw [ej]; decide)
      refine lv_aload_n hx hb dX9_readsStatement_206 rfl (lv_at hl 1 rfl) ?_
      refine lv_dup hx hb dX9_readsStatement_207 rfl ?_
      refine va_get (D := G.1) (ci := 8) (v := .int (nI (k + 1))) (C := RX9) (T := TX9) (N := 13) hx hb hts in_X9 hown hK.1 hP 0 rfl rfl 10 (by decide) (hts _ q1172) (fun _ h9 => h9) rfl dX9_readsStatement_208 ?_
      refine lv_iconst (v := 1) hx hb dX9_readsStatement_211 (by decide) ?_
      refine x_isub hx hb dX9_readsStatement_212 (v := nI k) (nI_prd _) ?_
      refine va_put (D := G.1) (ci := 8) (v := .int (nI k)) (ty := .int) (C := RX9) (T := TX9) (N := 13) hx hb hts in_X9 tyX9 tyX9_ok nmX9 hown hK.1 hP hD hS 0 rfl rfl 10 (by decide) (hts _ q1172) (fun _ h9 => h9) rfl (by decide +kernel) rfl rfl (Nat.le_of_ble_eq_true rfl) dX9_readsStatement_213 (fun H locs hP hD hS => ?_)
      have hP : va_P G.1 vwCl (wM G am ho rn (nI z) (nI k) sd lt ro rf nb) H := hP
      have hD : va_D A (wM G am ho rn (nI z) (nI k) sd lt ro rf nb) := hD
      refine lv_iconst (v := 0) hx hb dX9_readsStatement_216 (by decide) ?_
      refine hret _ _ _ _ _ _ 0 (nb, k) dX9_readsStatement_217 ?_ hP hD hS (Nat.le_of_ble_eq_true rfl) (Nat.le_of_ble_eq_true rfl)
      exact ⟨by rw [sR_no hno] <;> rfl, by rw [sR_no hno] <;> rfl, fun q => by rw [sR_no hno] at q; cases q⟩
    · skip
      have ej : hC lt z k = 109 := ej
      refine lv_tableIn (tgt := 196) hx hb dX9_readsStatement_16 (by rw [ej]; decide) (by rw [ej]; decide) (by rw [ej]; rfl) (by decide) ?_
      refine lv_aload_n hx hb dX9_readsStatement_196 rfl (lv_at hl 1 rfl) ?_
      refine lv_iconst (v := 0) hx hb dX9_readsStatement_197 (by decide) ?_
      refine lv_iconst (v := 2) hx hb dX9_readsStatement_198 (by decide) ?_
      refine x_Vi (wN := fun u_12 => (wM G am ho rn (nI z) (nI u_12.2) sd lt ro rf u_12.1)) ⟨C0, hK, hP, hD, hS, hA⟩ 0 rfl (ci := 8) rfl rfl ((m9_rn2 l G am ho rn (nI z) (nI (k + 1)) sd lt ro rf nb z (k + 1) hz (by omega) 0 (by omega))) (cwV 2 hts (lw_V q1229 q1231 qs70 q95 q1232) rfl rfl rfl (by decide +kernel) ⟨Nat.le_of_ble_eq_true rfl, Nat.le_of_ble_eq_true rfl⟩) [0, 1, 2, 3, 4] [1, 3, 5, 7, 9] rfl (fun _ => rfl) rfl rfl hl.1 rfl (Nat.le_of_ble_eq_true rfl) dX9_readsStatement_199 ⟨(Nat.le_of_ble_eq_true rfl), (Nat.le_of_ble_eq_true rfl)⟩ (fun r_12 u_12 H locs hw_12 hP hD hS => ?_)
      have hP : va_P G.1 vwCl (wM G am ho rn (nI z) (nI u_12.2) sd lt ro rf u_12.1) H := hP
      have hD : va_D A (wM G am ho rn (nI z) (nI u_12.2) sd lt ro rf u_12.1) := hD
      rcases hw_12 with ⟨er, hb_12, hc_12, e1_12, e2_12⟩ | ⟨er, ⟨hb_12, e2_12⟩ | ⟨hb_12, hc_12, e2_12⟩⟩
      · skip
        subst er
        rw [e1_12, e2_12] at hP hD
        have hP : va_P G.1 vwCl (wM G am ho rn (nI z) (nI ((k + 1) + 2)) sd lt ro rf (upd nb 0 (nI (10 * dV (hC lt z (k + 1)) + dV (hC lt z ((k + 1) + 1)))))) H := hP
        have hD : va_D A (wM G am ho rn (nI z) (nI ((k + 1) + 2)) sd lt ro rf (upd nb 0 (nI (10 * dV (hC lt z (k + 1)) + dV (hC lt z ((k + 1) + 1)))))) := hD
        refine lv_istore_n (lv' := [(2, .int 1), (1, .int (hC lt z k)), (0, .ref (am 0))]) hx hb dX9_readsStatement_202 rfl hl (by decide) rfl (fun ls hl => ?_)
        refine lv_goto (tgt := 218) hx hb dX9_readsStatement_203 (by decide) ?_
        refine lv_iload_n hx hb dX9_readsStatement_218 rfl (lv_at hl 0 rfl) ?_
        refine lv_if_eq (tgt := 231) hx hb dX9_readsStatement_219 (by decide) (fun c_13 => ?_) (fun c_13 => ?_)
        · skip
          exact absurd c_13 (by decide)
        · skip
          refine lv_aload_n hx hb dX9_readsStatement_222 rfl (lv_at hl 2 rfl) ?_
          refine x_Vi (wN := fun _ => (wM G am ho rn (nI z) (nI ((k + 1) + 2)) sd lt ro rf (upd nb 0 (nI (10 * dV (hC lt z (k + 1)) + dV (hC lt z ((k + 1) + 1))))))) ⟨C0, hK, hP, hD, hS, hA⟩ 0 rfl (ci := 8) rfl rfl ((m9_here l G am ho rn (nI z) (nI ((k + 1) + 2)) sd lt ro rf (upd nb 0 (nI (10 * dV (hC lt z (k + 1)) + dV (hC lt z ((k + 1) + 1))))) z ((k + 1) + 2) hz (by omega) )) (cwV 0 hts (lw_V q1218 q1220 qs68 q95 q1221) rfl rfl rfl (by decide +kernel) ⟨Nat.le_of_ble_eq_true rfl, Nat.le_of_ble_eq_true rfl⟩) [0, 1, 2, 3, 4] [1, 3, 5, 7, 9] rfl (fun _ => rfl) rfl rfl hl.1 rfl (Nat.le_of_ble_eq_true rfl) dX9_readsStatement_223 ⟨(Nat.le_of_ble_eq_true rfl), (Nat.le_of_ble_eq_true rfl)⟩ (fun r_14 u_14 H locs hw_14 hP hD hS => ?_)
          have hw_14 : (hC lt z ((k + 1) + 2) : Int32) = r_14 := hw_14.symm
          subst hw_14
          refine lv_bipush (v := 59) hx hb dX9_readsStatement_226 (by decide) ?_
          refine lv_icmp_eq (tgt := 233) hx hb dX9_readsStatement_228 (by decide) (fun c_15 => ?_) (fun c_15 => ?_)
          · skip
            refine lv_aload_n hx hb dX9_readsStatement_233 rfl (lv_at hl 2 rfl) ?_
            refine lv_dup hx hb dX9_readsStatement_234 rfl ?_
            refine va_get (D := G.1) (ci := 8) (v := .int (nI ((k + 1) + 2))) (C := RX9) (T := TX9) (N := 13) hx hb hts in_X9 hown hK.1 hP 0 rfl rfl 10 (by decide) (hts _ q1172) (fun _ h9 => h9) rfl dX9_readsStatement_235 ?_
            refine lv_iconst (v := 1) hx hb dX9_readsStatement_238 (by decide) ?_
            refine x_iadd hx hb dX9_readsStatement_239 (v := nI (((k + 1) + 2) + 1)) (nI_1 _) ?_
            refine va_put (D := G.1) (ci := 8) (v := .int (nI (((k + 1) + 2) + 1))) (ty := .int) (C := RX9) (T := TX9) (N := 13) hx hb hts in_X9 tyX9 tyX9_ok nmX9 hown hK.1 hP hD hS 0 rfl rfl 10 (by decide) (hts _ q1172) (fun _ h9 => h9) rfl (by decide +kernel) rfl rfl (Nat.le_of_ble_eq_true rfl) dX9_readsStatement_240 (fun H locs hP hD hS => ?_)
            have hP : va_P G.1 vwCl (wM G am ho rn (nI z) (nI (((k + 1) + 2) + 1)) sd lt ro rf (upd nb 0 (nI (10 * dV (hC lt z (k + 1)) + dV (hC lt z ((k + 1) + 1)))))) H := hP
            have hD : va_D A (wM G am ho rn (nI z) (nI (((k + 1) + 2) + 1)) sd lt ro rf (upd nb 0 (nI (10 * dV (hC lt z (k + 1)) + dV (hC lt z ((k + 1) + 1)))))) := hD
            refine lv_iconst (v := 1) hx hb dX9_readsStatement_243 (by decide) ?_
            refine hret _ _ _ _ _ _ 1 (upd nb 0 (nI (10 * dV (hC lt z (k + 1)) + dV (hC lt z ((k + 1) + 1)))), (((k + 1) + 2) + 1)) dX9_readsStatement_244 ?_ hP hD hS (Nat.le_of_ble_eq_true rfl) (Nat.le_of_ble_eq_true rfl)
            refine ⟨by rw [sR_m ej, ck_t hb_12, ck_t hc_12, ck_t (show cB _ = true from decide_eq_true c_15)] <;> rfl, by rw [sR_m ej, ck_t hb_12, ck_t hc_12, ck_t (show cB _ = true from decide_eq_true c_15)] <;> rfl, fun _ => ?_⟩
            rw [sT_m ej]
            exact rfl
          · skip
            refine lv_iconst (v := 0) hx hb dX9_readsStatement_231 (by decide) ?_
            refine hret _ _ _ _ _ _ 0 (upd nb 0 (nI (10 * dV (hC lt z (k + 1)) + dV (hC lt z ((k + 1) + 1)))), ((k + 1) + 2)) dX9_readsStatement_232 ?_ hP hD hS (Nat.le_of_ble_eq_true rfl) (Nat.le_of_ble_eq_true rfl)
            exact ⟨by rw [sR_m ej, ck_t hb_12, ck_t hc_12, ck_f (show cB _ = false from decide_eq_false c_15)] <;> rfl, by rw [sR_m ej, ck_t hb_12, ck_t hc_12, ck_f (show cB _ = false from decide_eq_false c_15)] <;> rfl, fun q => by rw [sR_m ej, ck_t hb_12, ck_t hc_12, ck_f (show cB _ = false from decide_eq_false c_15)] at q; cases q⟩
      · skip
        subst er
        rw [e2_12] at hP hD
        have hP : va_P G.1 vwCl (wM G am ho rn (nI z) (nI (k + 1)) sd lt ro rf u_12.1) H := hP
        have hD : va_D A (wM G am ho rn (nI z) (nI (k + 1)) sd lt ro rf u_12.1) := hD
        refine lv_istore_n (lv' := [(2, .int 0), (1, .int (hC lt z k)), (0, .ref (am 0))]) hx hb dX9_readsStatement_202 rfl hl (by decide) rfl (fun ls hl => ?_)
        refine lv_goto (tgt := 218) hx hb dX9_readsStatement_203 (by decide) ?_
        refine lv_iload_n hx hb dX9_readsStatement_218 rfl (lv_at hl 0 rfl) ?_
        refine lv_if_eq (tgt := 231) hx hb dX9_readsStatement_219 (by decide) (fun c_16 => ?_) (fun c_16 => ?_)
        · skip
          refine lv_iconst (v := 0) hx hb dX9_readsStatement_231 (by decide) ?_
          refine hret _ _ _ _ _ _ 0 (u_12.1, (k + 1)) dX9_readsStatement_232 ?_ hP hD hS (Nat.le_of_ble_eq_true rfl) (Nat.le_of_ble_eq_true rfl)
          exact ⟨by rw [sR_m ej, ck_f hb_12] <;> rfl, by rw [sR_m ej, ck_f hb_12] <;> rfl, fun q => by rw [sR_m ej, ck_f hb_12] at q; cases q⟩
        · skip
          exact absurd c_16 (by decide)
      · skip
        subst er
        rw [e2_12] at hP hD
        have hP : va_P G.1 vwCl (wM G am ho rn (nI z) (nI ((k + 1) + 1)) sd lt ro rf u_12.1) H := hP
        have hD : va_D A (wM G am ho rn (nI z) (nI ((k + 1) + 1)) sd lt ro rf u_12.1) := hD
        refine lv_istore_n (lv' := [(2, .int 0), (1, .int (hC lt z k)), (0, .ref (am 0))]) hx hb dX9_readsStatement_202 rfl hl (by decide) rfl (fun ls hl => ?_)
        refine lv_goto (tgt := 218) hx hb dX9_readsStatement_203 (by decide) ?_
        refine lv_iload_n hx hb dX9_readsStatement_218 rfl (lv_at hl 0 rfl) ?_
        refine lv_if_eq (tgt := 231) hx hb dX9_readsStatement_219 (by decide) (fun c_17 => ?_) (fun c_17 => ?_)
        · skip
          refine lv_iconst (v := 0) hx hb dX9_readsStatement_231 (by decide) ?_
          refine hret _ _ _ _ _ _ 0 (u_12.1, ((k + 1) + 1)) dX9_readsStatement_232 ?_ hP hD hS (Nat.le_of_ble_eq_true rfl) (Nat.le_of_ble_eq_true rfl)
          exact ⟨by rw [sR_m ej, ck_t hb_12, ck_f hc_12] <;> rfl, by rw [sR_m ej, ck_t hb_12, ck_f hc_12] <;> rfl, fun q => by rw [sR_m ej, ck_t hb_12, ck_f hc_12] at q; cases q⟩
        · skip
          exact absurd c_17 (by decide)
    · skip
      have ej : hC lt z k = 110 := ej
      refine lv_tableIn (tgt := 206) hx hb dX9_readsStatement_16 (by rw [ej]; decide) (by rw [ej]; decide) (by rw [ej]; rfl) (by decide) ?_
      have hno : sLt (hC lt z k) = false := decide_eq_false (by rw [ej]; decide)
      refine lv_aload_n hx hb dX9_readsStatement_206 rfl (lv_at hl 1 rfl) ?_
      refine lv_dup hx hb dX9_readsStatement_207 rfl ?_
      refine va_get (D := G.1) (ci := 8) (v := .int (nI (k + 1))) (C := RX9) (T := TX9) (N := 13) hx hb hts in_X9 hown hK.1 hP 0 rfl rfl 10 (by decide) (hts _ q1172) (fun _ h9 => h9) rfl dX9_readsStatement_208 ?_
      refine lv_iconst (v := 1) hx hb dX9_readsStatement_211 (by decide) ?_
      refine x_isub hx hb dX9_readsStatement_212 (v := nI k) (nI_prd _) ?_
      refine va_put (D := G.1) (ci := 8) (v := .int (nI k)) (ty := .int) (C := RX9) (T := TX9) (N := 13) hx hb hts in_X9 tyX9 tyX9_ok nmX9 hown hK.1 hP hD hS 0 rfl rfl 10 (by decide) (hts _ q1172) (fun _ h9 => h9) rfl (by decide +kernel) rfl rfl (Nat.le_of_ble_eq_true rfl) dX9_readsStatement_213 (fun H locs hP hD hS => ?_)
      have hP : va_P G.1 vwCl (wM G am ho rn (nI z) (nI k) sd lt ro rf nb) H := hP
      have hD : va_D A (wM G am ho rn (nI z) (nI k) sd lt ro rf nb) := hD
      refine lv_iconst (v := 0) hx hb dX9_readsStatement_216 (by decide) ?_
      refine hret _ _ _ _ _ _ 0 (nb, k) dX9_readsStatement_217 ?_ hP hD hS (Nat.le_of_ble_eq_true rfl) (Nat.le_of_ble_eq_true rfl)
      exact ⟨by rw [sR_no hno] <;> rfl, by rw [sR_no hno] <;> rfl, fun q => by rw [sR_no hno] at q; cases q⟩
    · skip
      have ej : hC lt z k = 111 := ej
      refine lv_tableIn (tgt := 125) hx hb dX9_readsStatement_16 (by rw [ej]; decide) (by rw [ej]; decide) (by rw [ej]; rfl) (by decide) ?_
      refine lv_aload_n hx hb dX9_readsStatement_125 rfl (lv_at hl 1 rfl) ?_
      refine x_Vi (wN := fun u_18 => (wM G am ho rn (nI z) (nI u_18.2) sd lt ro rf u_18.1)) ⟨C0, hK, hP, hD, hS, hA⟩ 0 rfl (ci := 8) rfl rfl ((m9_readsKind l G am ho rn (nI z) (nI (k + 1)) sd lt ro rf nb z (k + 1) hz (by omega) )) (cwV 0 hts (lw_V q1222 q1224 qs69 q95 q1225) rfl rfl rfl (by decide +kernel) ⟨Nat.le_of_ble_eq_true rfl, Nat.le_of_ble_eq_true rfl⟩) [0, 1, 2, 3, 4] [1, 3, 5, 7, 9] rfl (fun _ => rfl) rfl rfl hl.1 rfl (Nat.le_of_ble_eq_true rfl) dX9_readsStatement_126 ⟨(Nat.le_of_ble_eq_true rfl), (Nat.le_of_ble_eq_true rfl)⟩ (fun r_18 u_18 H locs hw_18 hP hD hS => ?_)
      have hP : va_P G.1 vwCl (wM G am ho rn (nI z) (nI u_18.2) sd lt ro rf u_18.1) H := hP
      have hD : va_D A (wM G am ho rn (nI z) (nI u_18.2) sd lt ro rf u_18.1) := hD
      rcases hw_18 with ⟨er, hb_18, e1_18, e2_18⟩ | ⟨er, hb_18, e2_18⟩
      · skip
        subst er
        rw [e1_18, e2_18] at hP hD
        have hP : va_P G.1 vwCl (wM G am ho rn (nI z) (nI ((k + 1) + 1)) sd lt ro rf (upd nb 0 (nI (kV (hC lt z (k + 1)))))) H := hP
        have hD : va_D A (wM G am ho rn (nI z) (nI ((k + 1) + 1)) sd lt ro rf (upd nb 0 (nI (kV (hC lt z (k + 1)))))) := hD
        refine lv_if_eq (tgt := 154) hx hb dX9_readsStatement_129 (by decide) (fun c_19 => ?_) (fun c_19 => ?_)
        · skip
          exact absurd c_19 (by decide)
        · skip
          refine lv_aload_n hx hb dX9_readsStatement_132 rfl (lv_at hl 1 rfl) ?_
          refine lv_iconst (v := 1) hx hb dX9_readsStatement_133 (by decide) ?_
          refine lv_iconst (v := 1) hx hb dX9_readsStatement_134 (by decide) ?_
          refine x_Vi (wN := fun u_20 => (wM G am ho rn (nI z) (nI u_20.2) sd lt ro rf u_20.1)) ⟨C0, hK, hP, hD, hS, hA⟩ 0 rfl (ci := 8) rfl rfl ((m9_rn1 l G am ho rn (nI z) (nI ((k + 1) + 1)) sd lt ro rf (upd nb 0 (nI (kV (hC lt z (k + 1))))) z ((k + 1) + 1) hz (by omega) 1 (by omega))) (cwV 2 hts (lw_V q1229 q1231 qs70 q95 q1232) rfl rfl rfl (by decide +kernel) ⟨Nat.le_of_ble_eq_true rfl, Nat.le_of_ble_eq_true rfl⟩) [0, 1, 2, 3, 4] [1, 3, 5, 7, 9] rfl (fun _ => rfl) rfl rfl hl.1 rfl (Nat.le_of_ble_eq_true rfl) dX9_readsStatement_135 ⟨(Nat.le_of_ble_eq_true rfl), (Nat.le_of_ble_eq_true rfl)⟩ (fun r_20 u_20 H locs hw_20 hP hD hS => ?_)
          have hP : va_P G.1 vwCl (wM G am ho rn (nI z) (nI u_20.2) sd lt ro rf u_20.1) H := hP
          have hD : va_D A (wM G am ho rn (nI z) (nI u_20.2) sd lt ro rf u_20.1) := hD
          rcases hw_20 with ⟨er, hb_20, e1_20, e2_20⟩ | ⟨er, hb_20, e2_20⟩
          · skip
            subst er
            rw [e1_20, e2_20] at hP hD
            have hP : va_P G.1 vwCl (wM G am ho rn (nI z) (nI (((k + 1) + 1) + 1)) sd lt ro rf (upd (upd nb 0 (nI (kV (hC lt z (k + 1))))) 1 (nI (dV (hC lt z ((k + 1) + 1)))))) H := hP
            have hD : va_D A (wM G am ho rn (nI z) (nI (((k + 1) + 1) + 1)) sd lt ro rf (upd (upd nb 0 (nI (kV (hC lt z (k + 1))))) 1 (nI (dV (hC lt z ((k + 1) + 1)))))) := hD
            refine lv_if_eq (tgt := 154) hx hb dX9_readsStatement_138 (by decide) (fun c_21 => ?_) (fun c_21 => ?_)
            · skip
              exact absurd c_21 (by decide)
            · skip
              refine lv_aload_n hx hb dX9_readsStatement_141 rfl (lv_at hl 1 rfl) ?_
              refine lv_iconst (v := 2) hx hb dX9_readsStatement_142 (by decide) ?_
              refine lv_iconst (v := 1) hx hb dX9_readsStatement_143 (by decide) ?_
              refine x_Vi (wN := fun u_22 => (wM G am ho rn (nI z) (nI u_22.2) sd lt ro rf u_22.1)) ⟨C0, hK, hP, hD, hS, hA⟩ 0 rfl (ci := 8) rfl rfl ((m9_rn1 l G am ho rn (nI z) (nI (((k + 1) + 1) + 1)) sd lt ro rf (upd (upd nb 0 (nI (kV (hC lt z (k + 1))))) 1 (nI (dV (hC lt z ((k + 1) + 1))))) z (((k + 1) + 1) + 1) hz (by omega) 2 (by omega))) (cwV 2 hts (lw_V q1229 q1231 qs70 q95 q1232) rfl rfl rfl (by decide +kernel) ⟨Nat.le_of_ble_eq_true rfl, Nat.le_of_ble_eq_true rfl⟩) [0, 1, 2, 3, 4] [1, 3, 5, 7, 9] rfl (fun _ => rfl) rfl rfl hl.1 rfl (Nat.le_of_ble_eq_true rfl) dX9_readsStatement_144 ⟨(Nat.le_of_ble_eq_true rfl), (Nat.le_of_ble_eq_true rfl)⟩ (fun r_22 u_22 H locs hw_22 hP hD hS => ?_)
              have hP : va_P G.1 vwCl (wM G am ho rn (nI z) (nI u_22.2) sd lt ro rf u_22.1) H := hP
              have hD : va_D A (wM G am ho rn (nI z) (nI u_22.2) sd lt ro rf u_22.1) := hD
              rcases hw_22 with ⟨er, hb_22, e1_22, e2_22⟩ | ⟨er, hb_22, e2_22⟩
              · skip
                subst er
                rw [e1_22, e2_22] at hP hD
                have hP : va_P G.1 vwCl (wM G am ho rn (nI z) (nI ((((k + 1) + 1) + 1) + 1)) sd lt ro rf (upd (upd (upd nb 0 (nI (kV (hC lt z (k + 1))))) 1 (nI (dV (hC lt z ((k + 1) + 1))))) 2 (nI (dV (hC lt z (((k + 1) + 1) + 1)))))) H := hP
                have hD : va_D A (wM G am ho rn (nI z) (nI ((((k + 1) + 1) + 1) + 1)) sd lt ro rf (upd (upd (upd nb 0 (nI (kV (hC lt z (k + 1))))) 1 (nI (dV (hC lt z ((k + 1) + 1))))) 2 (nI (dV (hC lt z (((k + 1) + 1) + 1)))))) := hD
                refine lv_if_eq (tgt := 154) hx hb dX9_readsStatement_147 (by decide) (fun c_23 => ?_) (fun c_23 => ?_)
                · skip
                  exact absurd c_23 (by decide)
                · skip
                  refine lv_iconst (v := 1) hx hb dX9_readsStatement_150 (by decide) ?_
                  refine lv_goto (tgt := 155) hx hb dX9_readsStatement_151 (by decide) ?_
                  refine lv_istore_n (lv' := [(2, .int 1), (1, .int (hC lt z k)), (0, .ref (am 0))]) hx hb dX9_readsStatement_155 rfl hl (by decide) rfl (fun ls hl => ?_)
                  refine lv_goto (tgt := 218) hx hb dX9_readsStatement_156 (by decide) ?_
                  refine lv_iload_n hx hb dX9_readsStatement_218 rfl (lv_at hl 0 rfl) ?_
                  refine lv_if_eq (tgt := 231) hx hb dX9_readsStatement_219 (by decide) (fun c_24 => ?_) (fun c_24 => ?_)
                  · skip
                    exact absurd c_24 (by decide)
                  · skip
                    refine lv_aload_n hx hb dX9_readsStatement_222 rfl (lv_at hl 2 rfl) ?_
                    refine x_Vi (wN := fun _ => (wM G am ho rn (nI z) (nI ((((k + 1) + 1) + 1) + 1)) sd lt ro rf (upd (upd (upd nb 0 (nI (kV (hC lt z (k + 1))))) 1 (nI (dV (hC lt z ((k + 1) + 1))))) 2 (nI (dV (hC lt z (((k + 1) + 1) + 1))))))) ⟨C0, hK, hP, hD, hS, hA⟩ 0 rfl (ci := 8) rfl rfl ((m9_here l G am ho rn (nI z) (nI ((((k + 1) + 1) + 1) + 1)) sd lt ro rf (upd (upd (upd nb 0 (nI (kV (hC lt z (k + 1))))) 1 (nI (dV (hC lt z ((k + 1) + 1))))) 2 (nI (dV (hC lt z (((k + 1) + 1) + 1))))) z ((((k + 1) + 1) + 1) + 1) hz (by omega) )) (cwV 0 hts (lw_V q1218 q1220 qs68 q95 q1221) rfl rfl rfl (by decide +kernel) ⟨Nat.le_of_ble_eq_true rfl, Nat.le_of_ble_eq_true rfl⟩) [0, 1, 2, 3, 4] [1, 3, 5, 7, 9] rfl (fun _ => rfl) rfl rfl hl.1 rfl (Nat.le_of_ble_eq_true rfl) dX9_readsStatement_223 ⟨(Nat.le_of_ble_eq_true rfl), (Nat.le_of_ble_eq_true rfl)⟩ (fun r_25 u_25 H locs hw_25 hP hD hS => ?_)
                    have hw_25 : (hC lt z ((((k + 1) + 1) + 1) + 1) : Int32) = r_25 := hw_25.symm
                    subst hw_25
                    refine lv_bipush (v := 59) hx hb dX9_readsStatement_226 (by decide) ?_
                    refine lv_icmp_eq (tgt := 233) hx hb dX9_readsStatement_228 (by decide) (fun c_26 => ?_) (fun c_26 => ?_)
                    · skip
                      refine lv_aload_n hx hb dX9_readsStatement_233 rfl (lv_at hl 2 rfl) ?_
                      refine lv_dup hx hb dX9_readsStatement_234 rfl ?_
                      refine va_get (D := G.1) (ci := 8) (v := .int (nI ((((k + 1) + 1) + 1) + 1))) (C := RX9) (T := TX9) (N := 13) hx hb hts in_X9 hown hK.1 hP 0 rfl rfl 10 (by decide) (hts _ q1172) (fun _ h9 => h9) rfl dX9_readsStatement_235 ?_
                      refine lv_iconst (v := 1) hx hb dX9_readsStatement_238 (by decide) ?_
                      refine x_iadd hx hb dX9_readsStatement_239 (v := nI (((((k + 1) + 1) + 1) + 1) + 1)) (nI_1 _) ?_
                      refine va_put (D := G.1) (ci := 8) (v := .int (nI (((((k + 1) + 1) + 1) + 1) + 1))) (ty := .int) (C := RX9) (T := TX9) (N := 13) hx hb hts in_X9 tyX9 tyX9_ok nmX9 hown hK.1 hP hD hS 0 rfl rfl 10 (by decide) (hts _ q1172) (fun _ h9 => h9) rfl (by decide +kernel) rfl rfl (Nat.le_of_ble_eq_true rfl) dX9_readsStatement_240 (fun H locs hP hD hS => ?_)
                      have hP : va_P G.1 vwCl (wM G am ho rn (nI z) (nI (((((k + 1) + 1) + 1) + 1) + 1)) sd lt ro rf (upd (upd (upd nb 0 (nI (kV (hC lt z (k + 1))))) 1 (nI (dV (hC lt z ((k + 1) + 1))))) 2 (nI (dV (hC lt z (((k + 1) + 1) + 1)))))) H := hP
                      have hD : va_D A (wM G am ho rn (nI z) (nI (((((k + 1) + 1) + 1) + 1) + 1)) sd lt ro rf (upd (upd (upd nb 0 (nI (kV (hC lt z (k + 1))))) 1 (nI (dV (hC lt z ((k + 1) + 1))))) 2 (nI (dV (hC lt z (((k + 1) + 1) + 1)))))) := hD
                      refine lv_iconst (v := 1) hx hb dX9_readsStatement_243 (by decide) ?_
                      refine hret _ _ _ _ _ _ 1 (upd (upd (upd nb 0 (nI (kV (hC lt z (k + 1))))) 1 (nI (dV (hC lt z ((k + 1) + 1))))) 2 (nI (dV (hC lt z (((k + 1) + 1) + 1)))), (((((k + 1) + 1) + 1) + 1) + 1)) dX9_readsStatement_244 ?_ hP hD hS (Nat.le_of_ble_eq_true rfl) (Nat.le_of_ble_eq_true rfl)
                      refine ⟨by rw [sR_o ej, ck_t hb_18, ck_t hb_20, ck_t hb_22, ck_t (show cB _ = true from decide_eq_true c_26)] <;> rfl, by rw [sR_o ej, ck_t hb_18, ck_t hb_20, ck_t hb_22, ck_t (show cB _ = true from decide_eq_true c_26)] <;> rfl, fun _ => ?_⟩
                      rw [sT_o ej]
                      exact ⟨rfl, rfl, rfl⟩
                    · skip
                      refine lv_iconst (v := 0) hx hb dX9_readsStatement_231 (by decide) ?_
                      refine hret _ _ _ _ _ _ 0 (upd (upd (upd nb 0 (nI (kV (hC lt z (k + 1))))) 1 (nI (dV (hC lt z ((k + 1) + 1))))) 2 (nI (dV (hC lt z (((k + 1) + 1) + 1)))), ((((k + 1) + 1) + 1) + 1)) dX9_readsStatement_232 ?_ hP hD hS (Nat.le_of_ble_eq_true rfl) (Nat.le_of_ble_eq_true rfl)
                      exact ⟨by rw [sR_o ej, ck_t hb_18, ck_t hb_20, ck_t hb_22, ck_f (show cB _ = false from decide_eq_false c_26)] <;> rfl, by rw [sR_o ej, ck_t hb_18, ck_t hb_20, ck_t hb_22, ck_f (show cB _ = false from decide_eq_false c_26)] <;> rfl, fun q => by rw [sR_o ej, ck_t hb_18, ck_t hb_20, ck_t hb_22, ck_f (show cB _ = false from decide_eq_false c_26)] at q; cases q⟩
              · skip
                subst er
                rw [e2_22] at hP hD
                have hP : va_P G.1 vwCl (wM G am ho rn (nI z) (nI (((k + 1) + 1) + 1)) sd lt ro rf u_22.1) H := hP
                have hD : va_D A (wM G am ho rn (nI z) (nI (((k + 1) + 1) + 1)) sd lt ro rf u_22.1) := hD
                refine lv_if_eq (tgt := 154) hx hb dX9_readsStatement_147 (by decide) (fun c_27 => ?_) (fun c_27 => ?_)
                · skip
                  refine lv_iconst (v := 0) hx hb dX9_readsStatement_154 (by decide) ?_
                  refine lv_istore_n (lv' := [(2, .int 0), (1, .int (hC lt z k)), (0, .ref (am 0))]) hx hb dX9_readsStatement_155 rfl hl (by decide) rfl (fun ls hl => ?_)
                  refine lv_goto (tgt := 218) hx hb dX9_readsStatement_156 (by decide) ?_
                  refine lv_iload_n hx hb dX9_readsStatement_218 rfl (lv_at hl 0 rfl) ?_
                  refine lv_if_eq (tgt := 231) hx hb dX9_readsStatement_219 (by decide) (fun c_28 => ?_) (fun c_28 => ?_)
                  · skip
                    refine lv_iconst (v := 0) hx hb dX9_readsStatement_231 (by decide) ?_
                    refine hret _ _ _ _ _ _ 0 (u_22.1, (((k + 1) + 1) + 1)) dX9_readsStatement_232 ?_ hP hD hS (Nat.le_of_ble_eq_true rfl) (Nat.le_of_ble_eq_true rfl)
                    exact ⟨by rw [sR_o ej, ck_t hb_18, ck_t hb_20, ck_f hb_22] <;> rfl, by rw [sR_o ej, ck_t hb_18, ck_t hb_20, ck_f hb_22] <;> rfl, fun q => by rw [sR_o ej, ck_t hb_18, ck_t hb_20, ck_f hb_22] at q; cases q⟩
                  · skip
                    exact absurd c_28 (by decide)
                · skip
                  exact absurd c_27 (by decide)
          · skip
            subst er
            rw [e2_20] at hP hD
            have hP : va_P G.1 vwCl (wM G am ho rn (nI z) (nI ((k + 1) + 1)) sd lt ro rf u_20.1) H := hP
            have hD : va_D A (wM G am ho rn (nI z) (nI ((k + 1) + 1)) sd lt ro rf u_20.1) := hD
            refine lv_if_eq (tgt := 154) hx hb dX9_readsStatement_138 (by decide) (fun c_29 => ?_) (fun c_29 => ?_)
            · skip
              refine lv_iconst (v := 0) hx hb dX9_readsStatement_154 (by decide) ?_
              refine lv_istore_n (lv' := [(2, .int 0), (1, .int (hC lt z k)), (0, .ref (am 0))]) hx hb dX9_readsStatement_155 rfl hl (by decide) rfl (fun ls hl => ?_)
              refine lv_goto (tgt := 218) hx hb dX9_readsStatement_156 (by decide) ?_
              refine lv_iload_n hx hb dX9_readsStatement_218 rfl (lv_at hl 0 rfl) ?_
              refine lv_if_eq (tgt := 231) hx hb dX9_readsStatement_219 (by decide) (fun c_30 => ?_) (fun c_30 => ?_)
              · skip
                refine lv_iconst (v := 0) hx hb dX9_readsStatement_231 (by decide) ?_
                refine hret _ _ _ _ _ _ 0 (u_20.1, ((k + 1) + 1)) dX9_readsStatement_232 ?_ hP hD hS (Nat.le_of_ble_eq_true rfl) (Nat.le_of_ble_eq_true rfl)
                exact ⟨by rw [sR_o ej, ck_t hb_18, ck_f hb_20] <;> rfl, by rw [sR_o ej, ck_t hb_18, ck_f hb_20] <;> rfl, fun q => by rw [sR_o ej, ck_t hb_18, ck_f hb_20] at q; cases q⟩
              · skip
                exact absurd c_30 (by decide)
            · skip
              exact absurd c_29 (by decide)
      · skip
        subst er
        rw [e2_18] at hP hD
        have hP : va_P G.1 vwCl (wM G am ho rn (nI z) (nI (k + 1)) sd lt ro rf u_18.1) H := hP
        have hD : va_D A (wM G am ho rn (nI z) (nI (k + 1)) sd lt ro rf u_18.1) := hD
        refine lv_if_eq (tgt := 154) hx hb dX9_readsStatement_129 (by decide) (fun c_31 => ?_) (fun c_31 => ?_)
        · skip
          refine lv_iconst (v := 0) hx hb dX9_readsStatement_154 (by decide) ?_
          refine lv_istore_n (lv' := [(2, .int 0), (1, .int (hC lt z k)), (0, .ref (am 0))]) hx hb dX9_readsStatement_155 rfl hl (by decide) rfl (fun ls hl => ?_)
          refine lv_goto (tgt := 218) hx hb dX9_readsStatement_156 (by decide) ?_
          refine lv_iload_n hx hb dX9_readsStatement_218 rfl (lv_at hl 0 rfl) ?_
          refine lv_if_eq (tgt := 231) hx hb dX9_readsStatement_219 (by decide) (fun c_32 => ?_) (fun c_32 => ?_)
          · skip
            refine lv_iconst (v := 0) hx hb dX9_readsStatement_231 (by decide) ?_
            refine hret _ _ _ _ _ _ 0 (u_18.1, (k + 1)) dX9_readsStatement_232 ?_ hP hD hS (Nat.le_of_ble_eq_true rfl) (Nat.le_of_ble_eq_true rfl)
            exact ⟨by rw [sR_o ej, ck_f hb_18] <;> rfl, by rw [sR_o ej, ck_f hb_18] <;> rfl, fun q => by rw [sR_o ej, ck_f hb_18] at q; cases q⟩
          · skip
            exact absurd c_32 (by decide)
        · skip
          exact absurd c_31 (by decide)
    · skip
      have ej : hC lt z k = 112 := ej
      refine lv_tableIn (tgt := 159) hx hb dX9_readsStatement_16 (by rw [ej]; decide) (by rw [ej]; decide) (by rw [ej]; rfl) (by decide) ?_
      refine lv_aload_n hx hb dX9_readsStatement_159 rfl (lv_at hl 1 rfl) ?_
      refine lv_iconst (v := 0) hx hb dX9_readsStatement_160 (by decide) ?_
      refine lv_iconst (v := 1) hx hb dX9_readsStatement_161 (by decide) ?_
      refine x_Vi (wN := fun u_33 => (wM G am ho rn (nI z) (nI u_33.2) sd lt ro rf u_33.1)) ⟨C0, hK, hP, hD, hS, hA⟩ 0 rfl (ci := 8) rfl rfl ((m9_rn1 l G am ho rn (nI z) (nI (k + 1)) sd lt ro rf nb z (k + 1) hz (by omega) 0 (by omega))) (cwV 2 hts (lw_V q1229 q1231 qs70 q95 q1232) rfl rfl rfl (by decide +kernel) ⟨Nat.le_of_ble_eq_true rfl, Nat.le_of_ble_eq_true rfl⟩) [0, 1, 2, 3, 4] [1, 3, 5, 7, 9] rfl (fun _ => rfl) rfl rfl hl.1 rfl (Nat.le_of_ble_eq_true rfl) dX9_readsStatement_162 ⟨(Nat.le_of_ble_eq_true rfl), (Nat.le_of_ble_eq_true rfl)⟩ (fun r_33 u_33 H locs hw_33 hP hD hS => ?_)
      have hP : va_P G.1 vwCl (wM G am ho rn (nI z) (nI u_33.2) sd lt ro rf u_33.1) H := hP
      have hD : va_D A (wM G am ho rn (nI z) (nI u_33.2) sd lt ro rf u_33.1) := hD
      rcases hw_33 with ⟨er, hb_33, e1_33, e2_33⟩ | ⟨er, hb_33, e2_33⟩
      · skip
        subst er
        rw [e1_33, e2_33] at hP hD
        have hP : va_P G.1 vwCl (wM G am ho rn (nI z) (nI ((k + 1) + 1)) sd lt ro rf (upd nb 0 (nI (dV (hC lt z (k + 1)))))) H := hP
        have hD : va_D A (wM G am ho rn (nI z) (nI ((k + 1) + 1)) sd lt ro rf (upd nb 0 (nI (dV (hC lt z (k + 1)))))) := hD
        refine lv_if_eq (tgt := 181) hx hb dX9_readsStatement_165 (by decide) (fun c_34 => ?_) (fun c_34 => ?_)
        · skip
          exact absurd c_34 (by decide)
        · skip
          refine lv_aload_n hx hb dX9_readsStatement_168 rfl (lv_at hl 1 rfl) ?_
          refine lv_iconst (v := 1) hx hb dX9_readsStatement_169 (by decide) ?_
          refine lv_iconst (v := 1) hx hb dX9_readsStatement_170 (by decide) ?_
          refine x_Vi (wN := fun u_35 => (wM G am ho rn (nI z) (nI u_35.2) sd lt ro rf u_35.1)) ⟨C0, hK, hP, hD, hS, hA⟩ 0 rfl (ci := 8) rfl rfl ((m9_rn1 l G am ho rn (nI z) (nI ((k + 1) + 1)) sd lt ro rf (upd nb 0 (nI (dV (hC lt z (k + 1))))) z ((k + 1) + 1) hz (by omega) 1 (by omega))) (cwV 2 hts (lw_V q1229 q1231 qs70 q95 q1232) rfl rfl rfl (by decide +kernel) ⟨Nat.le_of_ble_eq_true rfl, Nat.le_of_ble_eq_true rfl⟩) [0, 1, 2, 3, 4] [1, 3, 5, 7, 9] rfl (fun _ => rfl) rfl rfl hl.1 rfl (Nat.le_of_ble_eq_true rfl) dX9_readsStatement_171 ⟨(Nat.le_of_ble_eq_true rfl), (Nat.le_of_ble_eq_true rfl)⟩ (fun r_35 u_35 H locs hw_35 hP hD hS => ?_)
          have hP : va_P G.1 vwCl (wM G am ho rn (nI z) (nI u_35.2) sd lt ro rf u_35.1) H := hP
          have hD : va_D A (wM G am ho rn (nI z) (nI u_35.2) sd lt ro rf u_35.1) := hD
          rcases hw_35 with ⟨er, hb_35, e1_35, e2_35⟩ | ⟨er, hb_35, e2_35⟩
          · skip
            subst er
            rw [e1_35, e2_35] at hP hD
            have hP : va_P G.1 vwCl (wM G am ho rn (nI z) (nI (((k + 1) + 1) + 1)) sd lt ro rf (upd (upd nb 0 (nI (dV (hC lt z (k + 1))))) 1 (nI (dV (hC lt z ((k + 1) + 1)))))) H := hP
            have hD : va_D A (wM G am ho rn (nI z) (nI (((k + 1) + 1) + 1)) sd lt ro rf (upd (upd nb 0 (nI (dV (hC lt z (k + 1))))) 1 (nI (dV (hC lt z ((k + 1) + 1)))))) := hD
            refine lv_if_eq (tgt := 181) hx hb dX9_readsStatement_174 (by decide) (fun c_36 => ?_) (fun c_36 => ?_)
            · skip
              exact absurd c_36 (by decide)
            · skip
              refine lv_iconst (v := 1) hx hb dX9_readsStatement_177 (by decide) ?_
              refine lv_goto (tgt := 182) hx hb dX9_readsStatement_178 (by decide) ?_
              refine lv_istore_n (lv' := [(2, .int 1), (1, .int (hC lt z k)), (0, .ref (am 0))]) hx hb dX9_readsStatement_182 rfl hl (by decide) rfl (fun ls hl => ?_)
              refine lv_goto (tgt := 218) hx hb dX9_readsStatement_183 (by decide) ?_
              refine lv_iload_n hx hb dX9_readsStatement_218 rfl (lv_at hl 0 rfl) ?_
              refine lv_if_eq (tgt := 231) hx hb dX9_readsStatement_219 (by decide) (fun c_37 => ?_) (fun c_37 => ?_)
              · skip
                exact absurd c_37 (by decide)
              · skip
                refine lv_aload_n hx hb dX9_readsStatement_222 rfl (lv_at hl 2 rfl) ?_
                refine x_Vi (wN := fun _ => (wM G am ho rn (nI z) (nI (((k + 1) + 1) + 1)) sd lt ro rf (upd (upd nb 0 (nI (dV (hC lt z (k + 1))))) 1 (nI (dV (hC lt z ((k + 1) + 1))))))) ⟨C0, hK, hP, hD, hS, hA⟩ 0 rfl (ci := 8) rfl rfl ((m9_here l G am ho rn (nI z) (nI (((k + 1) + 1) + 1)) sd lt ro rf (upd (upd nb 0 (nI (dV (hC lt z (k + 1))))) 1 (nI (dV (hC lt z ((k + 1) + 1))))) z (((k + 1) + 1) + 1) hz (by omega) )) (cwV 0 hts (lw_V q1218 q1220 qs68 q95 q1221) rfl rfl rfl (by decide +kernel) ⟨Nat.le_of_ble_eq_true rfl, Nat.le_of_ble_eq_true rfl⟩) [0, 1, 2, 3, 4] [1, 3, 5, 7, 9] rfl (fun _ => rfl) rfl rfl hl.1 rfl (Nat.le_of_ble_eq_true rfl) dX9_readsStatement_223 ⟨(Nat.le_of_ble_eq_true rfl), (Nat.le_of_ble_eq_true rfl)⟩ (fun r_38 u_38 H locs hw_38 hP hD hS => ?_)
                have hw_38 : (hC lt z (((k + 1) + 1) + 1) : Int32) = r_38 := hw_38.symm
                subst hw_38
                refine lv_bipush (v := 59) hx hb dX9_readsStatement_226 (by decide) ?_
                refine lv_icmp_eq (tgt := 233) hx hb dX9_readsStatement_228 (by decide) (fun c_39 => ?_) (fun c_39 => ?_)
                · skip
                  refine lv_aload_n hx hb dX9_readsStatement_233 rfl (lv_at hl 2 rfl) ?_
                  refine lv_dup hx hb dX9_readsStatement_234 rfl ?_
                  refine va_get (D := G.1) (ci := 8) (v := .int (nI (((k + 1) + 1) + 1))) (C := RX9) (T := TX9) (N := 13) hx hb hts in_X9 hown hK.1 hP 0 rfl rfl 10 (by decide) (hts _ q1172) (fun _ h9 => h9) rfl dX9_readsStatement_235 ?_
                  refine lv_iconst (v := 1) hx hb dX9_readsStatement_238 (by decide) ?_
                  refine x_iadd hx hb dX9_readsStatement_239 (v := nI ((((k + 1) + 1) + 1) + 1)) (nI_1 _) ?_
                  refine va_put (D := G.1) (ci := 8) (v := .int (nI ((((k + 1) + 1) + 1) + 1))) (ty := .int) (C := RX9) (T := TX9) (N := 13) hx hb hts in_X9 tyX9 tyX9_ok nmX9 hown hK.1 hP hD hS 0 rfl rfl 10 (by decide) (hts _ q1172) (fun _ h9 => h9) rfl (by decide +kernel) rfl rfl (Nat.le_of_ble_eq_true rfl) dX9_readsStatement_240 (fun H locs hP hD hS => ?_)
                  have hP : va_P G.1 vwCl (wM G am ho rn (nI z) (nI ((((k + 1) + 1) + 1) + 1)) sd lt ro rf (upd (upd nb 0 (nI (dV (hC lt z (k + 1))))) 1 (nI (dV (hC lt z ((k + 1) + 1)))))) H := hP
                  have hD : va_D A (wM G am ho rn (nI z) (nI ((((k + 1) + 1) + 1) + 1)) sd lt ro rf (upd (upd nb 0 (nI (dV (hC lt z (k + 1))))) 1 (nI (dV (hC lt z ((k + 1) + 1)))))) := hD
                  refine lv_iconst (v := 1) hx hb dX9_readsStatement_243 (by decide) ?_
                  refine hret _ _ _ _ _ _ 1 (upd (upd nb 0 (nI (dV (hC lt z (k + 1))))) 1 (nI (dV (hC lt z ((k + 1) + 1)))), ((((k + 1) + 1) + 1) + 1)) dX9_readsStatement_244 ?_ hP hD hS (Nat.le_of_ble_eq_true rfl) (Nat.le_of_ble_eq_true rfl)
                  refine ⟨by rw [sR_p ej, ck_t hb_33, ck_t hb_35, ck_t (show cB _ = true from decide_eq_true c_39)] <;> rfl, by rw [sR_p ej, ck_t hb_33, ck_t hb_35, ck_t (show cB _ = true from decide_eq_true c_39)] <;> rfl, fun _ => ?_⟩
                  rw [sT_p ej]
                  exact ⟨rfl, rfl⟩
                · skip
                  refine lv_iconst (v := 0) hx hb dX9_readsStatement_231 (by decide) ?_
                  refine hret _ _ _ _ _ _ 0 (upd (upd nb 0 (nI (dV (hC lt z (k + 1))))) 1 (nI (dV (hC lt z ((k + 1) + 1)))), (((k + 1) + 1) + 1)) dX9_readsStatement_232 ?_ hP hD hS (Nat.le_of_ble_eq_true rfl) (Nat.le_of_ble_eq_true rfl)
                  exact ⟨by rw [sR_p ej, ck_t hb_33, ck_t hb_35, ck_f (show cB _ = false from decide_eq_false c_39)] <;> rfl, by rw [sR_p ej, ck_t hb_33, ck_t hb_35, ck_f (show cB _ = false from decide_eq_false c_39)] <;> rfl, fun q => by rw [sR_p ej, ck_t hb_33, ck_t hb_35, ck_f (show cB _ = false from decide_eq_false c_39)] at q; cases q⟩
          · skip
            subst er
            rw [e2_35] at hP hD
            have hP : va_P G.1 vwCl (wM G am ho rn (nI z) (nI ((k + 1) + 1)) sd lt ro rf u_35.1) H := hP
            have hD : va_D A (wM G am ho rn (nI z) (nI ((k + 1) + 1)) sd lt ro rf u_35.1) := hD
            refine lv_if_eq (tgt := 181) hx hb dX9_readsStatement_174 (by decide) (fun c_40 => ?_) (fun c_40 => ?_)
            · skip
              refine lv_iconst (v := 0) hx hb dX9_readsStatement_181 (by decide) ?_
              refine lv_istore_n (lv' := [(2, .int 0), (1, .int (hC lt z k)), (0, .ref (am 0))]) hx hb dX9_readsStatement_182 rfl hl (by decide) rfl (fun ls hl => ?_)
              refine lv_goto (tgt := 218) hx hb dX9_readsStatement_183 (by decide) ?_
              refine lv_iload_n hx hb dX9_readsStatement_218 rfl (lv_at hl 0 rfl) ?_
              refine lv_if_eq (tgt := 231) hx hb dX9_readsStatement_219 (by decide) (fun c_41 => ?_) (fun c_41 => ?_)
              · skip
                refine lv_iconst (v := 0) hx hb dX9_readsStatement_231 (by decide) ?_
                refine hret _ _ _ _ _ _ 0 (u_35.1, ((k + 1) + 1)) dX9_readsStatement_232 ?_ hP hD hS (Nat.le_of_ble_eq_true rfl) (Nat.le_of_ble_eq_true rfl)
                exact ⟨by rw [sR_p ej, ck_t hb_33, ck_f hb_35] <;> rfl, by rw [sR_p ej, ck_t hb_33, ck_f hb_35] <;> rfl, fun q => by rw [sR_p ej, ck_t hb_33, ck_f hb_35] at q; cases q⟩
              · skip
                exact absurd c_41 (by decide)
            · skip
              exact absurd c_40 (by decide)
      · skip
        subst er
        rw [e2_33] at hP hD
        have hP : va_P G.1 vwCl (wM G am ho rn (nI z) (nI (k + 1)) sd lt ro rf u_33.1) H := hP
        have hD : va_D A (wM G am ho rn (nI z) (nI (k + 1)) sd lt ro rf u_33.1) := hD
        refine lv_if_eq (tgt := 181) hx hb dX9_readsStatement_165 (by decide) (fun c_42 => ?_) (fun c_42 => ?_)
        · skip
          refine lv_iconst (v := 0) hx hb dX9_readsStatement_181 (by decide) ?_
          refine lv_istore_n (lv' := [(2, .int 0), (1, .int (hC lt z k)), (0, .ref (am 0))]) hx hb dX9_readsStatement_182 rfl hl (by decide) rfl (fun ls hl => ?_)
          refine lv_goto (tgt := 218) hx hb dX9_readsStatement_183 (by decide) ?_
          refine lv_iload_n hx hb dX9_readsStatement_218 rfl (lv_at hl 0 rfl) ?_
          refine lv_if_eq (tgt := 231) hx hb dX9_readsStatement_219 (by decide) (fun c_43 => ?_) (fun c_43 => ?_)
          · skip
            refine lv_iconst (v := 0) hx hb dX9_readsStatement_231 (by decide) ?_
            refine hret _ _ _ _ _ _ 0 (u_33.1, (k + 1)) dX9_readsStatement_232 ?_ hP hD hS (Nat.le_of_ble_eq_true rfl) (Nat.le_of_ble_eq_true rfl)
            exact ⟨by rw [sR_p ej, ck_f hb_33] <;> rfl, by rw [sR_p ej, ck_f hb_33] <;> rfl, fun q => by rw [sR_p ej, ck_f hb_33] at q; cases q⟩
          · skip
            exact absurd c_43 (by decide)
        · skip
          exact absurd c_42 (by decide)
    · skip
      have ej : hC lt z k = 113 := ej
      refine lv_tableIn (tgt := 206) hx hb dX9_readsStatement_16 (by rw [ej]; decide) (by rw [ej]; decide) (by rw [ej]; rfl) (by decide) ?_
      have hno : sLt (hC lt z k) = false := decide_eq_false (by rw [ej]; decide)
      refine lv_aload_n hx hb dX9_readsStatement_206 rfl (lv_at hl 1 rfl) ?_
      refine lv_dup hx hb dX9_readsStatement_207 rfl ?_
      refine va_get (D := G.1) (ci := 8) (v := .int (nI (k + 1))) (C := RX9) (T := TX9) (N := 13) hx hb hts in_X9 hown hK.1 hP 0 rfl rfl 10 (by decide) (hts _ q1172) (fun _ h9 => h9) rfl dX9_readsStatement_208 ?_
      refine lv_iconst (v := 1) hx hb dX9_readsStatement_211 (by decide) ?_
      refine x_isub hx hb dX9_readsStatement_212 (v := nI k) (nI_prd _) ?_
      refine va_put (D := G.1) (ci := 8) (v := .int (nI k)) (ty := .int) (C := RX9) (T := TX9) (N := 13) hx hb hts in_X9 tyX9 tyX9_ok nmX9 hown hK.1 hP hD hS 0 rfl rfl 10 (by decide) (hts _ q1172) (fun _ h9 => h9) rfl (by decide +kernel) rfl rfl (Nat.le_of_ble_eq_true rfl) dX9_readsStatement_213 (fun H locs hP hD hS => ?_)
      have hP : va_P G.1 vwCl (wM G am ho rn (nI z) (nI k) sd lt ro rf nb) H := hP
      have hD : va_D A (wM G am ho rn (nI z) (nI k) sd lt ro rf nb) := hD
      refine lv_iconst (v := 0) hx hb dX9_readsStatement_216 (by decide) ?_
      refine hret _ _ _ _ _ _ 0 (nb, k) dX9_readsStatement_217 ?_ hP hD hS (Nat.le_of_ble_eq_true rfl) (Nat.le_of_ble_eq_true rfl)
      exact ⟨by rw [sR_no hno] <;> rfl, by rw [sR_no hno] <;> rfl, fun q => by rw [sR_no hno] at q; cases q⟩
    · skip
      have ej : hC lt z k = 114 := ej
      refine lv_tableIn (tgt := 206) hx hb dX9_readsStatement_16 (by rw [ej]; decide) (by rw [ej]; decide) (by rw [ej]; rfl) (by decide) ?_
      have hno : sLt (hC lt z k) = false := decide_eq_false (by rw [ej]; decide)
      refine lv_aload_n hx hb dX9_readsStatement_206 rfl (lv_at hl 1 rfl) ?_
      refine lv_dup hx hb dX9_readsStatement_207 rfl ?_
      refine va_get (D := G.1) (ci := 8) (v := .int (nI (k + 1))) (C := RX9) (T := TX9) (N := 13) hx hb hts in_X9 hown hK.1 hP 0 rfl rfl 10 (by decide) (hts _ q1172) (fun _ h9 => h9) rfl dX9_readsStatement_208 ?_
      refine lv_iconst (v := 1) hx hb dX9_readsStatement_211 (by decide) ?_
      refine x_isub hx hb dX9_readsStatement_212 (v := nI k) (nI_prd _) ?_
      refine va_put (D := G.1) (ci := 8) (v := .int (nI k)) (ty := .int) (C := RX9) (T := TX9) (N := 13) hx hb hts in_X9 tyX9 tyX9_ok nmX9 hown hK.1 hP hD hS 0 rfl rfl 10 (by decide) (hts _ q1172) (fun _ h9 => h9) rfl (by decide +kernel) rfl rfl (Nat.le_of_ble_eq_true rfl) dX9_readsStatement_213 (fun H locs hP hD hS => ?_)
      have hP : va_P G.1 vwCl (wM G am ho rn (nI z) (nI k) sd lt ro rf nb) H := hP
      have hD : va_D A (wM G am ho rn (nI z) (nI k) sd lt ro rf nb) := hD
      refine lv_iconst (v := 0) hx hb dX9_readsStatement_216 (by decide) ?_
      refine hret _ _ _ _ _ _ 0 (nb, k) dX9_readsStatement_217 ?_ hP hD hS (Nat.le_of_ble_eq_true rfl) (Nat.le_of_ble_eq_true rfl)
      exact ⟨by rw [sR_no hno] <;> rfl, by rw [sR_no hno] <;> rfl, fun q => by rw [sR_no hno] at q; cases q⟩
    · skip
      have ej : hC lt z k = 115 := ej
      refine lv_tableIn (tgt := 206) hx hb dX9_readsStatement_16 (by rw [ej]; decide) (by rw [ej]; decide) (by rw [ej]; rfl) (by decide) ?_
      have hno : sLt (hC lt z k) = false := decide_eq_false (by rw [ej]; decide)
      refine lv_aload_n hx hb dX9_readsStatement_206 rfl (lv_at hl 1 rfl) ?_
      refine lv_dup hx hb dX9_readsStatement_207 rfl ?_
      refine va_get (D := G.1) (ci := 8) (v := .int (nI (k + 1))) (C := RX9) (T := TX9) (N := 13) hx hb hts in_X9 hown hK.1 hP 0 rfl rfl 10 (by decide) (hts _ q1172) (fun _ h9 => h9) rfl dX9_readsStatement_208 ?_
      refine lv_iconst (v := 1) hx hb dX9_readsStatement_211 (by decide) ?_
      refine x_isub hx hb dX9_readsStatement_212 (v := nI k) (nI_prd _) ?_
      refine va_put (D := G.1) (ci := 8) (v := .int (nI k)) (ty := .int) (C := RX9) (T := TX9) (N := 13) hx hb hts in_X9 tyX9 tyX9_ok nmX9 hown hK.1 hP hD hS 0 rfl rfl 10 (by decide) (hts _ q1172) (fun _ h9 => h9) rfl (by decide +kernel) rfl rfl (Nat.le_of_ble_eq_true rfl) dX9_readsStatement_213 (fun H locs hP hD hS => ?_)
      have hP : va_P G.1 vwCl (wM G am ho rn (nI z) (nI k) sd lt ro rf nb) H := hP
      have hD : va_D A (wM G am ho rn (nI z) (nI k) sd lt ro rf nb) := hD
      refine lv_iconst (v := 0) hx hb dX9_readsStatement_216 (by decide) ?_
      refine hret _ _ _ _ _ _ 0 (nb, k) dX9_readsStatement_217 ?_ hP hD hS (Nat.le_of_ble_eq_true rfl) (Nat.le_of_ble_eq_true rfl)
      exact ⟨by rw [sR_no hno] <;> rfl, by rw [sR_no hno] <;> rfl, fun q => by rw [sR_no hno] at q; cases q⟩
    · skip
      have ej : hC lt z k = 116 := ej
      refine lv_tableIn (tgt := 92) hx hb dX9_readsStatement_16 (by rw [ej]; decide) (by rw [ej]; decide) (by rw [ej]; rfl) (by decide) ?_
      refine lv_aload_n hx hb dX9_readsStatement_92 rfl (lv_at hl 1 rfl) ?_
      refine x_Vi (wN := fun u_44 => (wM G am ho rn (nI z) (nI u_44.2) sd lt ro rf u_44.1)) ⟨C0, hK, hP, hD, hS, hA⟩ 0 rfl (ci := 8) rfl rfl ((m9_readsKind l G am ho rn (nI z) (nI (k + 1)) sd lt ro rf nb z (k + 1) hz (by omega) )) (cwV 0 hts (lw_V q1222 q1224 qs69 q95 q1225) rfl rfl rfl (by decide +kernel) ⟨Nat.le_of_ble_eq_true rfl, Nat.le_of_ble_eq_true rfl⟩) [0, 1, 2, 3, 4] [1, 3, 5, 7, 9] rfl (fun _ => rfl) rfl rfl hl.1 rfl (Nat.le_of_ble_eq_true rfl) dX9_readsStatement_93 ⟨(Nat.le_of_ble_eq_true rfl), (Nat.le_of_ble_eq_true rfl)⟩ (fun r_44 u_44 H locs hw_44 hP hD hS => ?_)
      have hP : va_P G.1 vwCl (wM G am ho rn (nI z) (nI u_44.2) sd lt ro rf u_44.1) H := hP
      have hD : va_D A (wM G am ho rn (nI z) (nI u_44.2) sd lt ro rf u_44.1) := hD
      rcases hw_44 with ⟨er, hb_44, e1_44, e2_44⟩ | ⟨er, hb_44, e2_44⟩
      · skip
        subst er
        rw [e1_44, e2_44] at hP hD
        have hP : va_P G.1 vwCl (wM G am ho rn (nI z) (nI ((k + 1) + 1)) sd lt ro rf (upd nb 0 (nI (kV (hC lt z (k + 1)))))) H := hP
        have hD : va_D A (wM G am ho rn (nI z) (nI ((k + 1) + 1)) sd lt ro rf (upd nb 0 (nI (kV (hC lt z (k + 1)))))) := hD
        refine lv_if_eq (tgt := 112) hx hb dX9_readsStatement_96 (by decide) (fun c_45 => ?_) (fun c_45 => ?_)
        · skip
          exact absurd c_45 (by decide)
        · skip
          refine lv_aload_n hx hb dX9_readsStatement_99 rfl (lv_at hl 1 rfl) ?_
          refine lv_iconst (v := 1) hx hb dX9_readsStatement_100 (by decide) ?_
          refine lv_iconst (v := 1) hx hb dX9_readsStatement_101 (by decide) ?_
          refine x_Vi (wN := fun u_46 => (wM G am ho rn (nI z) (nI u_46.2) sd lt ro rf u_46.1)) ⟨C0, hK, hP, hD, hS, hA⟩ 0 rfl (ci := 8) rfl rfl ((m9_rn1 l G am ho rn (nI z) (nI ((k + 1) + 1)) sd lt ro rf (upd nb 0 (nI (kV (hC lt z (k + 1))))) z ((k + 1) + 1) hz (by omega) 1 (by omega))) (cwV 2 hts (lw_V q1229 q1231 qs70 q95 q1232) rfl rfl rfl (by decide +kernel) ⟨Nat.le_of_ble_eq_true rfl, Nat.le_of_ble_eq_true rfl⟩) [0, 1, 2, 3, 4] [1, 3, 5, 7, 9] rfl (fun _ => rfl) rfl rfl hl.1 rfl (Nat.le_of_ble_eq_true rfl) dX9_readsStatement_102 ⟨(Nat.le_of_ble_eq_true rfl), (Nat.le_of_ble_eq_true rfl)⟩ (fun r_46 u_46 H locs hw_46 hP hD hS => ?_)
          have hP : va_P G.1 vwCl (wM G am ho rn (nI z) (nI u_46.2) sd lt ro rf u_46.1) H := hP
          have hD : va_D A (wM G am ho rn (nI z) (nI u_46.2) sd lt ro rf u_46.1) := hD
          rcases hw_46 with ⟨er, hb_46, e1_46, e2_46⟩ | ⟨er, hb_46, e2_46⟩
          · skip
            subst er
            rw [e1_46, e2_46] at hP hD
            have hP : va_P G.1 vwCl (wM G am ho rn (nI z) (nI (((k + 1) + 1) + 1)) sd lt ro rf (upd (upd nb 0 (nI (kV (hC lt z (k + 1))))) 1 (nI (dV (hC lt z ((k + 1) + 1)))))) H := hP
            have hD : va_D A (wM G am ho rn (nI z) (nI (((k + 1) + 1) + 1)) sd lt ro rf (upd (upd nb 0 (nI (kV (hC lt z (k + 1))))) 1 (nI (dV (hC lt z ((k + 1) + 1)))))) := hD
            refine lv_if_eq (tgt := 112) hx hb dX9_readsStatement_105 (by decide) (fun c_47 => ?_) (fun c_47 => ?_)
            · skip
              exact absurd c_47 (by decide)
            · skip
              refine lv_iconst (v := 1) hx hb dX9_readsStatement_108 (by decide) ?_
              refine lv_goto (tgt := 113) hx hb dX9_readsStatement_109 (by decide) ?_
              refine lv_istore_n (lv' := [(2, .int 1), (1, .int (hC lt z k)), (0, .ref (am 0))]) hx hb dX9_readsStatement_113 rfl hl (by decide) rfl (fun ls hl => ?_)
              refine lv_aload_n hx hb dX9_readsStatement_114 rfl (lv_at hl 2 rfl) ?_
              refine va_get (D := G.1) (ci := 8) (v := .ref (am 8)) (C := RX9) (T := TX9) (N := 13) hx hb hts in_X9 hown hK.1 hP 0 rfl rfl 11 (by decide) (hts _ q1173) (fun _ h9 => h9) rfl dX9_readsStatement_115 ?_
              refine lv_iconst (v := 2) hx hb dX9_readsStatement_118 (by decide) ?_
              refine lv_bipush (v := (-9)) hx hb dX9_readsStatement_119 (by decide) ?_
              refine x_iastn (k := 2) hx hb hK.1 hP hD hS 4 0 rfl rfl (by decide) (by decide) (g := upd (upd (upd nb 0 (nI (kV (hC lt z (k + 1))))) 1 (nI (dV (hC lt z ((k + 1) + 1))))) 2 (-9)) rfl dX9_readsStatement_121 (fun H locs hP hD hS => ?_)
              have hP : va_P G.1 vwCl (wM G am ho rn (nI z) (nI (((k + 1) + 1) + 1)) sd lt ro rf (upd (upd (upd nb 0 (nI (kV (hC lt z (k + 1))))) 1 (nI (dV (hC lt z ((k + 1) + 1))))) 2 (-9))) H := hP
              have hD : va_D A (wM G am ho rn (nI z) (nI (((k + 1) + 1) + 1)) sd lt ro rf (upd (upd (upd nb 0 (nI (kV (hC lt z (k + 1))))) 1 (nI (dV (hC lt z ((k + 1) + 1))))) 2 (-9))) := hD
              refine lv_goto (tgt := 218) hx hb dX9_readsStatement_122 (by decide) ?_
              refine lv_iload_n hx hb dX9_readsStatement_218 rfl (lv_at hl 0 rfl) ?_
              refine lv_if_eq (tgt := 231) hx hb dX9_readsStatement_219 (by decide) (fun c_48 => ?_) (fun c_48 => ?_)
              · skip
                exact absurd c_48 (by decide)
              · skip
                refine lv_aload_n hx hb dX9_readsStatement_222 rfl (lv_at hl 2 rfl) ?_
                refine x_Vi (wN := fun _ => (wM G am ho rn (nI z) (nI (((k + 1) + 1) + 1)) sd lt ro rf (upd (upd (upd nb 0 (nI (kV (hC lt z (k + 1))))) 1 (nI (dV (hC lt z ((k + 1) + 1))))) 2 (-9)))) ⟨C0, hK, hP, hD, hS, hA⟩ 0 rfl (ci := 8) rfl rfl ((m9_here l G am ho rn (nI z) (nI (((k + 1) + 1) + 1)) sd lt ro rf (upd (upd (upd nb 0 (nI (kV (hC lt z (k + 1))))) 1 (nI (dV (hC lt z ((k + 1) + 1))))) 2 (-9)) z (((k + 1) + 1) + 1) hz (by omega) )) (cwV 0 hts (lw_V q1218 q1220 qs68 q95 q1221) rfl rfl rfl (by decide +kernel) ⟨Nat.le_of_ble_eq_true rfl, Nat.le_of_ble_eq_true rfl⟩) [0, 1, 2, 3, 4] [1, 3, 5, 7, 9] rfl (fun _ => rfl) rfl rfl hl.1 rfl (Nat.le_of_ble_eq_true rfl) dX9_readsStatement_223 ⟨(Nat.le_of_ble_eq_true rfl), (Nat.le_of_ble_eq_true rfl)⟩ (fun r_49 u_49 H locs hw_49 hP hD hS => ?_)
                have hw_49 : (hC lt z (((k + 1) + 1) + 1) : Int32) = r_49 := hw_49.symm
                subst hw_49
                refine lv_bipush (v := 59) hx hb dX9_readsStatement_226 (by decide) ?_
                refine lv_icmp_eq (tgt := 233) hx hb dX9_readsStatement_228 (by decide) (fun c_50 => ?_) (fun c_50 => ?_)
                · skip
                  refine lv_aload_n hx hb dX9_readsStatement_233 rfl (lv_at hl 2 rfl) ?_
                  refine lv_dup hx hb dX9_readsStatement_234 rfl ?_
                  refine va_get (D := G.1) (ci := 8) (v := .int (nI (((k + 1) + 1) + 1))) (C := RX9) (T := TX9) (N := 13) hx hb hts in_X9 hown hK.1 hP 0 rfl rfl 10 (by decide) (hts _ q1172) (fun _ h9 => h9) rfl dX9_readsStatement_235 ?_
                  refine lv_iconst (v := 1) hx hb dX9_readsStatement_238 (by decide) ?_
                  refine x_iadd hx hb dX9_readsStatement_239 (v := nI ((((k + 1) + 1) + 1) + 1)) (nI_1 _) ?_
                  refine va_put (D := G.1) (ci := 8) (v := .int (nI ((((k + 1) + 1) + 1) + 1))) (ty := .int) (C := RX9) (T := TX9) (N := 13) hx hb hts in_X9 tyX9 tyX9_ok nmX9 hown hK.1 hP hD hS 0 rfl rfl 10 (by decide) (hts _ q1172) (fun _ h9 => h9) rfl (by decide +kernel) rfl rfl (Nat.le_of_ble_eq_true rfl) dX9_readsStatement_240 (fun H locs hP hD hS => ?_)
                  have hP : va_P G.1 vwCl (wM G am ho rn (nI z) (nI ((((k + 1) + 1) + 1) + 1)) sd lt ro rf (upd (upd (upd nb 0 (nI (kV (hC lt z (k + 1))))) 1 (nI (dV (hC lt z ((k + 1) + 1))))) 2 (-9))) H := hP
                  have hD : va_D A (wM G am ho rn (nI z) (nI ((((k + 1) + 1) + 1) + 1)) sd lt ro rf (upd (upd (upd nb 0 (nI (kV (hC lt z (k + 1))))) 1 (nI (dV (hC lt z ((k + 1) + 1))))) 2 (-9))) := hD
                  refine lv_iconst (v := 1) hx hb dX9_readsStatement_243 (by decide) ?_
                  refine hret _ _ _ _ _ _ 1 (upd (upd (upd nb 0 (nI (kV (hC lt z (k + 1))))) 1 (nI (dV (hC lt z ((k + 1) + 1))))) 2 (-9), ((((k + 1) + 1) + 1) + 1)) dX9_readsStatement_244 ?_ hP hD hS (Nat.le_of_ble_eq_true rfl) (Nat.le_of_ble_eq_true rfl)
                  refine ⟨by rw [sR_t ej, ck_t hb_44, ck_t hb_46, ck_t (show cB _ = true from decide_eq_true c_50)] <;> rfl, by rw [sR_t ej, ck_t hb_44, ck_t hb_46, ck_t (show cB _ = true from decide_eq_true c_50)] <;> rfl, fun _ => ?_⟩
                  rw [sT_t ej]
                  exact ⟨rfl, rfl, rfl⟩
                · skip
                  refine lv_iconst (v := 0) hx hb dX9_readsStatement_231 (by decide) ?_
                  refine hret _ _ _ _ _ _ 0 (upd (upd (upd nb 0 (nI (kV (hC lt z (k + 1))))) 1 (nI (dV (hC lt z ((k + 1) + 1))))) 2 (-9), (((k + 1) + 1) + 1)) dX9_readsStatement_232 ?_ hP hD hS (Nat.le_of_ble_eq_true rfl) (Nat.le_of_ble_eq_true rfl)
                  exact ⟨by rw [sR_t ej, ck_t hb_44, ck_t hb_46, ck_f (show cB _ = false from decide_eq_false c_50)] <;> rfl, by rw [sR_t ej, ck_t hb_44, ck_t hb_46, ck_f (show cB _ = false from decide_eq_false c_50)] <;> rfl, fun q => by rw [sR_t ej, ck_t hb_44, ck_t hb_46, ck_f (show cB _ = false from decide_eq_false c_50)] at q; cases q⟩
          · skip
            subst er
            rw [e2_46] at hP hD
            have hP : va_P G.1 vwCl (wM G am ho rn (nI z) (nI ((k + 1) + 1)) sd lt ro rf u_46.1) H := hP
            have hD : va_D A (wM G am ho rn (nI z) (nI ((k + 1) + 1)) sd lt ro rf u_46.1) := hD
            refine lv_if_eq (tgt := 112) hx hb dX9_readsStatement_105 (by decide) (fun c_51 => ?_) (fun c_51 => ?_)
            · skip
              refine lv_iconst (v := 0) hx hb dX9_readsStatement_112 (by decide) ?_
              refine lv_istore_n (lv' := [(2, .int 0), (1, .int (hC lt z k)), (0, .ref (am 0))]) hx hb dX9_readsStatement_113 rfl hl (by decide) rfl (fun ls hl => ?_)
              refine lv_aload_n hx hb dX9_readsStatement_114 rfl (lv_at hl 2 rfl) ?_
              refine va_get (D := G.1) (ci := 8) (v := .ref (am 8)) (C := RX9) (T := TX9) (N := 13) hx hb hts in_X9 hown hK.1 hP 0 rfl rfl 11 (by decide) (hts _ q1173) (fun _ h9 => h9) rfl dX9_readsStatement_115 ?_
              refine lv_iconst (v := 2) hx hb dX9_readsStatement_118 (by decide) ?_
              refine lv_bipush (v := (-9)) hx hb dX9_readsStatement_119 (by decide) ?_
              refine x_iastn (k := 2) hx hb hK.1 hP hD hS 4 0 rfl rfl (by decide) (by decide) (g := upd u_46.1 2 (-9)) rfl dX9_readsStatement_121 (fun H locs hP hD hS => ?_)
              have hP : va_P G.1 vwCl (wM G am ho rn (nI z) (nI ((k + 1) + 1)) sd lt ro rf (upd u_46.1 2 (-9))) H := hP
              have hD : va_D A (wM G am ho rn (nI z) (nI ((k + 1) + 1)) sd lt ro rf (upd u_46.1 2 (-9))) := hD
              refine lv_goto (tgt := 218) hx hb dX9_readsStatement_122 (by decide) ?_
              refine lv_iload_n hx hb dX9_readsStatement_218 rfl (lv_at hl 0 rfl) ?_
              refine lv_if_eq (tgt := 231) hx hb dX9_readsStatement_219 (by decide) (fun c_52 => ?_) (fun c_52 => ?_)
              · skip
                refine lv_iconst (v := 0) hx hb dX9_readsStatement_231 (by decide) ?_
                refine hret _ _ _ _ _ _ 0 (upd u_46.1 2 (-9), ((k + 1) + 1)) dX9_readsStatement_232 ?_ hP hD hS (Nat.le_of_ble_eq_true rfl) (Nat.le_of_ble_eq_true rfl)
                exact ⟨by rw [sR_t ej, ck_t hb_44, ck_f hb_46] <;> rfl, by rw [sR_t ej, ck_t hb_44, ck_f hb_46] <;> rfl, fun q => by rw [sR_t ej, ck_t hb_44, ck_f hb_46] at q; cases q⟩
              · skip
                exact absurd c_52 (by decide)
            · skip
              exact absurd c_51 (by decide)
      · skip
        subst er
        rw [e2_44] at hP hD
        have hP : va_P G.1 vwCl (wM G am ho rn (nI z) (nI (k + 1)) sd lt ro rf u_44.1) H := hP
        have hD : va_D A (wM G am ho rn (nI z) (nI (k + 1)) sd lt ro rf u_44.1) := hD
        refine lv_if_eq (tgt := 112) hx hb dX9_readsStatement_96 (by decide) (fun c_53 => ?_) (fun c_53 => ?_)
        · skip
          refine lv_iconst (v := 0) hx hb dX9_readsStatement_112 (by decide) ?_
          refine lv_istore_n (lv' := [(2, .int 0), (1, .int (hC lt z k)), (0, .ref (am 0))]) hx hb dX9_readsStatement_113 rfl hl (by decide) rfl (fun ls hl => ?_)
          refine lv_aload_n hx hb dX9_readsStatement_114 rfl (lv_at hl 2 rfl) ?_
          refine va_get (D := G.1) (ci := 8) (v := .ref (am 8)) (C := RX9) (T := TX9) (N := 13) hx hb hts in_X9 hown hK.1 hP 0 rfl rfl 11 (by decide) (hts _ q1173) (fun _ h9 => h9) rfl dX9_readsStatement_115 ?_
          refine lv_iconst (v := 2) hx hb dX9_readsStatement_118 (by decide) ?_
          refine lv_bipush (v := (-9)) hx hb dX9_readsStatement_119 (by decide) ?_
          refine x_iastn (k := 2) hx hb hK.1 hP hD hS 4 0 rfl rfl (by decide) (by decide) (g := upd u_44.1 2 (-9)) rfl dX9_readsStatement_121 (fun H locs hP hD hS => ?_)
          have hP : va_P G.1 vwCl (wM G am ho rn (nI z) (nI (k + 1)) sd lt ro rf (upd u_44.1 2 (-9))) H := hP
          have hD : va_D A (wM G am ho rn (nI z) (nI (k + 1)) sd lt ro rf (upd u_44.1 2 (-9))) := hD
          refine lv_goto (tgt := 218) hx hb dX9_readsStatement_122 (by decide) ?_
          refine lv_iload_n hx hb dX9_readsStatement_218 rfl (lv_at hl 0 rfl) ?_
          refine lv_if_eq (tgt := 231) hx hb dX9_readsStatement_219 (by decide) (fun c_54 => ?_) (fun c_54 => ?_)
          · skip
            refine lv_iconst (v := 0) hx hb dX9_readsStatement_231 (by decide) ?_
            refine hret _ _ _ _ _ _ 0 (upd u_44.1 2 (-9), (k + 1)) dX9_readsStatement_232 ?_ hP hD hS (Nat.le_of_ble_eq_true rfl) (Nat.le_of_ble_eq_true rfl)
            exact ⟨by rw [sR_t ej, ck_f hb_44] <;> rfl, by rw [sR_t ej, ck_f hb_44] <;> rfl, fun q => by rw [sR_t ej, ck_f hb_44] at q; cases q⟩
          · skip
            exact absurd c_54 (by decide)
        · skip
          exact absurd c_53 (by decide)

/-! the model: orders (printed by tools/model13.py) -/
/-! the model: orders -/
set_option maxRecDepth 100000
def OV9 (r : Rw) (g : Nat → Nat) (sp : Int32) (j : Nat) : Int32 := pStN (pOR r (f3 (g (j / 3)) (g (j % 3)) (g (3 - j / 3 - j % 3))) sp 10)
/-- the best of the first j of nine pairs, and how many stand then -/
def FO (r : Rw) (g : Nat → Nat) (sp : Int32) : Nat → Int32 × Int32
  | 0 => (0, -1)
  | j + 1 => if j / 3 = j % 3 then FO r g sp j else if (FO r g sp j).2 < OV9 r g sp j then (nI (100 * (j / 3) + 10 * (j % 3) + (3 - j / 3 - j % 3)), OV9 r g sp j) else FO r g sp j
theorem FO_e {r : Rw} {g : Nat → Nat} {sp : Int32} {j : Nat} (h : j / 3 = j % 3) : FO r g sp (j + 1) = FO r g sp j := if_pos h
theorem FO_n {r : Rw} {g : Nat → Nat} {sp : Int32} {j : Nat} (h : ¬ j / 3 = j % 3) (h2 : ¬ (FO r g sp j).2 < OV9 r g sp j) : FO r g sp (j + 1) = FO r g sp j := (if_neg h).trans (if_neg h2)
theorem FO_y {r : Rw} {g : Nat → Nat} {sp : Int32} {j : Nat} (h : ¬ j / 3 = j % 3) (h2 : (FO r g sp j).2 < OV9 r g sp j) : FO r g sp (j + 1) = (nI (100 * (j / 3) + 10 * (j % 3) + (3 - j / 3 - j % 3)), OV9 r g sp j) := (if_neg h).trans (if_pos h2)
theorem FO_ge {r : Rw} {g : Nat → Nat} {sp : Int32} : ∀ j, (-1 : Int32) ≤ (FO r g sp j).2
  | 0 => by show (-1 : Int32) ≤ -1; decide
  | j + 1 => by
    have ih := FO_ge (r := r) (g := g) (sp := sp) j
    by_cases h : j / 3 = j % 3
    · rw [FO_e h]; exact ih
    · by_cases h2 : (FO r g sp j).2 < OV9 r g sp j
      · rw [FO_y h h2]
        show (-1 : Int32) ≤ OV9 r g sp j
        rw [Int32.le_iff_toInt_le] at ih ⊢
        rw [Int32.lt_iff_toInt_lt] at h2
        omega
      · rw [FO_n h h2]; exact ih
theorem FO_ng {r : Rw} {g : Nat → Nat} {sp : Int32} (j : Nat) : ¬ ((-1 : Int32) > (FO r g sp j).2) := Int32.not_lt.mpr (FO_ge j)
theorem pOR_m {r : Rw} {f : Nat → Nat} {sp : Int32} : ∀ i, mny (pOR r f sp i) = mny r
  | 0 => rfl
  | i + 1 => by
    have ih := pOR_m (r := r) (f := f) (sp := sp) i
    show mny (pMin (if i < 3 ∧ pSt (pOR r f sp i) (f i) = true then pPull (pOR r f sp i) (f i) sp else pOR r f sp i) 0) = _
    by_cases h : i < 3 ∧ pSt (pOR r f sp i) (f i) = true
    · rw [if_pos h]; exact ih
    · rw [if_neg h]; exact ih
theorem OV_lt {r : Rw} {g : Nat → Nat} {sp : Int32} (hN : mny r ≤ 10) (j : Nat) : (-1 : Int32) < OV9 r g sp j := by
  unfold OV9 pStN
  rw [pOR_m]
  have h1 := cn_le (pHow (pOR r (f3 (g (j / 3)) (g (j % 3)) (g (3 - j / 3 - j % 3))) sp 10) 0) (mny r)
  rw [Int32.lt_iff_toInt_lt, nI_toInt (by omega)]
  have e : (-1 : Int32).toInt = -1 := by decide
  omega
theorem dg_f3 {ix : Nat → Nat} {k : Nat} : (fun j => ix (dig k j)) = f3 (ix (k / 100)) (ix (k / 10 % 10)) (ix (k % 10)) := by
  funext j
  unfold dig f3
  by_cases h : j = 0
  · rw [if_pos h, if_pos h]
  · rw [if_neg h, if_neg h]
    by_cases h1 : j = 1
    · rw [if_pos h1, if_pos h1]
    · rw [if_neg h1, if_neg h1]
theorem pOV_9 {r : Rw} {ix : Nat → Nat} {sp : Int32} {k j : Nat} (h1 : k / 100 = j / 3) (h2 : k / 10 % 10 = j % 3) (h3 : k % 10 = 3 - j / 3 - j % 3) : pOV r ix sp k = OV9 r ix sp j := by
  unfold pOV OV9
  rw [dg_f3, h1, h2, h3]
theorem pOB_sk {r : Rw} {ix : Nat → Nat} {sp : Int32} {a : Nat} : ∀ d, (∀ i, i < d → isOrd (a + i) = false) → pOB r ix sp (a + d) = pOB r ix sp a
  | 0, _ => rfl
  | d + 1, h => by
    have e : pOB r ix sp (a + d + 1) = pOB r ix sp (a + d) := pOB_n (h d (by omega))
    exact e.trans (pOB_sk d (fun i hi => h i (by omega)))
theorem pOB_st {r : Rw} {ix : Nat → Nat} {sp : Int32} {k j : Nat} (hk : isOrd k = true) (hj : ¬ j / 3 = j % 3) (hc : nI k = nI (100 * (j / 3) + 10 * (j % 3) + (3 - j / 3 - j % 3))) (h1 : k / 100 = j / 3) (h2 : k / 10 % 10 = j % 3) (h3 : k % 10 = 3 - j / 3 - j % 3) (h : pOB r ix sp k = FO r ix sp j) : pOB r ix sp (k + 1) = FO r ix sp (j + 1) := by
  rw [pOB_y hk, h, pOV_9 h1 h2 h3]
  by_cases q : (FO r ix sp j).2 < OV9 r ix sp j
  · rw [if_pos q, if_pos q, FO_y hj q, hc]
  · rw [if_neg q, if_neg q, FO_n hj q]
theorem FO_2 {r : Rw} {ix : Nat → Nat} {sp : Int32} (hN : mny r ≤ 10) : pOB r ix sp 13 = FO r ix sp 2 := by
  have e12 : pOB r ix sp 12 = (-9, -1) := pOB_sk (a := 0) 12 (by decide)
  have e13 : pOB r ix sp 13 = _ := pOB_y (i := 12) (by decide)
  have ev : pOV r ix sp 12 = OV9 r ix sp 1 := pOV_9 rfl rfl rfl
  have hv := OV_lt (g := ix) (sp := sp) hN 1
  rw [e13, e12, ev, if_pos hv, if_pos hv]
  exact (FO_y (j := 1) (by decide) hv).symm
theorem FO_9 {r : Rw} {ix : Nat → Nat} {sp : Int32} (hN : mny r ≤ 10) : pOB r ix sp 300 = FO r ix sp 9 := by
  have e21 : pOB r ix sp 21 = pOB r ix sp 13 := pOB_sk (a := 13) 8 (by decide)
  have e22 := pOB_st (r := r) (ix := ix) (sp := sp) (k := 21) (j := 2) (by decide) (by decide) rfl rfl rfl rfl (e21.trans (FO_2 hN))
  have e102 : pOB r ix sp 102 = pOB r ix sp 22 := pOB_sk (a := 22) 80 (by decide)
  have e103 := pOB_st (r := r) (ix := ix) (sp := sp) (k := 102) (j := 3) (by decide) (by decide) rfl rfl rfl rfl (e102.trans e22)
  have f5 : FO r ix sp 5 = FO r ix sp 4 := FO_e (j := 4) rfl
  have e120 : pOB r ix sp 120 = pOB r ix sp 103 := pOB_sk (a := 103) 17 (by decide)
  have e121 := pOB_st (r := r) (ix := ix) (sp := sp) (k := 120) (j := 5) (by decide) (by decide) rfl rfl rfl rfl ((e120.trans e103).trans f5.symm)
  have e201 : pOB r ix sp 201 = pOB r ix sp 121 := pOB_sk (a := 121) 80 (by decide)
  have e202 := pOB_st (r := r) (ix := ix) (sp := sp) (k := 201) (j := 6) (by decide) (by decide) rfl rfl rfl rfl (e201.trans e121)
  have e210 : pOB r ix sp 210 = pOB r ix sp 202 := pOB_sk (a := 202) 8 (by decide)
  have e211 := pOB_st (r := r) (ix := ix) (sp := sp) (k := 210) (j := 7) (by decide) (by decide) rfl rfl rfl rfl (e210.trans e202)
  have f9 : FO r ix sp 9 = FO r ix sp 8 := FO_e (j := 8) rfl
  have e300 : pOB r ix sp 300 = pOB r ix sp 211 := pOB_sk (a := 211) 89 (by decide)
  exact (e300.trans e211).trans f9.symm
set_option maxHeartbeats 4000000 in
set_option maxRecDepth 100000 in
theorem m9_placed (l : Launch) (G : xG) (x1 x2 x3 k : Int32) : xCi l G yX9_placed cX9_placed 4 (some .int) ({ frames := 0, cells := 0, slots := 0, locals := 0 } : Room) [.int x1, .int x2, .int x3, .int k] ([] : va_W) (S := Unit) (fun v _ => v = if k = 0 then x1 else if k = 1 then x2 else x3) (fun _ => []) := by
  refine x_openi (by decide) (Nat.le_of_ble_eq_true rfl) (fun _ _ _ => rfl) ?_
  intro p e s m args below meth c A Q ls C0 hK hP hD hA hl hret
  obtain ⟨hx, hb, hml, hown, hts⟩ := id C0
  have hS : va_S A s.heap s.heap [] := va_S.rf
  have hP : va_P G.1 vwCl ([] : va_W) s.heap := hP
  have hD : va_D A ([] : va_W) := hD
  have hl : lv_has ls 4 [(0, .int x1), (1, .int x2), (2, .int x3), (3, .int k)] := hl
  refine lv_iload_n hx hb dX9_placed_0 rfl (lv_at hl 3 rfl) ?_
  refine lv_if_ne (tgt := 8) hx hb dX9_placed_1 (by decide) (fun c_1 => ?_) (fun c_1 => ?_)
  · skip
    refine lv_iload_n hx hb dX9_placed_8 rfl (lv_at hl 3 rfl) ?_
    refine lv_iconst (v := 1) hx hb dX9_placed_9 (by decide) ?_
    refine lv_icmp_ne (tgt := 17) hx hb dX9_placed_10 (by decide) (fun c_2 => ?_) (fun c_2 => ?_)
    · skip
      refine lv_iload_n hx hb dX9_placed_17 rfl (lv_at hl 2 rfl) ?_
      refine hret _ _ _ _ _ _ x3 () dX9_placed_18 ?_ hP hD hS (Nat.le_of_ble_eq_true rfl) (Nat.le_of_ble_eq_true rfl)
      rw [if_neg c_1]
      exact (if_neg c_2).symm
    · skip
      refine lv_iload_n hx hb dX9_placed_13 rfl (lv_at hl 1 rfl) ?_
      refine lv_goto (tgt := 18) hx hb dX9_placed_14 (by decide) ?_
      refine hret _ _ _ _ _ _ x2 () dX9_placed_18 ?_ hP hD hS (Nat.le_of_ble_eq_true rfl) (Nat.le_of_ble_eq_true rfl)
      rw [if_neg c_1]
      exact (if_pos c_2).symm
  · skip
    refine lv_iload_n hx hb dX9_placed_4 rfl (lv_at hl 0 rfl) ?_
    refine lv_goto (tgt := 18) hx hb dX9_placed_5 (by decide) ?_
    refine hret _ _ _ _ _ _ x1 () dX9_placed_18 ?_ hP hD hS (Nat.le_of_ble_eq_true rfl) (Nat.le_of_ble_eq_true rfl)
    exact (if_pos c_1).symm
set_option maxHeartbeats 4000000 in
set_option maxRecDepth 100000 in
theorem n_order (l : Launch) (G : xG) (am : Nat → Nat) (r rm r2 r4 : Rw) (ho rn ln pl sd : Int32) (lt ro rf nb : Nat → Int32) (hr : Ok r) (hp : r 5 3 = 0) (x1 x2 x3 sp w : Int32) : xCi l G yX9_order cX9_order 13 (some .int) ({ frames := 5, cells := 0, slots := 0, locals := 118 } : Room) [.ref (am 0), .int x1, .int x2, .int x3, .int sp, .int w] (wM G am ho rn ln pl sd lt ro rf nb ++ [(am 1, .inl (G.2 0, 54, .inl (row r)))] ++ [(am 2, .inl (G.2 0, 54, .inl (row rm)))] ++ [(am 3, .inl (G.2 0, 54, .inl (row r2)))] ++ [(am 4, .inl (G.2 0, 54, .inl (row r4)))]) (S := Rw) (fun v _ => v = sel (eS (tB r x1) (-1) (eS (tB r x2) (-1) (eS (tB r x3) (-1) (eS (decide (x1 ≠ x2 ∧ x1 ≠ x3 ∧ x2 ≠ x3)) (-1) (eW (wBy sp.toInt 0 9) (eS (inR w 0 1) (-2) 0)))))) (pOrd r (x3f x1 x2 x3) sp w) (eS (tB r x1) (-1) (eS (tB r x2) (-1) (eS (tB r x3) (-1) (eS (decide (x1 ≠ x2 ∧ x1 ≠ x3 ∧ x2 ≠ x3)) (-1) (eW (wBy sp.toInt 0 9) (eS (inR w 0 1) (-2) 0))))))) (fun u => (wM G am ho rn ln pl sd lt ro (sel (eS (tB r x1) (-1) (eS (tB r x2) (-1) (eS (tB r x3) (-1) (eS (decide (x1 ≠ x2 ∧ x1 ≠ x3 ∧ x2 ≠ x3)) (-1) (eW (wBy sp.toInt 0 9) (eS (inR w 0 1) (-2) 0)))))) rf (rfU rf (eS (tB r x1) (-1) (eS (tB r x2) (-1) (eS (tB r x3) (-1) (eS (decide (x1 ≠ x2 ∧ x1 ≠ x3 ∧ x2 ≠ x3)) (-1) (eW (wBy sp.toInt 0 9) (eS (inR w 0 1) (-2) 0)))))))) nb ++ [(am 1, .inl (G.2 0, 54, .inl (row r)))] ++ [(am 2, .inl (G.2 0, 54, .inl (row u)))] ++ [(am 3, .inl (G.2 0, 54, .inl (row r2)))] ++ [(am 4, .inl (G.2 0, 54, .inl (row r4)))])) := by
  refine x_openi (by decide) (Nat.le_of_ble_eq_true rfl) (fun _ _ _ => rfl) ?_
  intro p e s m args below meth c A Q ls C0 hK hP hD hA hl hret
  obtain ⟨hx, hb, hml, hown, hts⟩ := id C0
  have hS : va_S A s.heap s.heap [] := va_S.rf
  have hP : va_P G.1 vwCl (wM G am ho rn ln pl sd lt ro rf nb ++ [(am 1, .inl (G.2 0, 54, .inl (row r)))] ++ [(am 2, .inl (G.2 0, 54, .inl (row rm)))] ++ [(am 3, .inl (G.2 0, 54, .inl (row r2)))] ++ [(am 4, .inl (G.2 0, 54, .inl (row r4)))]) s.heap := hP
  have hD : va_D A (wM G am ho rn ln pl sd lt ro rf nb ++ [(am 1, .inl (G.2 0, 54, .inl (row r)))] ++ [(am 2, .inl (G.2 0, 54, .inl (row rm)))] ++ [(am 3, .inl (G.2 0, 54, .inl (row r2)))] ++ [(am 4, .inl (G.2 0, 54, .inl (row r4)))]) := hD
  have hl : lv_has ls 13 [(0, .ref (am 0)), (1, .int x1), (2, .int x2), (3, .int x3), (4, .int sp), (5, .int w)] := hl
  have hr0 := hr.n
  have hN := hr.le
  refine lv_aload_n hx hb dX9_order_0 rfl (lv_at hl 0 rfl) ?_
  refine lv_iload_n hx hb dX9_order_1 rfl (lv_at hl 1 rfl) ?_
  refine x_Vi (wN := fun _ => (wM G am ho rn ln pl sd lt ro rf nb ++ [(am 1, .inl (G.2 0, 54, .inl (row r)))] ++ [(am 2, .inl (G.2 0, 54, .inl (row rm)))] ++ [(am 3, .inl (G.2 0, 54, .inl (row r2)))] ++ [(am 4, .inl (G.2 0, 54, .inl (row r4)))])) ⟨C0, hK, hP, hD, hS, hA⟩ 0 rfl (ci := 8) rfl rfl ((m9_isThing l G am r rm r2 r4 ho rn ln pl sd lt ro rf nb hr hp x1)) (cwV 1 hts (lw_V q1247 q1249 qs73 q95 q1250) rfl rfl rfl (by decide +kernel) ⟨Nat.le_of_ble_eq_true rfl, Nat.le_of_ble_eq_true rfl⟩) [0, 1, 2, 3, 4, 5, 6, 7, 8] [1, 3, 5, 7, 9, 11, 13, 15, 17] rfl (fun _ => rfl) rfl rfl hl.1 rfl (Nat.le_of_ble_eq_true rfl) dX9_order_2 ⟨(Nat.le_of_ble_eq_true rfl), (Nat.le_of_ble_eq_true rfl)⟩ (fun r_1 u_1 H locs hw_1 hP hD hS => ?_)
  have hw_1 : (bI (tB r x1) : Int32) = r_1 := hw_1.symm
  subst hw_1
  refine lv_if_eq (tgt := 39) hx hb dX9_order_5 (by decide) (fun c_2 => ?_) (fun c_2 => ?_)
  · skip
    refine lv_iconst (v := (-1)) hx hb dX9_order_39 (by decide) ?_
    refine lv_goto (tgt := 50) hx hb dX9_order_40 (by decide) ?_
    refine lv_istore (lv' := [(6, .int (-1)), (0, .ref (am 0)), (1, .int x1), (2, .int x2), (3, .int x3), (4, .int sp), (5, .int w)]) hx hb dX9_order_50 hl (by decide) rfl (fun ls hl => ?_)
    refine lv_iload hx hb dX9_order_52 (lv_at hl 0 rfl) ?_
    refine lv_if_ne (tgt := 71) hx hb dX9_order_54 (by decide) (fun c_3 => ?_) (fun c_3 => ?_)
    · skip
      refine lv_iload hx hb dX9_order_71 (lv_at hl 0 rfl) ?_
      refine lv_if_eq (tgt := 83) hx hb dX9_order_73 (by decide) (fun c_4 => ?_) (fun c_4 => ?_)
      · skip
        exact absurd c_4 (by decide)
      · skip
        refine lv_aload_n hx hb dX9_order_76 rfl (lv_at hl 1 rfl) ?_
        refine lv_iload hx hb dX9_order_77 (lv_at hl 0 rfl) ?_
        refine x_Vi (wN := fun _ => (wM G am ho rn ln pl sd lt ro (rfU rf (-1)) nb ++ [(am 1, .inl (G.2 0, 54, .inl (row r)))] ++ [(am 2, .inl (G.2 0, 54, .inl (row rm)))] ++ [(am 3, .inl (G.2 0, 54, .inl (row r2)))] ++ [(am 4, .inl (G.2 0, 54, .inl (row r4)))])) ⟨C0, hK, hP, hD, hS, hA⟩ 0 rfl (ci := 8) rfl rfl ((m9_no l G am ho rn ln pl sd lt ro rf nb (-1) noOk_k.1)) (cwV 1 hts (lw_V q1206 q1208 qs66 q95 q1209) rfl rfl rfl (by decide +kernel) ⟨Nat.le_of_ble_eq_true rfl, Nat.le_of_ble_eq_true rfl⟩) [0, 1, 2, 3, 4] [1, 3, 5, 7, 9, 10, 12, 14, 16] rfl (fun _ => rfl) rfl rfl hl.1 rfl (Nat.le_of_ble_eq_true rfl) dX9_order_79 ⟨(Nat.le_of_ble_eq_true rfl), (Nat.le_of_ble_eq_true rfl)⟩ (fun r_5 u_5 H locs hw_5 hP hD hS => ?_)
        have hw_5 : ((-1) : Int32) = r_5 := hw_5.symm
        subst hw_5
        have hP : va_P G.1 vwCl (wM G am ho rn ln pl sd lt ro (rfU rf (-1)) nb ++ [(am 1, .inl (G.2 0, 54, .inl (row r)))] ++ [(am 2, .inl (G.2 0, 54, .inl (row rm)))] ++ [(am 3, .inl (G.2 0, 54, .inl (row r2)))] ++ [(am 4, .inl (G.2 0, 54, .inl (row r4)))]) H := hP
        have hD : va_D A (wM G am ho rn ln pl sd lt ro (rfU rf (-1)) nb ++ [(am 1, .inl (G.2 0, 54, .inl (row r)))] ++ [(am 2, .inl (G.2 0, 54, .inl (row rm)))] ++ [(am 3, .inl (G.2 0, 54, .inl (row r2)))] ++ [(am 4, .inl (G.2 0, 54, .inl (row r4)))]) := hD
        have hE : eS (tB r x1) (-1) (eS (tB r x2) (-1) (eS (tB r x3) (-1) (eS (decide (x1 ≠ x2 ∧ x1 ≠ x3 ∧ x2 ≠ x3)) (-1) (eW (wBy sp.toInt 0 9) (eS (inR w 0 1) (-2) 0))))) = (-1) := by rw [eS_f (show tB r x1 = false from (by first | exact bI_n0 c_2 | exact bI_0.mp c_2))]
        have hne : ((-1) : Int32) ≠ 0 := (by decide)
        have hP : va_P G.1 vwCl (wM G am ho rn ln pl sd lt ro (sel (eS (tB r x1) (-1) (eS (tB r x2) (-1) (eS (tB r x3) (-1) (eS (decide (x1 ≠ x2 ∧ x1 ≠ x3 ∧ x2 ≠ x3)) (-1) (eW (wBy sp.toInt 0 9) (eS (inR w 0 1) (-2) 0)))))) rf (rfU rf (eS (tB r x1) (-1) (eS (tB r x2) (-1) (eS (tB r x3) (-1) (eS (decide (x1 ≠ x2 ∧ x1 ≠ x3 ∧ x2 ≠ x3)) (-1) (eW (wBy sp.toInt 0 9) (eS (inR w 0 1) (-2) 0)))))))) nb ++ [(am 1, .inl (G.2 0, 54, .inl (row r)))] ++ [(am 2, .inl (G.2 0, 54, .inl (row rm)))] ++ [(am 3, .inl (G.2 0, 54, .inl (row r2)))] ++ [(am 4, .inl (G.2 0, 54, .inl (row r4)))]) H := by rw [hE]; simp only [sel_n hne]; exact hP
        have hD : va_D A (wM G am ho rn ln pl sd lt ro (sel (eS (tB r x1) (-1) (eS (tB r x2) (-1) (eS (tB r x3) (-1) (eS (decide (x1 ≠ x2 ∧ x1 ≠ x3 ∧ x2 ≠ x3)) (-1) (eW (wBy sp.toInt 0 9) (eS (inR w 0 1) (-2) 0)))))) rf (rfU rf (eS (tB r x1) (-1) (eS (tB r x2) (-1) (eS (tB r x3) (-1) (eS (decide (x1 ≠ x2 ∧ x1 ≠ x3 ∧ x2 ≠ x3)) (-1) (eW (wBy sp.toInt 0 9) (eS (inR w 0 1) (-2) 0)))))))) nb ++ [(am 1, .inl (G.2 0, 54, .inl (row r)))] ++ [(am 2, .inl (G.2 0, 54, .inl (row rm)))] ++ [(am 3, .inl (G.2 0, 54, .inl (row r2)))] ++ [(am 4, .inl (G.2 0, 54, .inl (row r4)))]) := by rw [hE]; simp only [sel_n hne]; exact hD
        refine hret _ _ _ _ _ _ (-1) rm dX9_order_82 ?_ hP hD hS (Nat.le_of_ble_eq_true rfl) (Nat.le_of_ble_eq_true rfl)
        rw [hE, sel_n hne]
    · skip
      exact absurd c_3 (by decide)
  · skip
    refine lv_aload_n hx hb dX9_order_8 rfl (lv_at hl 0 rfl) ?_
    refine lv_iload_n hx hb dX9_order_9 rfl (lv_at hl 2 rfl) ?_
    refine x_Vi (wN := fun _ => (wM G am ho rn ln pl sd lt ro rf nb ++ [(am 1, .inl (G.2 0, 54, .inl (row r)))] ++ [(am 2, .inl (G.2 0, 54, .inl (row rm)))] ++ [(am 3, .inl (G.2 0, 54, .inl (row r2)))] ++ [(am 4, .inl (G.2 0, 54, .inl (row r4)))])) ⟨C0, hK, hP, hD, hS, hA⟩ 0 rfl (ci := 8) rfl rfl ((m9_isThing l G am r rm r2 r4 ho rn ln pl sd lt ro rf nb hr hp x2)) (cwV 1 hts (lw_V q1247 q1249 qs73 q95 q1250) rfl rfl rfl (by decide +kernel) ⟨Nat.le_of_ble_eq_true rfl, Nat.le_of_ble_eq_true rfl⟩) [0, 1, 2, 3, 4, 5, 6, 7, 8] [1, 3, 5, 7, 9, 11, 13, 15, 17] rfl (fun _ => rfl) rfl rfl hl.1 rfl (Nat.le_of_ble_eq_true rfl) dX9_order_10 ⟨(Nat.le_of_ble_eq_true rfl), (Nat.le_of_ble_eq_true rfl)⟩ (fun r_6 u_6 H locs hw_6 hP hD hS => ?_)
    have hw_6 : (bI (tB r x2) : Int32) = r_6 := hw_6.symm
    subst hw_6
    refine lv_if_eq (tgt := 39) hx hb dX9_order_13 (by decide) (fun c_7 => ?_) (fun c_7 => ?_)
    · skip
      refine lv_iconst (v := (-1)) hx hb dX9_order_39 (by decide) ?_
      refine lv_goto (tgt := 50) hx hb dX9_order_40 (by decide) ?_
      refine lv_istore (lv' := [(6, .int (-1)), (0, .ref (am 0)), (1, .int x1), (2, .int x2), (3, .int x3), (4, .int sp), (5, .int w)]) hx hb dX9_order_50 hl (by decide) rfl (fun ls hl => ?_)
      refine lv_iload hx hb dX9_order_52 (lv_at hl 0 rfl) ?_
      refine lv_if_ne (tgt := 71) hx hb dX9_order_54 (by decide) (fun c_8 => ?_) (fun c_8 => ?_)
      · skip
        refine lv_iload hx hb dX9_order_71 (lv_at hl 0 rfl) ?_
        refine lv_if_eq (tgt := 83) hx hb dX9_order_73 (by decide) (fun c_9 => ?_) (fun c_9 => ?_)
        · skip
          exact absurd c_9 (by decide)
        · skip
          refine lv_aload_n hx hb dX9_order_76 rfl (lv_at hl 1 rfl) ?_
          refine lv_iload hx hb dX9_order_77 (lv_at hl 0 rfl) ?_
          refine x_Vi (wN := fun _ => (wM G am ho rn ln pl sd lt ro (rfU rf (-1)) nb ++ [(am 1, .inl (G.2 0, 54, .inl (row r)))] ++ [(am 2, .inl (G.2 0, 54, .inl (row rm)))] ++ [(am 3, .inl (G.2 0, 54, .inl (row r2)))] ++ [(am 4, .inl (G.2 0, 54, .inl (row r4)))])) ⟨C0, hK, hP, hD, hS, hA⟩ 0 rfl (ci := 8) rfl rfl ((m9_no l G am ho rn ln pl sd lt ro rf nb (-1) noOk_k.1)) (cwV 1 hts (lw_V q1206 q1208 qs66 q95 q1209) rfl rfl rfl (by decide +kernel) ⟨Nat.le_of_ble_eq_true rfl, Nat.le_of_ble_eq_true rfl⟩) [0, 1, 2, 3, 4] [1, 3, 5, 7, 9, 10, 12, 14, 16] rfl (fun _ => rfl) rfl rfl hl.1 rfl (Nat.le_of_ble_eq_true rfl) dX9_order_79 ⟨(Nat.le_of_ble_eq_true rfl), (Nat.le_of_ble_eq_true rfl)⟩ (fun r_10 u_10 H locs hw_10 hP hD hS => ?_)
          have hw_10 : ((-1) : Int32) = r_10 := hw_10.symm
          subst hw_10
          have hP : va_P G.1 vwCl (wM G am ho rn ln pl sd lt ro (rfU rf (-1)) nb ++ [(am 1, .inl (G.2 0, 54, .inl (row r)))] ++ [(am 2, .inl (G.2 0, 54, .inl (row rm)))] ++ [(am 3, .inl (G.2 0, 54, .inl (row r2)))] ++ [(am 4, .inl (G.2 0, 54, .inl (row r4)))]) H := hP
          have hD : va_D A (wM G am ho rn ln pl sd lt ro (rfU rf (-1)) nb ++ [(am 1, .inl (G.2 0, 54, .inl (row r)))] ++ [(am 2, .inl (G.2 0, 54, .inl (row rm)))] ++ [(am 3, .inl (G.2 0, 54, .inl (row r2)))] ++ [(am 4, .inl (G.2 0, 54, .inl (row r4)))]) := hD
          have hE : eS (tB r x1) (-1) (eS (tB r x2) (-1) (eS (tB r x3) (-1) (eS (decide (x1 ≠ x2 ∧ x1 ≠ x3 ∧ x2 ≠ x3)) (-1) (eW (wBy sp.toInt 0 9) (eS (inR w 0 1) (-2) 0))))) = (-1) := by rw [eS_t (show tB r x1 = true from (by first | exact bI_n0 c_2 | exact bI_0.mp c_2)), eS_f (show tB r x2 = false from (by first | exact bI_n0 c_7 | exact bI_0.mp c_7))]
          have hne : ((-1) : Int32) ≠ 0 := (by decide)
          have hP : va_P G.1 vwCl (wM G am ho rn ln pl sd lt ro (sel (eS (tB r x1) (-1) (eS (tB r x2) (-1) (eS (tB r x3) (-1) (eS (decide (x1 ≠ x2 ∧ x1 ≠ x3 ∧ x2 ≠ x3)) (-1) (eW (wBy sp.toInt 0 9) (eS (inR w 0 1) (-2) 0)))))) rf (rfU rf (eS (tB r x1) (-1) (eS (tB r x2) (-1) (eS (tB r x3) (-1) (eS (decide (x1 ≠ x2 ∧ x1 ≠ x3 ∧ x2 ≠ x3)) (-1) (eW (wBy sp.toInt 0 9) (eS (inR w 0 1) (-2) 0)))))))) nb ++ [(am 1, .inl (G.2 0, 54, .inl (row r)))] ++ [(am 2, .inl (G.2 0, 54, .inl (row rm)))] ++ [(am 3, .inl (G.2 0, 54, .inl (row r2)))] ++ [(am 4, .inl (G.2 0, 54, .inl (row r4)))]) H := by rw [hE]; simp only [sel_n hne]; exact hP
          have hD : va_D A (wM G am ho rn ln pl sd lt ro (sel (eS (tB r x1) (-1) (eS (tB r x2) (-1) (eS (tB r x3) (-1) (eS (decide (x1 ≠ x2 ∧ x1 ≠ x3 ∧ x2 ≠ x3)) (-1) (eW (wBy sp.toInt 0 9) (eS (inR w 0 1) (-2) 0)))))) rf (rfU rf (eS (tB r x1) (-1) (eS (tB r x2) (-1) (eS (tB r x3) (-1) (eS (decide (x1 ≠ x2 ∧ x1 ≠ x3 ∧ x2 ≠ x3)) (-1) (eW (wBy sp.toInt 0 9) (eS (inR w 0 1) (-2) 0)))))))) nb ++ [(am 1, .inl (G.2 0, 54, .inl (row r)))] ++ [(am 2, .inl (G.2 0, 54, .inl (row rm)))] ++ [(am 3, .inl (G.2 0, 54, .inl (row r2)))] ++ [(am 4, .inl (G.2 0, 54, .inl (row r4)))]) := by rw [hE]; simp only [sel_n hne]; exact hD
          refine hret _ _ _ _ _ _ (-1) rm dX9_order_82 ?_ hP hD hS (Nat.le_of_ble_eq_true rfl) (Nat.le_of_ble_eq_true rfl)
          rw [hE, sel_n hne]
      · skip
        exact absurd c_8 (by decide)
    · skip
      refine lv_aload_n hx hb dX9_order_16 rfl (lv_at hl 0 rfl) ?_
      refine lv_iload_n hx hb dX9_order_17 rfl (lv_at hl 3 rfl) ?_
      refine x_Vi (wN := fun _ => (wM G am ho rn ln pl sd lt ro rf nb ++ [(am 1, .inl (G.2 0, 54, .inl (row r)))] ++ [(am 2, .inl (G.2 0, 54, .inl (row rm)))] ++ [(am 3, .inl (G.2 0, 54, .inl (row r2)))] ++ [(am 4, .inl (G.2 0, 54, .inl (row r4)))])) ⟨C0, hK, hP, hD, hS, hA⟩ 0 rfl (ci := 8) rfl rfl ((m9_isThing l G am r rm r2 r4 ho rn ln pl sd lt ro rf nb hr hp x3)) (cwV 1 hts (lw_V q1247 q1249 qs73 q95 q1250) rfl rfl rfl (by decide +kernel) ⟨Nat.le_of_ble_eq_true rfl, Nat.le_of_ble_eq_true rfl⟩) [0, 1, 2, 3, 4, 5, 6, 7, 8] [1, 3, 5, 7, 9, 11, 13, 15, 17] rfl (fun _ => rfl) rfl rfl hl.1 rfl (Nat.le_of_ble_eq_true rfl) dX9_order_18 ⟨(Nat.le_of_ble_eq_true rfl), (Nat.le_of_ble_eq_true rfl)⟩ (fun r_11 u_11 H locs hw_11 hP hD hS => ?_)
      have hw_11 : (bI (tB r x3) : Int32) = r_11 := hw_11.symm
      subst hw_11
      refine lv_if_eq (tgt := 39) hx hb dX9_order_21 (by decide) (fun c_12 => ?_) (fun c_12 => ?_)
      · skip
        refine lv_iconst (v := (-1)) hx hb dX9_order_39 (by decide) ?_
        refine lv_goto (tgt := 50) hx hb dX9_order_40 (by decide) ?_
        refine lv_istore (lv' := [(6, .int (-1)), (0, .ref (am 0)), (1, .int x1), (2, .int x2), (3, .int x3), (4, .int sp), (5, .int w)]) hx hb dX9_order_50 hl (by decide) rfl (fun ls hl => ?_)
        refine lv_iload hx hb dX9_order_52 (lv_at hl 0 rfl) ?_
        refine lv_if_ne (tgt := 71) hx hb dX9_order_54 (by decide) (fun c_13 => ?_) (fun c_13 => ?_)
        · skip
          refine lv_iload hx hb dX9_order_71 (lv_at hl 0 rfl) ?_
          refine lv_if_eq (tgt := 83) hx hb dX9_order_73 (by decide) (fun c_14 => ?_) (fun c_14 => ?_)
          · skip
            exact absurd c_14 (by decide)
          · skip
            refine lv_aload_n hx hb dX9_order_76 rfl (lv_at hl 1 rfl) ?_
            refine lv_iload hx hb dX9_order_77 (lv_at hl 0 rfl) ?_
            refine x_Vi (wN := fun _ => (wM G am ho rn ln pl sd lt ro (rfU rf (-1)) nb ++ [(am 1, .inl (G.2 0, 54, .inl (row r)))] ++ [(am 2, .inl (G.2 0, 54, .inl (row rm)))] ++ [(am 3, .inl (G.2 0, 54, .inl (row r2)))] ++ [(am 4, .inl (G.2 0, 54, .inl (row r4)))])) ⟨C0, hK, hP, hD, hS, hA⟩ 0 rfl (ci := 8) rfl rfl ((m9_no l G am ho rn ln pl sd lt ro rf nb (-1) noOk_k.1)) (cwV 1 hts (lw_V q1206 q1208 qs66 q95 q1209) rfl rfl rfl (by decide +kernel) ⟨Nat.le_of_ble_eq_true rfl, Nat.le_of_ble_eq_true rfl⟩) [0, 1, 2, 3, 4] [1, 3, 5, 7, 9, 10, 12, 14, 16] rfl (fun _ => rfl) rfl rfl hl.1 rfl (Nat.le_of_ble_eq_true rfl) dX9_order_79 ⟨(Nat.le_of_ble_eq_true rfl), (Nat.le_of_ble_eq_true rfl)⟩ (fun r_15 u_15 H locs hw_15 hP hD hS => ?_)
            have hw_15 : ((-1) : Int32) = r_15 := hw_15.symm
            subst hw_15
            have hP : va_P G.1 vwCl (wM G am ho rn ln pl sd lt ro (rfU rf (-1)) nb ++ [(am 1, .inl (G.2 0, 54, .inl (row r)))] ++ [(am 2, .inl (G.2 0, 54, .inl (row rm)))] ++ [(am 3, .inl (G.2 0, 54, .inl (row r2)))] ++ [(am 4, .inl (G.2 0, 54, .inl (row r4)))]) H := hP
            have hD : va_D A (wM G am ho rn ln pl sd lt ro (rfU rf (-1)) nb ++ [(am 1, .inl (G.2 0, 54, .inl (row r)))] ++ [(am 2, .inl (G.2 0, 54, .inl (row rm)))] ++ [(am 3, .inl (G.2 0, 54, .inl (row r2)))] ++ [(am 4, .inl (G.2 0, 54, .inl (row r4)))]) := hD
            have hE : eS (tB r x1) (-1) (eS (tB r x2) (-1) (eS (tB r x3) (-1) (eS (decide (x1 ≠ x2 ∧ x1 ≠ x3 ∧ x2 ≠ x3)) (-1) (eW (wBy sp.toInt 0 9) (eS (inR w 0 1) (-2) 0))))) = (-1) := by rw [eS_t (show tB r x1 = true from (by first | exact bI_n0 c_2 | exact bI_0.mp c_2)), eS_t (show tB r x2 = true from (by first | exact bI_n0 c_7 | exact bI_0.mp c_7)), eS_f (show tB r x3 = false from (by first | exact bI_n0 c_12 | exact bI_0.mp c_12))]
            have hne : ((-1) : Int32) ≠ 0 := (by decide)
            have hP : va_P G.1 vwCl (wM G am ho rn ln pl sd lt ro (sel (eS (tB r x1) (-1) (eS (tB r x2) (-1) (eS (tB r x3) (-1) (eS (decide (x1 ≠ x2 ∧ x1 ≠ x3 ∧ x2 ≠ x3)) (-1) (eW (wBy sp.toInt 0 9) (eS (inR w 0 1) (-2) 0)))))) rf (rfU rf (eS (tB r x1) (-1) (eS (tB r x2) (-1) (eS (tB r x3) (-1) (eS (decide (x1 ≠ x2 ∧ x1 ≠ x3 ∧ x2 ≠ x3)) (-1) (eW (wBy sp.toInt 0 9) (eS (inR w 0 1) (-2) 0)))))))) nb ++ [(am 1, .inl (G.2 0, 54, .inl (row r)))] ++ [(am 2, .inl (G.2 0, 54, .inl (row rm)))] ++ [(am 3, .inl (G.2 0, 54, .inl (row r2)))] ++ [(am 4, .inl (G.2 0, 54, .inl (row r4)))]) H := by rw [hE]; simp only [sel_n hne]; exact hP
            have hD : va_D A (wM G am ho rn ln pl sd lt ro (sel (eS (tB r x1) (-1) (eS (tB r x2) (-1) (eS (tB r x3) (-1) (eS (decide (x1 ≠ x2 ∧ x1 ≠ x3 ∧ x2 ≠ x3)) (-1) (eW (wBy sp.toInt 0 9) (eS (inR w 0 1) (-2) 0)))))) rf (rfU rf (eS (tB r x1) (-1) (eS (tB r x2) (-1) (eS (tB r x3) (-1) (eS (decide (x1 ≠ x2 ∧ x1 ≠ x3 ∧ x2 ≠ x3)) (-1) (eW (wBy sp.toInt 0 9) (eS (inR w 0 1) (-2) 0)))))))) nb ++ [(am 1, .inl (G.2 0, 54, .inl (row r)))] ++ [(am 2, .inl (G.2 0, 54, .inl (row rm)))] ++ [(am 3, .inl (G.2 0, 54, .inl (row r2)))] ++ [(am 4, .inl (G.2 0, 54, .inl (row r4)))]) := by rw [hE]; simp only [sel_n hne]; exact hD
            refine hret _ _ _ _ _ _ (-1) rm dX9_order_82 ?_ hP hD hS (Nat.le_of_ble_eq_true rfl) (Nat.le_of_ble_eq_true rfl)
            rw [hE, sel_n hne]
        · skip
          exact absurd c_13 (by decide)
      · skip
        refine lv_iload_n hx hb dX9_order_24 rfl (lv_at hl 1 rfl) ?_
        refine lv_iload_n hx hb dX9_order_25 rfl (lv_at hl 2 rfl) ?_
        refine lv_icmp_eq (tgt := 39) hx hb dX9_order_26 (by decide) (fun c_16 => ?_) (fun c_16 => ?_)
        · skip
          refine lv_iconst (v := (-1)) hx hb dX9_order_39 (by decide) ?_
          refine lv_goto (tgt := 50) hx hb dX9_order_40 (by decide) ?_
          refine lv_istore (lv' := [(6, .int (-1)), (0, .ref (am 0)), (1, .int x1), (2, .int x2), (3, .int x3), (4, .int sp), (5, .int w)]) hx hb dX9_order_50 hl (by decide) rfl (fun ls hl => ?_)
          refine lv_iload hx hb dX9_order_52 (lv_at hl 0 rfl) ?_
          refine lv_if_ne (tgt := 71) hx hb dX9_order_54 (by decide) (fun c_17 => ?_) (fun c_17 => ?_)
          · skip
            refine lv_iload hx hb dX9_order_71 (lv_at hl 0 rfl) ?_
            refine lv_if_eq (tgt := 83) hx hb dX9_order_73 (by decide) (fun c_18 => ?_) (fun c_18 => ?_)
            · skip
              exact absurd c_18 (by decide)
            · skip
              refine lv_aload_n hx hb dX9_order_76 rfl (lv_at hl 1 rfl) ?_
              refine lv_iload hx hb dX9_order_77 (lv_at hl 0 rfl) ?_
              refine x_Vi (wN := fun _ => (wM G am ho rn ln pl sd lt ro (rfU rf (-1)) nb ++ [(am 1, .inl (G.2 0, 54, .inl (row r)))] ++ [(am 2, .inl (G.2 0, 54, .inl (row rm)))] ++ [(am 3, .inl (G.2 0, 54, .inl (row r2)))] ++ [(am 4, .inl (G.2 0, 54, .inl (row r4)))])) ⟨C0, hK, hP, hD, hS, hA⟩ 0 rfl (ci := 8) rfl rfl ((m9_no l G am ho rn ln pl sd lt ro rf nb (-1) noOk_k.1)) (cwV 1 hts (lw_V q1206 q1208 qs66 q95 q1209) rfl rfl rfl (by decide +kernel) ⟨Nat.le_of_ble_eq_true rfl, Nat.le_of_ble_eq_true rfl⟩) [0, 1, 2, 3, 4] [1, 3, 5, 7, 9, 10, 12, 14, 16] rfl (fun _ => rfl) rfl rfl hl.1 rfl (Nat.le_of_ble_eq_true rfl) dX9_order_79 ⟨(Nat.le_of_ble_eq_true rfl), (Nat.le_of_ble_eq_true rfl)⟩ (fun r_19 u_19 H locs hw_19 hP hD hS => ?_)
              have hw_19 : ((-1) : Int32) = r_19 := hw_19.symm
              subst hw_19
              have hP : va_P G.1 vwCl (wM G am ho rn ln pl sd lt ro (rfU rf (-1)) nb ++ [(am 1, .inl (G.2 0, 54, .inl (row r)))] ++ [(am 2, .inl (G.2 0, 54, .inl (row rm)))] ++ [(am 3, .inl (G.2 0, 54, .inl (row r2)))] ++ [(am 4, .inl (G.2 0, 54, .inl (row r4)))]) H := hP
              have hD : va_D A (wM G am ho rn ln pl sd lt ro (rfU rf (-1)) nb ++ [(am 1, .inl (G.2 0, 54, .inl (row r)))] ++ [(am 2, .inl (G.2 0, 54, .inl (row rm)))] ++ [(am 3, .inl (G.2 0, 54, .inl (row r2)))] ++ [(am 4, .inl (G.2 0, 54, .inl (row r4)))]) := hD
              have hE : eS (tB r x1) (-1) (eS (tB r x2) (-1) (eS (tB r x3) (-1) (eS (decide (x1 ≠ x2 ∧ x1 ≠ x3 ∧ x2 ≠ x3)) (-1) (eW (wBy sp.toInt 0 9) (eS (inR w 0 1) (-2) 0))))) = (-1) := by rw [eS_t (show tB r x1 = true from (by first | exact bI_n0 c_2 | exact bI_0.mp c_2)), eS_t (show tB r x2 = true from (by first | exact bI_n0 c_7 | exact bI_0.mp c_7)), eS_t (show tB r x3 = true from (by first | exact bI_n0 c_12 | exact bI_0.mp c_12)), eS_f (decide_eq_false (fun z => z.1 c_16))]
              have hne : ((-1) : Int32) ≠ 0 := (by decide)
              have hP : va_P G.1 vwCl (wM G am ho rn ln pl sd lt ro (sel (eS (tB r x1) (-1) (eS (tB r x2) (-1) (eS (tB r x3) (-1) (eS (decide (x1 ≠ x2 ∧ x1 ≠ x3 ∧ x2 ≠ x3)) (-1) (eW (wBy sp.toInt 0 9) (eS (inR w 0 1) (-2) 0)))))) rf (rfU rf (eS (tB r x1) (-1) (eS (tB r x2) (-1) (eS (tB r x3) (-1) (eS (decide (x1 ≠ x2 ∧ x1 ≠ x3 ∧ x2 ≠ x3)) (-1) (eW (wBy sp.toInt 0 9) (eS (inR w 0 1) (-2) 0)))))))) nb ++ [(am 1, .inl (G.2 0, 54, .inl (row r)))] ++ [(am 2, .inl (G.2 0, 54, .inl (row rm)))] ++ [(am 3, .inl (G.2 0, 54, .inl (row r2)))] ++ [(am 4, .inl (G.2 0, 54, .inl (row r4)))]) H := by rw [hE]; simp only [sel_n hne]; exact hP
              have hD : va_D A (wM G am ho rn ln pl sd lt ro (sel (eS (tB r x1) (-1) (eS (tB r x2) (-1) (eS (tB r x3) (-1) (eS (decide (x1 ≠ x2 ∧ x1 ≠ x3 ∧ x2 ≠ x3)) (-1) (eW (wBy sp.toInt 0 9) (eS (inR w 0 1) (-2) 0)))))) rf (rfU rf (eS (tB r x1) (-1) (eS (tB r x2) (-1) (eS (tB r x3) (-1) (eS (decide (x1 ≠ x2 ∧ x1 ≠ x3 ∧ x2 ≠ x3)) (-1) (eW (wBy sp.toInt 0 9) (eS (inR w 0 1) (-2) 0)))))))) nb ++ [(am 1, .inl (G.2 0, 54, .inl (row r)))] ++ [(am 2, .inl (G.2 0, 54, .inl (row rm)))] ++ [(am 3, .inl (G.2 0, 54, .inl (row r2)))] ++ [(am 4, .inl (G.2 0, 54, .inl (row r4)))]) := by rw [hE]; simp only [sel_n hne]; exact hD
              refine hret _ _ _ _ _ _ (-1) rm dX9_order_82 ?_ hP hD hS (Nat.le_of_ble_eq_true rfl) (Nat.le_of_ble_eq_true rfl)
              rw [hE, sel_n hne]
          · skip
            exact absurd c_17 (by decide)
        · skip
          refine lv_iload_n hx hb dX9_order_29 rfl (lv_at hl 1 rfl) ?_
          refine lv_iload_n hx hb dX9_order_30 rfl (lv_at hl 3 rfl) ?_
          refine lv_icmp_eq (tgt := 39) hx hb dX9_order_31 (by decide) (fun c_20 => ?_) (fun c_20 => ?_)
          · skip
            refine lv_iconst (v := (-1)) hx hb dX9_order_39 (by decide) ?_
            refine lv_goto (tgt := 50) hx hb dX9_order_40 (by decide) ?_
            refine lv_istore (lv' := [(6, .int (-1)), (0, .ref (am 0)), (1, .int x1), (2, .int x2), (3, .int x3), (4, .int sp), (5, .int w)]) hx hb dX9_order_50 hl (by decide) rfl (fun ls hl => ?_)
            refine lv_iload hx hb dX9_order_52 (lv_at hl 0 rfl) ?_
            refine lv_if_ne (tgt := 71) hx hb dX9_order_54 (by decide) (fun c_21 => ?_) (fun c_21 => ?_)
            · skip
              refine lv_iload hx hb dX9_order_71 (lv_at hl 0 rfl) ?_
              refine lv_if_eq (tgt := 83) hx hb dX9_order_73 (by decide) (fun c_22 => ?_) (fun c_22 => ?_)
              · skip
                exact absurd c_22 (by decide)
              · skip
                refine lv_aload_n hx hb dX9_order_76 rfl (lv_at hl 1 rfl) ?_
                refine lv_iload hx hb dX9_order_77 (lv_at hl 0 rfl) ?_
                refine x_Vi (wN := fun _ => (wM G am ho rn ln pl sd lt ro (rfU rf (-1)) nb ++ [(am 1, .inl (G.2 0, 54, .inl (row r)))] ++ [(am 2, .inl (G.2 0, 54, .inl (row rm)))] ++ [(am 3, .inl (G.2 0, 54, .inl (row r2)))] ++ [(am 4, .inl (G.2 0, 54, .inl (row r4)))])) ⟨C0, hK, hP, hD, hS, hA⟩ 0 rfl (ci := 8) rfl rfl ((m9_no l G am ho rn ln pl sd lt ro rf nb (-1) noOk_k.1)) (cwV 1 hts (lw_V q1206 q1208 qs66 q95 q1209) rfl rfl rfl (by decide +kernel) ⟨Nat.le_of_ble_eq_true rfl, Nat.le_of_ble_eq_true rfl⟩) [0, 1, 2, 3, 4] [1, 3, 5, 7, 9, 10, 12, 14, 16] rfl (fun _ => rfl) rfl rfl hl.1 rfl (Nat.le_of_ble_eq_true rfl) dX9_order_79 ⟨(Nat.le_of_ble_eq_true rfl), (Nat.le_of_ble_eq_true rfl)⟩ (fun r_23 u_23 H locs hw_23 hP hD hS => ?_)
                have hw_23 : ((-1) : Int32) = r_23 := hw_23.symm
                subst hw_23
                have hP : va_P G.1 vwCl (wM G am ho rn ln pl sd lt ro (rfU rf (-1)) nb ++ [(am 1, .inl (G.2 0, 54, .inl (row r)))] ++ [(am 2, .inl (G.2 0, 54, .inl (row rm)))] ++ [(am 3, .inl (G.2 0, 54, .inl (row r2)))] ++ [(am 4, .inl (G.2 0, 54, .inl (row r4)))]) H := hP
                have hD : va_D A (wM G am ho rn ln pl sd lt ro (rfU rf (-1)) nb ++ [(am 1, .inl (G.2 0, 54, .inl (row r)))] ++ [(am 2, .inl (G.2 0, 54, .inl (row rm)))] ++ [(am 3, .inl (G.2 0, 54, .inl (row r2)))] ++ [(am 4, .inl (G.2 0, 54, .inl (row r4)))]) := hD
                have hE : eS (tB r x1) (-1) (eS (tB r x2) (-1) (eS (tB r x3) (-1) (eS (decide (x1 ≠ x2 ∧ x1 ≠ x3 ∧ x2 ≠ x3)) (-1) (eW (wBy sp.toInt 0 9) (eS (inR w 0 1) (-2) 0))))) = (-1) := by rw [eS_t (show tB r x1 = true from (by first | exact bI_n0 c_2 | exact bI_0.mp c_2)), eS_t (show tB r x2 = true from (by first | exact bI_n0 c_7 | exact bI_0.mp c_7)), eS_t (show tB r x3 = true from (by first | exact bI_n0 c_12 | exact bI_0.mp c_12)), eS_f (decide_eq_false (fun z => z.2.1 c_20))]
                have hne : ((-1) : Int32) ≠ 0 := (by decide)
                have hP : va_P G.1 vwCl (wM G am ho rn ln pl sd lt ro (sel (eS (tB r x1) (-1) (eS (tB r x2) (-1) (eS (tB r x3) (-1) (eS (decide (x1 ≠ x2 ∧ x1 ≠ x3 ∧ x2 ≠ x3)) (-1) (eW (wBy sp.toInt 0 9) (eS (inR w 0 1) (-2) 0)))))) rf (rfU rf (eS (tB r x1) (-1) (eS (tB r x2) (-1) (eS (tB r x3) (-1) (eS (decide (x1 ≠ x2 ∧ x1 ≠ x3 ∧ x2 ≠ x3)) (-1) (eW (wBy sp.toInt 0 9) (eS (inR w 0 1) (-2) 0)))))))) nb ++ [(am 1, .inl (G.2 0, 54, .inl (row r)))] ++ [(am 2, .inl (G.2 0, 54, .inl (row rm)))] ++ [(am 3, .inl (G.2 0, 54, .inl (row r2)))] ++ [(am 4, .inl (G.2 0, 54, .inl (row r4)))]) H := by rw [hE]; simp only [sel_n hne]; exact hP
                have hD : va_D A (wM G am ho rn ln pl sd lt ro (sel (eS (tB r x1) (-1) (eS (tB r x2) (-1) (eS (tB r x3) (-1) (eS (decide (x1 ≠ x2 ∧ x1 ≠ x3 ∧ x2 ≠ x3)) (-1) (eW (wBy sp.toInt 0 9) (eS (inR w 0 1) (-2) 0)))))) rf (rfU rf (eS (tB r x1) (-1) (eS (tB r x2) (-1) (eS (tB r x3) (-1) (eS (decide (x1 ≠ x2 ∧ x1 ≠ x3 ∧ x2 ≠ x3)) (-1) (eW (wBy sp.toInt 0 9) (eS (inR w 0 1) (-2) 0)))))))) nb ++ [(am 1, .inl (G.2 0, 54, .inl (row r)))] ++ [(am 2, .inl (G.2 0, 54, .inl (row rm)))] ++ [(am 3, .inl (G.2 0, 54, .inl (row r2)))] ++ [(am 4, .inl (G.2 0, 54, .inl (row r4)))]) := by rw [hE]; simp only [sel_n hne]; exact hD
                refine hret _ _ _ _ _ _ (-1) rm dX9_order_82 ?_ hP hD hS (Nat.le_of_ble_eq_true rfl) (Nat.le_of_ble_eq_true rfl)
                rw [hE, sel_n hne]
            · skip
              exact absurd c_21 (by decide)
          · skip
            refine lv_iload_n hx hb dX9_order_34 rfl (lv_at hl 2 rfl) ?_
            refine lv_iload_n hx hb dX9_order_35 rfl (lv_at hl 3 rfl) ?_
            refine lv_icmp_ne (tgt := 43) hx hb dX9_order_36 (by decide) (fun c_24 => ?_) (fun c_24 => ?_)
            · skip
              refine lv_iload hx hb dX9_order_43 (lv_at hl 4 rfl) ?_
              refine lv_bipush (v := 9) hx hb dX9_order_45 (by decide) ?_
              refine x_Si (wN := fun _ => (wM G am ho rn ln pl sd lt ro rf nb ++ [(am 1, .inl (G.2 0, 54, .inl (row r)))] ++ [(am 2, .inl (G.2 0, 54, .inl (row rm)))] ++ [(am 3, .inl (G.2 0, 54, .inl (row r2)))] ++ [(am 4, .inl (G.2 0, 54, .inl (row r4)))])) ⟨C0, hK, hP, hD, hS, hA⟩ ((m9_wrongBy l G sp 9)) (va_cwS 2 hts (lw_S q1302 q1303 q95 q1304) rfl rfl rfl (by decide +kernel) ⟨Nat.le_of_ble_eq_true rfl, Nat.le_of_ble_eq_true rfl⟩) [] [0, 2, 4, 6, 8, 10, 12, 14, 16] rfl (fun _ => rfl) rfl rfl hl.1 rfl (Nat.le_of_ble_eq_true rfl) dX9_order_47 ⟨(Nat.le_of_ble_eq_true rfl), (Nat.le_of_ble_eq_true rfl)⟩ (fun r_25 u_25 H locs hw_25 hP hD hS => ?_)
              have hw_25 : r_25 = wBy sp.toInt 0 9 := hw_25.trans rfl
              have hw_25 : (wBy sp.toInt 0 9 : Int32) = r_25 := hw_25.symm
              subst hw_25
              refine lv_istore (lv' := [(6, .int (wBy sp.toInt 0 9)), (0, .ref (am 0)), (1, .int x1), (2, .int x2), (3, .int x3), (4, .int sp), (5, .int w)]) hx hb dX9_order_50 hl (by decide) rfl (fun ls hl => ?_)
              refine lv_iload hx hb dX9_order_52 (lv_at hl 0 rfl) ?_
              refine lv_if_ne (tgt := 71) hx hb dX9_order_54 (by decide) (fun c_26 => ?_) (fun c_26 => ?_)
              · skip
                refine lv_iload hx hb dX9_order_71 (lv_at hl 0 rfl) ?_
                refine lv_if_eq (tgt := 83) hx hb dX9_order_73 (by decide) (fun c_27 => ?_) (fun c_27 => ?_)
                · skip
                  exact absurd c_27 c_26
                · skip
                  refine lv_aload_n hx hb dX9_order_76 rfl (lv_at hl 1 rfl) ?_
                  refine lv_iload hx hb dX9_order_77 (lv_at hl 0 rfl) ?_
                  refine x_Vi (wN := fun _ => (wM G am ho rn ln pl sd lt ro (rfU rf (wBy sp.toInt 0 9)) nb ++ [(am 1, .inl (G.2 0, 54, .inl (row r)))] ++ [(am 2, .inl (G.2 0, 54, .inl (row rm)))] ++ [(am 3, .inl (G.2 0, 54, .inl (row r2)))] ++ [(am 4, .inl (G.2 0, 54, .inl (row r4)))])) ⟨C0, hK, hP, hD, hS, hA⟩ 0 rfl (ci := 8) rfl rfl ((m9_no l G am ho rn ln pl sd lt ro rf nb (wBy sp.toInt 0 9) (cOk.no cOk_WW c_27))) (cwV 1 hts (lw_V q1206 q1208 qs66 q95 q1209) rfl rfl rfl (by decide +kernel) ⟨Nat.le_of_ble_eq_true rfl, Nat.le_of_ble_eq_true rfl⟩) [0, 1, 2, 3, 4] [1, 3, 5, 7, 9, 10, 12, 14, 16] rfl (fun _ => rfl) rfl rfl hl.1 rfl (Nat.le_of_ble_eq_true rfl) dX9_order_79 ⟨(Nat.le_of_ble_eq_true rfl), (Nat.le_of_ble_eq_true rfl)⟩ (fun r_28 u_28 H locs hw_28 hP hD hS => ?_)
                  have hw_28 : (wBy sp.toInt 0 9 : Int32) = r_28 := hw_28.symm
                  subst hw_28
                  have hP : va_P G.1 vwCl (wM G am ho rn ln pl sd lt ro (rfU rf (wBy sp.toInt 0 9)) nb ++ [(am 1, .inl (G.2 0, 54, .inl (row r)))] ++ [(am 2, .inl (G.2 0, 54, .inl (row rm)))] ++ [(am 3, .inl (G.2 0, 54, .inl (row r2)))] ++ [(am 4, .inl (G.2 0, 54, .inl (row r4)))]) H := hP
                  have hD : va_D A (wM G am ho rn ln pl sd lt ro (rfU rf (wBy sp.toInt 0 9)) nb ++ [(am 1, .inl (G.2 0, 54, .inl (row r)))] ++ [(am 2, .inl (G.2 0, 54, .inl (row rm)))] ++ [(am 3, .inl (G.2 0, 54, .inl (row r2)))] ++ [(am 4, .inl (G.2 0, 54, .inl (row r4)))]) := hD
                  have hE : eS (tB r x1) (-1) (eS (tB r x2) (-1) (eS (tB r x3) (-1) (eS (decide (x1 ≠ x2 ∧ x1 ≠ x3 ∧ x2 ≠ x3)) (-1) (eW (wBy sp.toInt 0 9) (eS (inR w 0 1) (-2) 0))))) = wBy sp.toInt 0 9 := by rw [eS_t (show tB r x1 = true from (by first | exact bI_n0 c_2 | exact bI_0.mp c_2)), eS_t (show tB r x2 = true from (by first | exact bI_n0 c_7 | exact bI_0.mp c_7)), eS_t (show tB r x3 = true from (by first | exact bI_n0 c_12 | exact bI_0.mp c_12)), eS_t (decide_eq_true ⟨c_16, c_20, c_24⟩), eW_n c_26]
                  have hne : (wBy sp.toInt 0 9 : Int32) ≠ 0 := c_27
                  have hP : va_P G.1 vwCl (wM G am ho rn ln pl sd lt ro (sel (eS (tB r x1) (-1) (eS (tB r x2) (-1) (eS (tB r x3) (-1) (eS (decide (x1 ≠ x2 ∧ x1 ≠ x3 ∧ x2 ≠ x3)) (-1) (eW (wBy sp.toInt 0 9) (eS (inR w 0 1) (-2) 0)))))) rf (rfU rf (eS (tB r x1) (-1) (eS (tB r x2) (-1) (eS (tB r x3) (-1) (eS (decide (x1 ≠ x2 ∧ x1 ≠ x3 ∧ x2 ≠ x3)) (-1) (eW (wBy sp.toInt 0 9) (eS (inR w 0 1) (-2) 0)))))))) nb ++ [(am 1, .inl (G.2 0, 54, .inl (row r)))] ++ [(am 2, .inl (G.2 0, 54, .inl (row rm)))] ++ [(am 3, .inl (G.2 0, 54, .inl (row r2)))] ++ [(am 4, .inl (G.2 0, 54, .inl (row r4)))]) H := by rw [hE]; simp only [sel_n hne]; exact hP
                  have hD : va_D A (wM G am ho rn ln pl sd lt ro (sel (eS (tB r x1) (-1) (eS (tB r x2) (-1) (eS (tB r x3) (-1) (eS (decide (x1 ≠ x2 ∧ x1 ≠ x3 ∧ x2 ≠ x3)) (-1) (eW (wBy sp.toInt 0 9) (eS (inR w 0 1) (-2) 0)))))) rf (rfU rf (eS (tB r x1) (-1) (eS (tB r x2) (-1) (eS (tB r x3) (-1) (eS (decide (x1 ≠ x2 ∧ x1 ≠ x3 ∧ x2 ≠ x3)) (-1) (eW (wBy sp.toInt 0 9) (eS (inR w 0 1) (-2) 0)))))))) nb ++ [(am 1, .inl (G.2 0, 54, .inl (row r)))] ++ [(am 2, .inl (G.2 0, 54, .inl (row rm)))] ++ [(am 3, .inl (G.2 0, 54, .inl (row r2)))] ++ [(am 4, .inl (G.2 0, 54, .inl (row r4)))]) := by rw [hE]; simp only [sel_n hne]; exact hD
                  refine hret _ _ _ _ _ _ (wBy sp.toInt 0 9) rm dX9_order_82 ?_ hP hD hS (Nat.le_of_ble_eq_true rfl) (Nat.le_of_ble_eq_true rfl)
                  rw [hE, sel_n hne]
              · skip
                refine lv_iload hx hb dX9_order_57 (lv_at hl 6 rfl) ?_
                refine lv_iconst (v := 0) hx hb dX9_order_59 (by decide) ?_
                refine lv_iconst (v := 1) hx hb dX9_order_60 (by decide) ?_
                refine x_Si (wN := fun _ => (wM G am ho rn ln pl sd lt ro rf nb ++ [(am 1, .inl (G.2 0, 54, .inl (row r)))] ++ [(am 2, .inl (G.2 0, 54, .inl (row rm)))] ++ [(am 3, .inl (G.2 0, 54, .inl (row r2)))] ++ [(am 4, .inl (G.2 0, 54, .inl (row r4)))])) ⟨C0, hK, hP, hD, hS, hA⟩ ((m9_isIn l G w 0 1)) (va_cwS 3 hts (lw_S q1233 q1234 q95 q1235) rfl rfl rfl (by decide +kernel) ⟨Nat.le_of_ble_eq_true rfl, Nat.le_of_ble_eq_true rfl⟩) [] [0, 2, 4, 6, 8, 10, 12, 14, 16] rfl (fun _ => rfl) rfl rfl hl.1 rfl (Nat.le_of_ble_eq_true rfl) dX9_order_61 ⟨(Nat.le_of_ble_eq_true rfl), (Nat.le_of_ble_eq_true rfl)⟩ (fun r_29 u_29 H locs hw_29 hP hD hS => ?_)
                have hw_29 : r_29 = bI (inR w 0 1) := hw_29.trans rfl
                have hw_29 : (bI (inR w 0 1) : Int32) = r_29 := hw_29.symm
                subst hw_29
                refine lv_if_ne (tgt := 71) hx hb dX9_order_64 (by decide) (fun c_30 => ?_) (fun c_30 => ?_)
                · skip
                  refine lv_iload hx hb dX9_order_71 (lv_at hl 0 rfl) ?_
                  refine lv_if_eq (tgt := 83) hx hb dX9_order_73 (by decide) (fun c_31 => ?_) (fun c_31 => ?_)
                  · skip
                    obtain ⟨hj_x1, et_x1⟩ := tB_ix hN (by first | exact bI_n0 c_2 | exact bI_0.mp c_2)
                    rw [et_x1] at hl
                    obtain ⟨hj_x2, et_x2⟩ := tB_ix hN (by first | exact bI_n0 c_7 | exact bI_0.mp c_7)
                    rw [et_x2] at hl
                    obtain ⟨hj_x3, et_x3⟩ := tB_ix hN (by first | exact bI_n0 c_12 | exact bI_0.mp c_12)
                    rw [et_x3] at hl
                    refine lv_iconst (v := 0) hx hb dX9_order_83 (by decide) ?_
                    refine lv_istore (lv' := [(7, .int 0), (6, .int (wBy sp.toInt 0 9)), (0, .ref (am 0)), (1, .int (nI (ix x1))), (2, .int (nI (ix x2))), (3, .int (nI (ix x3))), (4, .int sp), (5, .int w)]) hx hb dX9_order_84 hl (by decide) rfl (fun ls hl => ?_)
                    refine lv_iconst (v := (-1)) hx hb dX9_order_86 (by decide) ?_
                    refine lv_istore (lv' := [(8, .int (-1)), (7, .int 0), (6, .int (wBy sp.toInt 0 9)), (0, .ref (am 0)), (1, .int (nI (ix x1))), (2, .int (nI (ix x2))), (3, .int (nI (ix x3))), (4, .int sp), (5, .int w)]) hx hb dX9_order_87 hl (by decide) rfl (fun ls hl => ?_)
                    refine lv_iconst (v := 0) hx hb dX9_order_89 (by decide) ?_
                    refine lv_istore (lv' := [(9, .int 0), (8, .int (-1)), (7, .int 0), (6, .int (wBy sp.toInt 0 9)), (0, .ref (am 0)), (1, .int (nI (ix x1))), (2, .int (nI (ix x2))), (3, .int (nI (ix x3))), (4, .int sp), (5, .int w)]) hx hb dX9_order_90 hl (by decide) rfl (fun ls hl => ?_)
                    refine lv_iload hx hb dX9_order_92 (lv_at hl 0 rfl) ?_
                    refine lv_iconst (v := 3) hx hb dX9_order_94 (by decide) ?_
                    refine lv_icmp_ge (tgt := 201) hx hb dX9_order_95 (by decide) (fun c_32 => ?_) (fun c_32 => ?_)
                    · skip
                      exact absurd c_32 (by decide)
                    · skip
                      refine lv_iconst (v := 0) hx hb dX9_order_98 (by decide) ?_
                      refine lv_istore (lv' := [(10, .int 0), (9, .int 0), (8, .int (-1)), (7, .int 0), (6, .int (wBy sp.toInt 0 9)), (0, .ref (am 0)), (1, .int (nI (ix x1))), (2, .int (nI (ix x2))), (3, .int (nI (ix x3))), (4, .int sp), (5, .int w)]) hx hb dX9_order_99 hl (by decide) rfl (fun ls hl => ?_)
                      have loop_101 : ∀ (n : Nat) (x y : Nat) (q9 : Rw), (x ≤ 2) → (y ≤ 3) → (11 < 4 * x + y + n) → ∀ (H : Heap) (locs : List Loc) (ls : Array Slot), va_P G.1 vwCl (wM G am ho rn ln pl sd lt ro rf nb ++ [(am 1, .inl (G.2 0, 54, .inl (row r)))] ++ [(am 2, .inl (G.2 0, 54, .inl (row q9)))] ++ [(am 3, .inl (G.2 0, 54, .inl (row r2)))] ++ [(am 4, .inl (G.2 0, 54, .inl (row r4)))]) H → va_D A (wM G am ho rn ln pl sd lt ro rf nb ++ [(am 1, .inl (G.2 0, 54, .inl (row r)))] ++ [(am 2, .inl (G.2 0, 54, .inl (row q9)))] ++ [(am 3, .inl (G.2 0, 54, .inl (row r2)))] ++ [(am 4, .inl (G.2 0, 54, .inl (row r4)))]) → va_S A s.heap H locs → lv_has ls 13 [(10, .int (nI y)), (9, .int (nI x)), (8, .int ((FO r (x3f x1 x2 x3) sp (3 * x + y)).2)), (7, .int ((FO r (x3f x1 x2 x3) sp (3 * x + y)).1)), (0, .ref (am 0)), (1, .int (nI (ix x1))), (2, .int (nI (ix x2))), (3, .int (nI (ix x3))), (4, .int sp), (5, .int w)] → W p l e ({ frames := 5, cells := 0, slots := 0, locals := 118 } : Room) s m args below meth c H locs 0 0 Q (F0 m 101 ls []) := by
                        intro n
                        induction n with
                        | zero => intro x y q9 hi101_0 hi101_1 hi101_2; exact absurd hi101_2 (by omega)
                        | succ n ih_101 =>
                          intro x y q9 hi101_0 hi101_1 hi101_2 H locs ls hP hD hS hl
                          refine lv_iload hx hb dX9_order_101 (lv_at hl 0 rfl) ?_
                          rcases (show x = 0 ∨ x = 1 ∨ x = 2 by omega) with rfl | rfl | rfl
                          · skip
                            rcases (show y = 0 ∨ y = 1 ∨ y = 2 ∨ y = 3 by omega) with rfl | rfl | rfl | rfl
                            · skip
                              have hl : lv_has ls 13 [(10, .int 0), (9, .int 0), (8, .int ((FO r (x3f x1 x2 x3) sp (3 * 0 + 0)).2)), (7, .int ((FO r (x3f x1 x2 x3) sp (3 * 0 + 0)).1)), (0, .ref (am 0)), (1, .int (nI (ix x1))), (2, .int (nI (ix x2))), (3, .int (nI (ix x3))), (4, .int sp), (5, .int w)] := hl
                              refine lv_iconst (v := 3) hx hb dX9_order_103 (by decide) ?_
                              refine lv_icmp_ge (tgt := 195) hx hb dX9_order_104 (by decide) (fun c_33 => ?_) (fun c_33 => ?_)
                              · skip
                                exact absurd c_33 (by decide)
                              · skip
                                refine lv_iconst (v := 3) hx hb dX9_order_107 (by decide) ?_
                                refine lv_iload hx hb dX9_order_108 (lv_at hl 1 rfl) ?_
                                refine x_isub hx hb dX9_order_110 (v := 3) (by decide) ?_
                                refine lv_iload hx hb dX9_order_111 (lv_at hl 0 rfl) ?_
                                refine x_isub hx hb dX9_order_113 (v := 3) (by decide) ?_
                                refine lv_istore (lv' := [(11, .int 3), (10, .int 0), (9, .int 0), (8, .int ((FO r (x3f x1 x2 x3) sp (3 * 0 + 0)).2)), (7, .int ((FO r (x3f x1 x2 x3) sp (3 * 0 + 0)).1)), (0, .ref (am 0)), (1, .int (nI (ix x1))), (2, .int (nI (ix x2))), (3, .int (nI (ix x3))), (4, .int sp), (5, .int w)]) hx hb dX9_order_114 hl (by decide) rfl (fun ls hl => ?_)
                                refine lv_iload hx hb dX9_order_116 (lv_at hl 2 rfl) ?_
                                refine lv_iload hx hb dX9_order_118 (lv_at hl 1 rfl) ?_
                                refine lv_icmp_ne (tgt := 127) hx hb dX9_order_120 (by decide) (fun c_34 => ?_) (fun c_34 => ?_)
                                · skip
                                  exact absurd c_34 (by decide)
                                · skip
                                  refine lv_iconst (v := (-1)) hx hb dX9_order_123 (by decide) ?_
                                  refine lv_goto (tgt := 157) hx hb dX9_order_124 (by decide) ?_
                                  refine lv_istore (lv' := [(12, .int (-1)), (11, .int 3), (10, .int 0), (9, .int 0), (8, .int ((FO r (x3f x1 x2 x3) sp (3 * 0 + 0)).2)), (7, .int ((FO r (x3f x1 x2 x3) sp (3 * 0 + 0)).1)), (0, .ref (am 0)), (1, .int (nI (ix x1))), (2, .int (nI (ix x2))), (3, .int (nI (ix x3))), (4, .int sp), (5, .int w)]) hx hb dX9_order_157 hl (by decide) rfl (fun ls hl => ?_)
                                  refine lv_iload hx hb dX9_order_159 (lv_at hl 0 rfl) ?_
                                  refine lv_iload hx hb dX9_order_161 (lv_at hl 4 rfl) ?_
                                  refine lv_icmp_gt (tgt := 169) hx hb dX9_order_163 (by decide) (fun c_35 => ?_) (fun c_35 => ?_)
                                  · skip
                                    exact absurd c_35 (FO_ng _)
                                  · skip
                                    refine lv_goto (tgt := 189) hx hb dX9_order_166 (by decide) ?_
                                    refine lv_iinc (v := 1) (lv' := [(10, .int 1), (12, .int (-1)), (11, .int 3), (9, .int 0), (8, .int ((FO r (x3f x1 x2 x3) sp (3 * 0 + 0)).2)), (7, .int ((FO r (x3f x1 x2 x3) sp (3 * 0 + 0)).1)), (0, .ref (am 0)), (1, .int (nI (ix x1))), (2, .int (nI (ix x2))), (3, .int (nI (ix x3))), (4, .int sp), (5, .int w)]) hx hb dX9_order_189 hl (k := 2) rfl rfl (by decide) rfl (fun ls hl => ?_)
                                    refine lv_goto (tgt := 101) hx hb dX9_order_192 (by decide) ?_
                                    rw [← show FO r (x3f x1 x2 x3) sp (3 * 0 + (0 + 1)) = FO r (x3f x1 x2 x3) sp (3 * 0 + 0) from FO_e (j := 0) rfl] at hl
                                    exact ih_101 0 (0 + 1) _ (by omega) (by omega) (by omega) _ _ _ hP hD hS (lv_sub hl [0, 3, 4, 5, 6, 7, 8, 9, 10, 11] rfl)
                            · skip
                              have hl : lv_has ls 13 [(10, .int 1), (9, .int 0), (8, .int ((FO r (x3f x1 x2 x3) sp (3 * 0 + 1)).2)), (7, .int ((FO r (x3f x1 x2 x3) sp (3 * 0 + 1)).1)), (0, .ref (am 0)), (1, .int (nI (ix x1))), (2, .int (nI (ix x2))), (3, .int (nI (ix x3))), (4, .int sp), (5, .int w)] := hl
                              refine lv_iconst (v := 3) hx hb dX9_order_103 (by decide) ?_
                              refine lv_icmp_ge (tgt := 195) hx hb dX9_order_104 (by decide) (fun c_36 => ?_) (fun c_36 => ?_)
                              · skip
                                exact absurd c_36 (by decide)
                              · skip
                                refine lv_iconst (v := 3) hx hb dX9_order_107 (by decide) ?_
                                refine lv_iload hx hb dX9_order_108 (lv_at hl 1 rfl) ?_
                                refine x_isub hx hb dX9_order_110 (v := 3) (by decide) ?_
                                refine lv_iload hx hb dX9_order_111 (lv_at hl 0 rfl) ?_
                                refine x_isub hx hb dX9_order_113 (v := 2) (by decide) ?_
                                refine lv_istore (lv' := [(11, .int 2), (10, .int 1), (9, .int 0), (8, .int ((FO r (x3f x1 x2 x3) sp (3 * 0 + 1)).2)), (7, .int ((FO r (x3f x1 x2 x3) sp (3 * 0 + 1)).1)), (0, .ref (am 0)), (1, .int (nI (ix x1))), (2, .int (nI (ix x2))), (3, .int (nI (ix x3))), (4, .int sp), (5, .int w)]) hx hb dX9_order_114 hl (by decide) rfl (fun ls hl => ?_)
                                refine lv_iload hx hb dX9_order_116 (lv_at hl 2 rfl) ?_
                                refine lv_iload hx hb dX9_order_118 (lv_at hl 1 rfl) ?_
                                refine lv_icmp_ne (tgt := 127) hx hb dX9_order_120 (by decide) (fun c_37 => ?_) (fun c_37 => ?_)
                                · skip
                                  refine lv_aload_n hx hb dX9_order_127 rfl (lv_at hl 5 rfl) ?_
                                  refine lv_iload_n hx hb dX9_order_128 rfl (lv_at hl 6 rfl) ?_
                                  refine lv_iload_n hx hb dX9_order_129 rfl (lv_at hl 7 rfl) ?_
                                  refine lv_iload_n hx hb dX9_order_130 rfl (lv_at hl 8 rfl) ?_
                                  refine lv_iload hx hb dX9_order_131 (lv_at hl 2 rfl) ?_
                                  refine x_Si (wN := fun _ => (wM G am ho rn ln pl sd lt ro rf nb ++ [(am 1, .inl (G.2 0, 54, .inl (row r)))] ++ [(am 2, .inl (G.2 0, 54, .inl (row q9)))] ++ [(am 3, .inl (G.2 0, 54, .inl (row r2)))] ++ [(am 4, .inl (G.2 0, 54, .inl (row r4)))])) ⟨C0, hK, hP, hD, hS, hA⟩ ((m9_placed l G (nI (ix x1)) (nI (ix x2)) (nI (ix x3)) 0)) (va_cwS 4 hts (lw_S q1398 q1399 q95 q1400) rfl rfl rfl (by decide +kernel) ⟨Nat.le_of_ble_eq_true rfl, Nat.le_of_ble_eq_true rfl⟩) [] [0, 2, 4, 6, 8, 10, 12, 14, 16] rfl (fun _ => rfl) rfl rfl hl.1 rfl (Nat.le_of_ble_eq_true rfl) dX9_order_133 ⟨(Nat.le_of_ble_eq_true rfl), (Nat.le_of_ble_eq_true rfl)⟩ (fun r_38 u_38 H locs hw_38 hP hD hS => ?_)
                                  have hw_38 : r_38 = nI (ix x1) := hw_38.trans (if_pos rfl)
                                  have hw_38 : (nI (ix x1) : Int32) = r_38 := hw_38.symm
                                  subst hw_38
                                  refine lv_iload_n hx hb dX9_order_136 rfl (lv_at hl 6 rfl) ?_
                                  refine lv_iload_n hx hb dX9_order_137 rfl (lv_at hl 7 rfl) ?_
                                  refine lv_iload_n hx hb dX9_order_138 rfl (lv_at hl 8 rfl) ?_
                                  refine lv_iload hx hb dX9_order_139 (lv_at hl 1 rfl) ?_
                                  refine x_Si (wN := fun _ => (wM G am ho rn ln pl sd lt ro rf nb ++ [(am 1, .inl (G.2 0, 54, .inl (row r)))] ++ [(am 2, .inl (G.2 0, 54, .inl (row q9)))] ++ [(am 3, .inl (G.2 0, 54, .inl (row r2)))] ++ [(am 4, .inl (G.2 0, 54, .inl (row r4)))])) ⟨C0, hK, hP, hD, hS, hA⟩ ((m9_placed l G (nI (ix x1)) (nI (ix x2)) (nI (ix x3)) 1)) (va_cwS 4 hts (lw_S q1398 q1399 q95 q1400) rfl rfl rfl (by decide +kernel) ⟨Nat.le_of_ble_eq_true rfl, Nat.le_of_ble_eq_true rfl⟩) [] [0, 2, 4, 6, 8, 10, 12, 14, 16] rfl (fun _ => rfl) rfl rfl hl.1 rfl (Nat.le_of_ble_eq_true rfl) dX9_order_141 ⟨(Nat.le_of_ble_eq_true rfl), (Nat.le_of_ble_eq_true rfl)⟩ (fun r_39 u_39 H locs hw_39 hP hD hS => ?_)
                                  have hw_39 : r_39 = nI (ix x2) := hw_39.trans ((if_neg (by decide)).trans (if_pos rfl))
                                  have hw_39 : (nI (ix x2) : Int32) = r_39 := hw_39.symm
                                  subst hw_39
                                  refine lv_iload_n hx hb dX9_order_144 rfl (lv_at hl 6 rfl) ?_
                                  refine lv_iload_n hx hb dX9_order_145 rfl (lv_at hl 7 rfl) ?_
                                  refine lv_iload_n hx hb dX9_order_146 rfl (lv_at hl 8 rfl) ?_
                                  refine lv_iload hx hb dX9_order_147 (lv_at hl 0 rfl) ?_
                                  refine x_Si (wN := fun _ => (wM G am ho rn ln pl sd lt ro rf nb ++ [(am 1, .inl (G.2 0, 54, .inl (row r)))] ++ [(am 2, .inl (G.2 0, 54, .inl (row q9)))] ++ [(am 3, .inl (G.2 0, 54, .inl (row r2)))] ++ [(am 4, .inl (G.2 0, 54, .inl (row r4)))])) ⟨C0, hK, hP, hD, hS, hA⟩ ((m9_placed l G (nI (ix x1)) (nI (ix x2)) (nI (ix x3)) 2)) (va_cwS 4 hts (lw_S q1398 q1399 q95 q1400) rfl rfl rfl (by decide +kernel) ⟨Nat.le_of_ble_eq_true rfl, Nat.le_of_ble_eq_true rfl⟩) [] [0, 2, 4, 6, 8, 10, 12, 14, 16] rfl (fun _ => rfl) rfl rfl hl.1 rfl (Nat.le_of_ble_eq_true rfl) dX9_order_149 ⟨(Nat.le_of_ble_eq_true rfl), (Nat.le_of_ble_eq_true rfl)⟩ (fun r_40 u_40 H locs hw_40 hP hD hS => ?_)
                                  have hw_40 : r_40 = nI (ix x3) := hw_40.trans ((if_neg (by decide)).trans (if_neg (by decide)))
                                  have hw_40 : (nI (ix x3) : Int32) = r_40 := hw_40.symm
                                  subst hw_40
                                  refine lv_iload hx hb dX9_order_152 (lv_at hl 9 rfl) ?_
                                  refine x_Vi (wN := fun u_41 => (wM G am ho rn ln pl sd lt ro rf nb ++ [(am 1, .inl (G.2 0, 54, .inl (row r)))] ++ [(am 2, .inl (G.2 0, 54, .inl (row u_41)))] ++ [(am 3, .inl (G.2 0, 54, .inl (row r2)))] ++ [(am 4, .inl (G.2 0, 54, .inl (row r4)))])) ⟨C0, hK, hP, hD, hS, hA⟩ 0 rfl (ci := 8) rfl rfl ((m9_standingBy l G am r q9 r2 r4 ho rn ln pl sd lt ro rf nb hr hp (ix x1) (ix x2) (ix x3) sp (by omega) (by omega) (by omega))) (cwV 4 hts (lw_V q1401 q1403 qs81 q95 q1404) rfl rfl rfl (by decide +kernel) ⟨Nat.le_of_ble_eq_true rfl, Nat.le_of_ble_eq_true rfl⟩) [0, 1, 2, 3, 4, 5, 6, 7, 8] [1, 3, 5, 7, 9, 11, 13, 15, 17] rfl (fun _ => rfl) rfl rfl hl.1 rfl (Nat.le_of_ble_eq_true rfl) dX9_order_154 ⟨(Nat.le_of_ble_eq_true rfl), (Nat.le_of_ble_eq_true rfl)⟩ (fun r_41 u_41 H locs hw_41 hP hD hS => ?_)
                                  have hw_41 : (pStN (pOR r (f3 (ix x1) (ix x2) (ix x3)) sp 10) : Int32) = r_41 := hw_41.symm
                                  subst hw_41
                                  have hP : va_P G.1 vwCl (wM G am ho rn ln pl sd lt ro rf nb ++ [(am 1, .inl (G.2 0, 54, .inl (row r)))] ++ [(am 2, .inl (G.2 0, 54, .inl (row u_41)))] ++ [(am 3, .inl (G.2 0, 54, .inl (row r2)))] ++ [(am 4, .inl (G.2 0, 54, .inl (row r4)))]) H := hP
                                  have hD : va_D A (wM G am ho rn ln pl sd lt ro rf nb ++ [(am 1, .inl (G.2 0, 54, .inl (row r)))] ++ [(am 2, .inl (G.2 0, 54, .inl (row u_41)))] ++ [(am 3, .inl (G.2 0, 54, .inl (row r2)))] ++ [(am 4, .inl (G.2 0, 54, .inl (row r4)))]) := hD
                                  rw [show (pStN (pOR r (f3 (ix x1) (ix x2) (ix x3)) sp 10) : Int32) = OV9 r (x3f x1 x2 x3) sp 1 from rfl]
                                  refine lv_istore (lv' := [(12, .int (OV9 r (x3f x1 x2 x3) sp 1)), (11, .int 2), (10, .int 1), (9, .int 0), (8, .int ((FO r (x3f x1 x2 x3) sp (3 * 0 + 1)).2)), (7, .int ((FO r (x3f x1 x2 x3) sp (3 * 0 + 1)).1)), (0, .ref (am 0)), (1, .int (nI (ix x1))), (2, .int (nI (ix x2))), (3, .int (nI (ix x3))), (4, .int sp), (5, .int w)]) hx hb dX9_order_157 hl (by decide) rfl (fun ls hl => ?_)
                                  refine lv_iload hx hb dX9_order_159 (lv_at hl 0 rfl) ?_
                                  refine lv_iload hx hb dX9_order_161 (lv_at hl 4 rfl) ?_
                                  refine lv_icmp_gt (tgt := 169) hx hb dX9_order_163 (by decide) (fun c_42 => ?_) (fun c_42 => ?_)
                                  · skip
                                    refine lv_bipush (v := 100) hx hb dX9_order_169 (by decide) ?_
                                    refine lv_iload hx hb dX9_order_171 (lv_at hl 3 rfl) ?_
                                    refine x_imul hx hb dX9_order_173 (v := 0) (by decide) ?_
                                    refine lv_bipush (v := 10) hx hb dX9_order_174 (by decide) ?_
                                    refine lv_iload hx hb dX9_order_176 (lv_at hl 2 rfl) ?_
                                    refine x_imul hx hb dX9_order_178 (v := 10) (by decide) ?_
                                    refine x_iadd hx hb dX9_order_179 (v := 10) (by decide) ?_
                                    refine lv_iload hx hb dX9_order_180 (lv_at hl 1 rfl) ?_
                                    refine x_iadd hx hb dX9_order_182 (v := 12) (by decide) ?_
                                    rw [show (12 : Int32) = (FO r (x3f x1 x2 x3) sp (3 * 0 + (1 + 1))).1 from (show (12 : Int32) = (FO r (x3f x1 x2 x3) sp (3 * 0 + (1 + 1))).1 from (congrArg Prod.fst (FO_y (j := 1) (by decide) c_42)).symm)]
                                    refine lv_istore (lv' := [(7, .int ((FO r (x3f x1 x2 x3) sp (3 * 0 + (1 + 1))).1)), (12, .int (OV9 r (x3f x1 x2 x3) sp 1)), (11, .int 2), (10, .int 1), (9, .int 0), (8, .int ((FO r (x3f x1 x2 x3) sp (3 * 0 + 1)).2)), (0, .ref (am 0)), (1, .int (nI (ix x1))), (2, .int (nI (ix x2))), (3, .int (nI (ix x3))), (4, .int sp), (5, .int w)]) hx hb dX9_order_183 hl (by decide) rfl (fun ls hl => ?_)
                                    refine lv_iload hx hb dX9_order_185 (lv_at hl 1 rfl) ?_
                                    rw [show (OV9 r (x3f x1 x2 x3) sp 1 : Int32) = (FO r (x3f x1 x2 x3) sp (3 * 0 + (1 + 1))).2 from (show (OV9 r (x3f x1 x2 x3) sp 1 : Int32) = (FO r (x3f x1 x2 x3) sp (3 * 0 + (1 + 1))).2 from (congrArg Prod.snd (FO_y (j := 1) (by decide) c_42)).symm)]
                                    refine lv_istore (lv' := [(8, .int ((FO r (x3f x1 x2 x3) sp (3 * 0 + (1 + 1))).2)), (7, .int ((FO r (x3f x1 x2 x3) sp (3 * 0 + (1 + 1))).1)), (12, .int (OV9 r (x3f x1 x2 x3) sp 1)), (11, .int 2), (10, .int 1), (9, .int 0), (0, .ref (am 0)), (1, .int (nI (ix x1))), (2, .int (nI (ix x2))), (3, .int (nI (ix x3))), (4, .int sp), (5, .int w)]) hx hb dX9_order_187 hl (by decide) rfl (fun ls hl => ?_)
                                    refine lv_iinc (v := 2) (lv' := [(10, .int 2), (8, .int ((FO r (x3f x1 x2 x3) sp (3 * 0 + (1 + 1))).2)), (7, .int ((FO r (x3f x1 x2 x3) sp (3 * 0 + (1 + 1))).1)), (12, .int (OV9 r (x3f x1 x2 x3) sp 1)), (11, .int 2), (9, .int 0), (0, .ref (am 0)), (1, .int (nI (ix x1))), (2, .int (nI (ix x2))), (3, .int (nI (ix x3))), (4, .int sp), (5, .int w)]) hx hb dX9_order_189 hl (k := 4) rfl rfl (by decide) rfl (fun ls hl => ?_)
                                    refine lv_goto (tgt := 101) hx hb dX9_order_192 (by decide) ?_
                                    exact ih_101 0 (1 + 1) _ (by omega) (by omega) (by omega) _ _ _ hP hD hS (lv_sub hl [0, 5, 1, 2, 6, 7, 8, 9, 10, 11] rfl)
                                  · skip
                                    refine lv_goto (tgt := 189) hx hb dX9_order_166 (by decide) ?_
                                    refine lv_iinc (v := 2) (lv' := [(10, .int 2), (12, .int (OV9 r (x3f x1 x2 x3) sp 1)), (11, .int 2), (9, .int 0), (8, .int ((FO r (x3f x1 x2 x3) sp (3 * 0 + 1)).2)), (7, .int ((FO r (x3f x1 x2 x3) sp (3 * 0 + 1)).1)), (0, .ref (am 0)), (1, .int (nI (ix x1))), (2, .int (nI (ix x2))), (3, .int (nI (ix x3))), (4, .int sp), (5, .int w)]) hx hb dX9_order_189 hl (k := 2) rfl rfl (by decide) rfl (fun ls hl => ?_)
                                    refine lv_goto (tgt := 101) hx hb dX9_order_192 (by decide) ?_
                                    rw [← show FO r (x3f x1 x2 x3) sp (3 * 0 + (1 + 1)) = FO r (x3f x1 x2 x3) sp (3 * 0 + 1) from FO_n (j := 1) (by decide) c_42] at hl
                                    exact ih_101 0 (1 + 1) _ (by omega) (by omega) (by omega) _ _ _ hP hD hS (lv_sub hl [0, 3, 4, 5, 6, 7, 8, 9, 10, 11] rfl)
                                · skip
                                  exact absurd c_37 (by decide)
                            · skip
                              have hl : lv_has ls 13 [(10, .int 2), (9, .int 0), (8, .int ((FO r (x3f x1 x2 x3) sp (3 * 0 + 2)).2)), (7, .int ((FO r (x3f x1 x2 x3) sp (3 * 0 + 2)).1)), (0, .ref (am 0)), (1, .int (nI (ix x1))), (2, .int (nI (ix x2))), (3, .int (nI (ix x3))), (4, .int sp), (5, .int w)] := hl
                              refine lv_iconst (v := 3) hx hb dX9_order_103 (by decide) ?_
                              refine lv_icmp_ge (tgt := 195) hx hb dX9_order_104 (by decide) (fun c_43 => ?_) (fun c_43 => ?_)
                              · skip
                                exact absurd c_43 (by decide)
                              · skip
                                refine lv_iconst (v := 3) hx hb dX9_order_107 (by decide) ?_
                                refine lv_iload hx hb dX9_order_108 (lv_at hl 1 rfl) ?_
                                refine x_isub hx hb dX9_order_110 (v := 3) (by decide) ?_
                                refine lv_iload hx hb dX9_order_111 (lv_at hl 0 rfl) ?_
                                refine x_isub hx hb dX9_order_113 (v := 1) (by decide) ?_
                                refine lv_istore (lv' := [(11, .int 1), (10, .int 2), (9, .int 0), (8, .int ((FO r (x3f x1 x2 x3) sp (3 * 0 + 2)).2)), (7, .int ((FO r (x3f x1 x2 x3) sp (3 * 0 + 2)).1)), (0, .ref (am 0)), (1, .int (nI (ix x1))), (2, .int (nI (ix x2))), (3, .int (nI (ix x3))), (4, .int sp), (5, .int w)]) hx hb dX9_order_114 hl (by decide) rfl (fun ls hl => ?_)
                                refine lv_iload hx hb dX9_order_116 (lv_at hl 2 rfl) ?_
                                refine lv_iload hx hb dX9_order_118 (lv_at hl 1 rfl) ?_
                                refine lv_icmp_ne (tgt := 127) hx hb dX9_order_120 (by decide) (fun c_44 => ?_) (fun c_44 => ?_)
                                · skip
                                  refine lv_aload_n hx hb dX9_order_127 rfl (lv_at hl 5 rfl) ?_
                                  refine lv_iload_n hx hb dX9_order_128 rfl (lv_at hl 6 rfl) ?_
                                  refine lv_iload_n hx hb dX9_order_129 rfl (lv_at hl 7 rfl) ?_
                                  refine lv_iload_n hx hb dX9_order_130 rfl (lv_at hl 8 rfl) ?_
                                  refine lv_iload hx hb dX9_order_131 (lv_at hl 2 rfl) ?_
                                  refine x_Si (wN := fun _ => (wM G am ho rn ln pl sd lt ro rf nb ++ [(am 1, .inl (G.2 0, 54, .inl (row r)))] ++ [(am 2, .inl (G.2 0, 54, .inl (row q9)))] ++ [(am 3, .inl (G.2 0, 54, .inl (row r2)))] ++ [(am 4, .inl (G.2 0, 54, .inl (row r4)))])) ⟨C0, hK, hP, hD, hS, hA⟩ ((m9_placed l G (nI (ix x1)) (nI (ix x2)) (nI (ix x3)) 0)) (va_cwS 4 hts (lw_S q1398 q1399 q95 q1400) rfl rfl rfl (by decide +kernel) ⟨Nat.le_of_ble_eq_true rfl, Nat.le_of_ble_eq_true rfl⟩) [] [0, 2, 4, 6, 8, 10, 12, 14, 16] rfl (fun _ => rfl) rfl rfl hl.1 rfl (Nat.le_of_ble_eq_true rfl) dX9_order_133 ⟨(Nat.le_of_ble_eq_true rfl), (Nat.le_of_ble_eq_true rfl)⟩ (fun r_45 u_45 H locs hw_45 hP hD hS => ?_)
                                  have hw_45 : r_45 = nI (ix x1) := hw_45.trans (if_pos rfl)
                                  have hw_45 : (nI (ix x1) : Int32) = r_45 := hw_45.symm
                                  subst hw_45
                                  refine lv_iload_n hx hb dX9_order_136 rfl (lv_at hl 6 rfl) ?_
                                  refine lv_iload_n hx hb dX9_order_137 rfl (lv_at hl 7 rfl) ?_
                                  refine lv_iload_n hx hb dX9_order_138 rfl (lv_at hl 8 rfl) ?_
                                  refine lv_iload hx hb dX9_order_139 (lv_at hl 1 rfl) ?_
                                  refine x_Si (wN := fun _ => (wM G am ho rn ln pl sd lt ro rf nb ++ [(am 1, .inl (G.2 0, 54, .inl (row r)))] ++ [(am 2, .inl (G.2 0, 54, .inl (row q9)))] ++ [(am 3, .inl (G.2 0, 54, .inl (row r2)))] ++ [(am 4, .inl (G.2 0, 54, .inl (row r4)))])) ⟨C0, hK, hP, hD, hS, hA⟩ ((m9_placed l G (nI (ix x1)) (nI (ix x2)) (nI (ix x3)) 2)) (va_cwS 4 hts (lw_S q1398 q1399 q95 q1400) rfl rfl rfl (by decide +kernel) ⟨Nat.le_of_ble_eq_true rfl, Nat.le_of_ble_eq_true rfl⟩) [] [0, 2, 4, 6, 8, 10, 12, 14, 16] rfl (fun _ => rfl) rfl rfl hl.1 rfl (Nat.le_of_ble_eq_true rfl) dX9_order_141 ⟨(Nat.le_of_ble_eq_true rfl), (Nat.le_of_ble_eq_true rfl)⟩ (fun r_46 u_46 H locs hw_46 hP hD hS => ?_)
                                  have hw_46 : r_46 = nI (ix x3) := hw_46.trans ((if_neg (by decide)).trans (if_neg (by decide)))
                                  have hw_46 : (nI (ix x3) : Int32) = r_46 := hw_46.symm
                                  subst hw_46
                                  refine lv_iload_n hx hb dX9_order_144 rfl (lv_at hl 6 rfl) ?_
                                  refine lv_iload_n hx hb dX9_order_145 rfl (lv_at hl 7 rfl) ?_
                                  refine lv_iload_n hx hb dX9_order_146 rfl (lv_at hl 8 rfl) ?_
                                  refine lv_iload hx hb dX9_order_147 (lv_at hl 0 rfl) ?_
                                  refine x_Si (wN := fun _ => (wM G am ho rn ln pl sd lt ro rf nb ++ [(am 1, .inl (G.2 0, 54, .inl (row r)))] ++ [(am 2, .inl (G.2 0, 54, .inl (row q9)))] ++ [(am 3, .inl (G.2 0, 54, .inl (row r2)))] ++ [(am 4, .inl (G.2 0, 54, .inl (row r4)))])) ⟨C0, hK, hP, hD, hS, hA⟩ ((m9_placed l G (nI (ix x1)) (nI (ix x2)) (nI (ix x3)) 1)) (va_cwS 4 hts (lw_S q1398 q1399 q95 q1400) rfl rfl rfl (by decide +kernel) ⟨Nat.le_of_ble_eq_true rfl, Nat.le_of_ble_eq_true rfl⟩) [] [0, 2, 4, 6, 8, 10, 12, 14, 16] rfl (fun _ => rfl) rfl rfl hl.1 rfl (Nat.le_of_ble_eq_true rfl) dX9_order_149 ⟨(Nat.le_of_ble_eq_true rfl), (Nat.le_of_ble_eq_true rfl)⟩ (fun r_47 u_47 H locs hw_47 hP hD hS => ?_)
                                  have hw_47 : r_47 = nI (ix x2) := hw_47.trans ((if_neg (by decide)).trans (if_pos rfl))
                                  have hw_47 : (nI (ix x2) : Int32) = r_47 := hw_47.symm
                                  subst hw_47
                                  refine lv_iload hx hb dX9_order_152 (lv_at hl 9 rfl) ?_
                                  refine x_Vi (wN := fun u_48 => (wM G am ho rn ln pl sd lt ro rf nb ++ [(am 1, .inl (G.2 0, 54, .inl (row r)))] ++ [(am 2, .inl (G.2 0, 54, .inl (row u_48)))] ++ [(am 3, .inl (G.2 0, 54, .inl (row r2)))] ++ [(am 4, .inl (G.2 0, 54, .inl (row r4)))])) ⟨C0, hK, hP, hD, hS, hA⟩ 0 rfl (ci := 8) rfl rfl ((m9_standingBy l G am r q9 r2 r4 ho rn ln pl sd lt ro rf nb hr hp (ix x1) (ix x3) (ix x2) sp (by omega) (by omega) (by omega))) (cwV 4 hts (lw_V q1401 q1403 qs81 q95 q1404) rfl rfl rfl (by decide +kernel) ⟨Nat.le_of_ble_eq_true rfl, Nat.le_of_ble_eq_true rfl⟩) [0, 1, 2, 3, 4, 5, 6, 7, 8] [1, 3, 5, 7, 9, 11, 13, 15, 17] rfl (fun _ => rfl) rfl rfl hl.1 rfl (Nat.le_of_ble_eq_true rfl) dX9_order_154 ⟨(Nat.le_of_ble_eq_true rfl), (Nat.le_of_ble_eq_true rfl)⟩ (fun r_48 u_48 H locs hw_48 hP hD hS => ?_)
                                  have hw_48 : (pStN (pOR r (f3 (ix x1) (ix x3) (ix x2)) sp 10) : Int32) = r_48 := hw_48.symm
                                  subst hw_48
                                  have hP : va_P G.1 vwCl (wM G am ho rn ln pl sd lt ro rf nb ++ [(am 1, .inl (G.2 0, 54, .inl (row r)))] ++ [(am 2, .inl (G.2 0, 54, .inl (row u_48)))] ++ [(am 3, .inl (G.2 0, 54, .inl (row r2)))] ++ [(am 4, .inl (G.2 0, 54, .inl (row r4)))]) H := hP
                                  have hD : va_D A (wM G am ho rn ln pl sd lt ro rf nb ++ [(am 1, .inl (G.2 0, 54, .inl (row r)))] ++ [(am 2, .inl (G.2 0, 54, .inl (row u_48)))] ++ [(am 3, .inl (G.2 0, 54, .inl (row r2)))] ++ [(am 4, .inl (G.2 0, 54, .inl (row r4)))]) := hD
                                  rw [show (pStN (pOR r (f3 (ix x1) (ix x3) (ix x2)) sp 10) : Int32) = OV9 r (x3f x1 x2 x3) sp 2 from rfl]
                                  refine lv_istore (lv' := [(12, .int (OV9 r (x3f x1 x2 x3) sp 2)), (11, .int 1), (10, .int 2), (9, .int 0), (8, .int ((FO r (x3f x1 x2 x3) sp (3 * 0 + 2)).2)), (7, .int ((FO r (x3f x1 x2 x3) sp (3 * 0 + 2)).1)), (0, .ref (am 0)), (1, .int (nI (ix x1))), (2, .int (nI (ix x2))), (3, .int (nI (ix x3))), (4, .int sp), (5, .int w)]) hx hb dX9_order_157 hl (by decide) rfl (fun ls hl => ?_)
                                  refine lv_iload hx hb dX9_order_159 (lv_at hl 0 rfl) ?_
                                  refine lv_iload hx hb dX9_order_161 (lv_at hl 4 rfl) ?_
                                  refine lv_icmp_gt (tgt := 169) hx hb dX9_order_163 (by decide) (fun c_49 => ?_) (fun c_49 => ?_)
                                  · skip
                                    refine lv_bipush (v := 100) hx hb dX9_order_169 (by decide) ?_
                                    refine lv_iload hx hb dX9_order_171 (lv_at hl 3 rfl) ?_
                                    refine x_imul hx hb dX9_order_173 (v := 0) (by decide) ?_
                                    refine lv_bipush (v := 10) hx hb dX9_order_174 (by decide) ?_
                                    refine lv_iload hx hb dX9_order_176 (lv_at hl 2 rfl) ?_
                                    refine x_imul hx hb dX9_order_178 (v := 20) (by decide) ?_
                                    refine x_iadd hx hb dX9_order_179 (v := 20) (by decide) ?_
                                    refine lv_iload hx hb dX9_order_180 (lv_at hl 1 rfl) ?_
                                    refine x_iadd hx hb dX9_order_182 (v := 21) (by decide) ?_
                                    rw [show (21 : Int32) = (FO r (x3f x1 x2 x3) sp (3 * 0 + (2 + 1))).1 from (show (21 : Int32) = (FO r (x3f x1 x2 x3) sp (3 * 0 + (2 + 1))).1 from (congrArg Prod.fst (FO_y (j := 2) (by decide) c_49)).symm)]
                                    refine lv_istore (lv' := [(7, .int ((FO r (x3f x1 x2 x3) sp (3 * 0 + (2 + 1))).1)), (12, .int (OV9 r (x3f x1 x2 x3) sp 2)), (11, .int 1), (10, .int 2), (9, .int 0), (8, .int ((FO r (x3f x1 x2 x3) sp (3 * 0 + 2)).2)), (0, .ref (am 0)), (1, .int (nI (ix x1))), (2, .int (nI (ix x2))), (3, .int (nI (ix x3))), (4, .int sp), (5, .int w)]) hx hb dX9_order_183 hl (by decide) rfl (fun ls hl => ?_)
                                    refine lv_iload hx hb dX9_order_185 (lv_at hl 1 rfl) ?_
                                    rw [show (OV9 r (x3f x1 x2 x3) sp 2 : Int32) = (FO r (x3f x1 x2 x3) sp (3 * 0 + (2 + 1))).2 from (show (OV9 r (x3f x1 x2 x3) sp 2 : Int32) = (FO r (x3f x1 x2 x3) sp (3 * 0 + (2 + 1))).2 from (congrArg Prod.snd (FO_y (j := 2) (by decide) c_49)).symm)]
                                    refine lv_istore (lv' := [(8, .int ((FO r (x3f x1 x2 x3) sp (3 * 0 + (2 + 1))).2)), (7, .int ((FO r (x3f x1 x2 x3) sp (3 * 0 + (2 + 1))).1)), (12, .int (OV9 r (x3f x1 x2 x3) sp 2)), (11, .int 1), (10, .int 2), (9, .int 0), (0, .ref (am 0)), (1, .int (nI (ix x1))), (2, .int (nI (ix x2))), (3, .int (nI (ix x3))), (4, .int sp), (5, .int w)]) hx hb dX9_order_187 hl (by decide) rfl (fun ls hl => ?_)
                                    refine lv_iinc (v := 3) (lv' := [(10, .int 3), (8, .int ((FO r (x3f x1 x2 x3) sp (3 * 0 + (2 + 1))).2)), (7, .int ((FO r (x3f x1 x2 x3) sp (3 * 0 + (2 + 1))).1)), (12, .int (OV9 r (x3f x1 x2 x3) sp 2)), (11, .int 1), (9, .int 0), (0, .ref (am 0)), (1, .int (nI (ix x1))), (2, .int (nI (ix x2))), (3, .int (nI (ix x3))), (4, .int sp), (5, .int w)]) hx hb dX9_order_189 hl (k := 4) rfl rfl (by decide) rfl (fun ls hl => ?_)
                                    refine lv_goto (tgt := 101) hx hb dX9_order_192 (by decide) ?_
                                    exact ih_101 0 (2 + 1) _ (by omega) (by omega) (by omega) _ _ _ hP hD hS (lv_sub hl [0, 5, 1, 2, 6, 7, 8, 9, 10, 11] rfl)
                                  · skip
                                    refine lv_goto (tgt := 189) hx hb dX9_order_166 (by decide) ?_
                                    refine lv_iinc (v := 3) (lv' := [(10, .int 3), (12, .int (OV9 r (x3f x1 x2 x3) sp 2)), (11, .int 1), (9, .int 0), (8, .int ((FO r (x3f x1 x2 x3) sp (3 * 0 + 2)).2)), (7, .int ((FO r (x3f x1 x2 x3) sp (3 * 0 + 2)).1)), (0, .ref (am 0)), (1, .int (nI (ix x1))), (2, .int (nI (ix x2))), (3, .int (nI (ix x3))), (4, .int sp), (5, .int w)]) hx hb dX9_order_189 hl (k := 2) rfl rfl (by decide) rfl (fun ls hl => ?_)
                                    refine lv_goto (tgt := 101) hx hb dX9_order_192 (by decide) ?_
                                    rw [← show FO r (x3f x1 x2 x3) sp (3 * 0 + (2 + 1)) = FO r (x3f x1 x2 x3) sp (3 * 0 + 2) from FO_n (j := 2) (by decide) c_49] at hl
                                    exact ih_101 0 (2 + 1) _ (by omega) (by omega) (by omega) _ _ _ hP hD hS (lv_sub hl [0, 3, 4, 5, 6, 7, 8, 9, 10, 11] rfl)
                                · skip
                                  exact absurd c_44 (by decide)
                            · skip
                              have hl : lv_has ls 13 [(10, .int 3), (9, .int 0), (8, .int ((FO r (x3f x1 x2 x3) sp (3 * 0 + 3)).2)), (7, .int ((FO r (x3f x1 x2 x3) sp (3 * 0 + 3)).1)), (0, .ref (am 0)), (1, .int (nI (ix x1))), (2, .int (nI (ix x2))), (3, .int (nI (ix x3))), (4, .int sp), (5, .int w)] := hl
                              refine lv_iconst (v := 3) hx hb dX9_order_103 (by decide) ?_
                              refine lv_icmp_ge (tgt := 195) hx hb dX9_order_104 (by decide) (fun c_50 => ?_) (fun c_50 => ?_)
                              · skip
                                refine lv_iinc (v := 1) (lv' := [(9, .int 1), (10, .int 3), (8, .int ((FO r (x3f x1 x2 x3) sp (3 * 0 + 3)).2)), (7, .int ((FO r (x3f x1 x2 x3) sp (3 * 0 + 3)).1)), (0, .ref (am 0)), (1, .int (nI (ix x1))), (2, .int (nI (ix x2))), (3, .int (nI (ix x3))), (4, .int sp), (5, .int w)]) hx hb dX9_order_195 hl (k := 1) rfl rfl (by decide) rfl (fun ls hl => ?_)
                                refine lv_goto (tgt := 92) hx hb dX9_order_198 (by decide) ?_
                                refine lv_iload hx hb dX9_order_92 (lv_at hl 0 rfl) ?_
                                refine lv_iconst (v := 3) hx hb dX9_order_94 (by decide) ?_
                                refine lv_icmp_ge (tgt := 201) hx hb dX9_order_95 (by decide) (fun c_51 => ?_) (fun c_51 => ?_)
                                · skip
                                  exact absurd c_51 (by decide)
                                · skip
                                  refine lv_iconst (v := 0) hx hb dX9_order_98 (by decide) ?_
                                  refine lv_istore (lv' := [(10, .int 0), (9, .int 1), (8, .int ((FO r (x3f x1 x2 x3) sp (3 * 0 + 3)).2)), (7, .int ((FO r (x3f x1 x2 x3) sp (3 * 0 + 3)).1)), (0, .ref (am 0)), (1, .int (nI (ix x1))), (2, .int (nI (ix x2))), (3, .int (nI (ix x3))), (4, .int sp), (5, .int w)]) hx hb dX9_order_99 hl (by decide) rfl (fun ls hl => ?_)
                                  exact ih_101 (0 + 1) 0 _ (by omega) (by omega) (by omega) _ _ _ hP hD hS (lv_sub hl [0, 1, 2, 3, 4, 5, 6, 7, 8, 9] rfl)
                              · skip
                                exact absurd c_50 (by decide)
                          · skip
                            rcases (show y = 0 ∨ y = 1 ∨ y = 2 ∨ y = 3 by omega) with rfl | rfl | rfl | rfl
                            · skip
                              have hl : lv_has ls 13 [(10, .int 0), (9, .int 1), (8, .int ((FO r (x3f x1 x2 x3) sp (3 * 1 + 0)).2)), (7, .int ((FO r (x3f x1 x2 x3) sp (3 * 1 + 0)).1)), (0, .ref (am 0)), (1, .int (nI (ix x1))), (2, .int (nI (ix x2))), (3, .int (nI (ix x3))), (4, .int sp), (5, .int w)] := hl
                              refine lv_iconst (v := 3) hx hb dX9_order_103 (by decide) ?_
                              refine lv_icmp_ge (tgt := 195) hx hb dX9_order_104 (by decide) (fun c_52 => ?_) (fun c_52 => ?_)
                              · skip
                                exact absurd c_52 (by decide)
                              · skip
                                refine lv_iconst (v := 3) hx hb dX9_order_107 (by decide) ?_
                                refine lv_iload hx hb dX9_order_108 (lv_at hl 1 rfl) ?_
                                refine x_isub hx hb dX9_order_110 (v := 2) (by decide) ?_
                                refine lv_iload hx hb dX9_order_111 (lv_at hl 0 rfl) ?_
                                refine x_isub hx hb dX9_order_113 (v := 2) (by decide) ?_
                                refine lv_istore (lv' := [(11, .int 2), (10, .int 0), (9, .int 1), (8, .int ((FO r (x3f x1 x2 x3) sp (3 * 1 + 0)).2)), (7, .int ((FO r (x3f x1 x2 x3) sp (3 * 1 + 0)).1)), (0, .ref (am 0)), (1, .int (nI (ix x1))), (2, .int (nI (ix x2))), (3, .int (nI (ix x3))), (4, .int sp), (5, .int w)]) hx hb dX9_order_114 hl (by decide) rfl (fun ls hl => ?_)
                                refine lv_iload hx hb dX9_order_116 (lv_at hl 2 rfl) ?_
                                refine lv_iload hx hb dX9_order_118 (lv_at hl 1 rfl) ?_
                                refine lv_icmp_ne (tgt := 127) hx hb dX9_order_120 (by decide) (fun c_53 => ?_) (fun c_53 => ?_)
                                · skip
                                  refine lv_aload_n hx hb dX9_order_127 rfl (lv_at hl 5 rfl) ?_
                                  refine lv_iload_n hx hb dX9_order_128 rfl (lv_at hl 6 rfl) ?_
                                  refine lv_iload_n hx hb dX9_order_129 rfl (lv_at hl 7 rfl) ?_
                                  refine lv_iload_n hx hb dX9_order_130 rfl (lv_at hl 8 rfl) ?_
                                  refine lv_iload hx hb dX9_order_131 (lv_at hl 2 rfl) ?_
                                  refine x_Si (wN := fun _ => (wM G am ho rn ln pl sd lt ro rf nb ++ [(am 1, .inl (G.2 0, 54, .inl (row r)))] ++ [(am 2, .inl (G.2 0, 54, .inl (row q9)))] ++ [(am 3, .inl (G.2 0, 54, .inl (row r2)))] ++ [(am 4, .inl (G.2 0, 54, .inl (row r4)))])) ⟨C0, hK, hP, hD, hS, hA⟩ ((m9_placed l G (nI (ix x1)) (nI (ix x2)) (nI (ix x3)) 1)) (va_cwS 4 hts (lw_S q1398 q1399 q95 q1400) rfl rfl rfl (by decide +kernel) ⟨Nat.le_of_ble_eq_true rfl, Nat.le_of_ble_eq_true rfl⟩) [] [0, 2, 4, 6, 8, 10, 12, 14, 16] rfl (fun _ => rfl) rfl rfl hl.1 rfl (Nat.le_of_ble_eq_true rfl) dX9_order_133 ⟨(Nat.le_of_ble_eq_true rfl), (Nat.le_of_ble_eq_true rfl)⟩ (fun r_54 u_54 H locs hw_54 hP hD hS => ?_)
                                  have hw_54 : r_54 = nI (ix x2) := hw_54.trans ((if_neg (by decide)).trans (if_pos rfl))
                                  have hw_54 : (nI (ix x2) : Int32) = r_54 := hw_54.symm
                                  subst hw_54
                                  refine lv_iload_n hx hb dX9_order_136 rfl (lv_at hl 6 rfl) ?_
                                  refine lv_iload_n hx hb dX9_order_137 rfl (lv_at hl 7 rfl) ?_
                                  refine lv_iload_n hx hb dX9_order_138 rfl (lv_at hl 8 rfl) ?_
                                  refine lv_iload hx hb dX9_order_139 (lv_at hl 1 rfl) ?_
                                  refine x_Si (wN := fun _ => (wM G am ho rn ln pl sd lt ro rf nb ++ [(am 1, .inl (G.2 0, 54, .inl (row r)))] ++ [(am 2, .inl (G.2 0, 54, .inl (row q9)))] ++ [(am 3, .inl (G.2 0, 54, .inl (row r2)))] ++ [(am 4, .inl (G.2 0, 54, .inl (row r4)))])) ⟨C0, hK, hP, hD, hS, hA⟩ ((m9_placed l G (nI (ix x1)) (nI (ix x2)) (nI (ix x3)) 0)) (va_cwS 4 hts (lw_S q1398 q1399 q95 q1400) rfl rfl rfl (by decide +kernel) ⟨Nat.le_of_ble_eq_true rfl, Nat.le_of_ble_eq_true rfl⟩) [] [0, 2, 4, 6, 8, 10, 12, 14, 16] rfl (fun _ => rfl) rfl rfl hl.1 rfl (Nat.le_of_ble_eq_true rfl) dX9_order_141 ⟨(Nat.le_of_ble_eq_true rfl), (Nat.le_of_ble_eq_true rfl)⟩ (fun r_55 u_55 H locs hw_55 hP hD hS => ?_)
                                  have hw_55 : r_55 = nI (ix x1) := hw_55.trans (if_pos rfl)
                                  have hw_55 : (nI (ix x1) : Int32) = r_55 := hw_55.symm
                                  subst hw_55
                                  refine lv_iload_n hx hb dX9_order_144 rfl (lv_at hl 6 rfl) ?_
                                  refine lv_iload_n hx hb dX9_order_145 rfl (lv_at hl 7 rfl) ?_
                                  refine lv_iload_n hx hb dX9_order_146 rfl (lv_at hl 8 rfl) ?_
                                  refine lv_iload hx hb dX9_order_147 (lv_at hl 0 rfl) ?_
                                  refine x_Si (wN := fun _ => (wM G am ho rn ln pl sd lt ro rf nb ++ [(am 1, .inl (G.2 0, 54, .inl (row r)))] ++ [(am 2, .inl (G.2 0, 54, .inl (row q9)))] ++ [(am 3, .inl (G.2 0, 54, .inl (row r2)))] ++ [(am 4, .inl (G.2 0, 54, .inl (row r4)))])) ⟨C0, hK, hP, hD, hS, hA⟩ ((m9_placed l G (nI (ix x1)) (nI (ix x2)) (nI (ix x3)) 2)) (va_cwS 4 hts (lw_S q1398 q1399 q95 q1400) rfl rfl rfl (by decide +kernel) ⟨Nat.le_of_ble_eq_true rfl, Nat.le_of_ble_eq_true rfl⟩) [] [0, 2, 4, 6, 8, 10, 12, 14, 16] rfl (fun _ => rfl) rfl rfl hl.1 rfl (Nat.le_of_ble_eq_true rfl) dX9_order_149 ⟨(Nat.le_of_ble_eq_true rfl), (Nat.le_of_ble_eq_true rfl)⟩ (fun r_56 u_56 H locs hw_56 hP hD hS => ?_)
                                  have hw_56 : r_56 = nI (ix x3) := hw_56.trans ((if_neg (by decide)).trans (if_neg (by decide)))
                                  have hw_56 : (nI (ix x3) : Int32) = r_56 := hw_56.symm
                                  subst hw_56
                                  refine lv_iload hx hb dX9_order_152 (lv_at hl 9 rfl) ?_
                                  refine x_Vi (wN := fun u_57 => (wM G am ho rn ln pl sd lt ro rf nb ++ [(am 1, .inl (G.2 0, 54, .inl (row r)))] ++ [(am 2, .inl (G.2 0, 54, .inl (row u_57)))] ++ [(am 3, .inl (G.2 0, 54, .inl (row r2)))] ++ [(am 4, .inl (G.2 0, 54, .inl (row r4)))])) ⟨C0, hK, hP, hD, hS, hA⟩ 0 rfl (ci := 8) rfl rfl ((m9_standingBy l G am r q9 r2 r4 ho rn ln pl sd lt ro rf nb hr hp (ix x2) (ix x1) (ix x3) sp (by omega) (by omega) (by omega))) (cwV 4 hts (lw_V q1401 q1403 qs81 q95 q1404) rfl rfl rfl (by decide +kernel) ⟨Nat.le_of_ble_eq_true rfl, Nat.le_of_ble_eq_true rfl⟩) [0, 1, 2, 3, 4, 5, 6, 7, 8] [1, 3, 5, 7, 9, 11, 13, 15, 17] rfl (fun _ => rfl) rfl rfl hl.1 rfl (Nat.le_of_ble_eq_true rfl) dX9_order_154 ⟨(Nat.le_of_ble_eq_true rfl), (Nat.le_of_ble_eq_true rfl)⟩ (fun r_57 u_57 H locs hw_57 hP hD hS => ?_)
                                  have hw_57 : (pStN (pOR r (f3 (ix x2) (ix x1) (ix x3)) sp 10) : Int32) = r_57 := hw_57.symm
                                  subst hw_57
                                  have hP : va_P G.1 vwCl (wM G am ho rn ln pl sd lt ro rf nb ++ [(am 1, .inl (G.2 0, 54, .inl (row r)))] ++ [(am 2, .inl (G.2 0, 54, .inl (row u_57)))] ++ [(am 3, .inl (G.2 0, 54, .inl (row r2)))] ++ [(am 4, .inl (G.2 0, 54, .inl (row r4)))]) H := hP
                                  have hD : va_D A (wM G am ho rn ln pl sd lt ro rf nb ++ [(am 1, .inl (G.2 0, 54, .inl (row r)))] ++ [(am 2, .inl (G.2 0, 54, .inl (row u_57)))] ++ [(am 3, .inl (G.2 0, 54, .inl (row r2)))] ++ [(am 4, .inl (G.2 0, 54, .inl (row r4)))]) := hD
                                  rw [show (pStN (pOR r (f3 (ix x2) (ix x1) (ix x3)) sp 10) : Int32) = OV9 r (x3f x1 x2 x3) sp 3 from rfl]
                                  refine lv_istore (lv' := [(12, .int (OV9 r (x3f x1 x2 x3) sp 3)), (11, .int 2), (10, .int 0), (9, .int 1), (8, .int ((FO r (x3f x1 x2 x3) sp (3 * 1 + 0)).2)), (7, .int ((FO r (x3f x1 x2 x3) sp (3 * 1 + 0)).1)), (0, .ref (am 0)), (1, .int (nI (ix x1))), (2, .int (nI (ix x2))), (3, .int (nI (ix x3))), (4, .int sp), (5, .int w)]) hx hb dX9_order_157 hl (by decide) rfl (fun ls hl => ?_)
                                  refine lv_iload hx hb dX9_order_159 (lv_at hl 0 rfl) ?_
                                  refine lv_iload hx hb dX9_order_161 (lv_at hl 4 rfl) ?_
                                  refine lv_icmp_gt (tgt := 169) hx hb dX9_order_163 (by decide) (fun c_58 => ?_) (fun c_58 => ?_)
                                  · skip
                                    refine lv_bipush (v := 100) hx hb dX9_order_169 (by decide) ?_
                                    refine lv_iload hx hb dX9_order_171 (lv_at hl 3 rfl) ?_
                                    refine x_imul hx hb dX9_order_173 (v := 100) (by decide) ?_
                                    refine lv_bipush (v := 10) hx hb dX9_order_174 (by decide) ?_
                                    refine lv_iload hx hb dX9_order_176 (lv_at hl 2 rfl) ?_
                                    refine x_imul hx hb dX9_order_178 (v := 0) (by decide) ?_
                                    refine x_iadd hx hb dX9_order_179 (v := 100) (by decide) ?_
                                    refine lv_iload hx hb dX9_order_180 (lv_at hl 1 rfl) ?_
                                    refine x_iadd hx hb dX9_order_182 (v := 102) (by decide) ?_
                                    rw [show (102 : Int32) = (FO r (x3f x1 x2 x3) sp (3 * 1 + (0 + 1))).1 from (show (102 : Int32) = (FO r (x3f x1 x2 x3) sp (3 * 1 + (0 + 1))).1 from (congrArg Prod.fst (FO_y (j := 3) (by decide) c_58)).symm)]
                                    refine lv_istore (lv' := [(7, .int ((FO r (x3f x1 x2 x3) sp (3 * 1 + (0 + 1))).1)), (12, .int (OV9 r (x3f x1 x2 x3) sp 3)), (11, .int 2), (10, .int 0), (9, .int 1), (8, .int ((FO r (x3f x1 x2 x3) sp (3 * 1 + 0)).2)), (0, .ref (am 0)), (1, .int (nI (ix x1))), (2, .int (nI (ix x2))), (3, .int (nI (ix x3))), (4, .int sp), (5, .int w)]) hx hb dX9_order_183 hl (by decide) rfl (fun ls hl => ?_)
                                    refine lv_iload hx hb dX9_order_185 (lv_at hl 1 rfl) ?_
                                    rw [show (OV9 r (x3f x1 x2 x3) sp 3 : Int32) = (FO r (x3f x1 x2 x3) sp (3 * 1 + (0 + 1))).2 from (show (OV9 r (x3f x1 x2 x3) sp 3 : Int32) = (FO r (x3f x1 x2 x3) sp (3 * 1 + (0 + 1))).2 from (congrArg Prod.snd (FO_y (j := 3) (by decide) c_58)).symm)]
                                    refine lv_istore (lv' := [(8, .int ((FO r (x3f x1 x2 x3) sp (3 * 1 + (0 + 1))).2)), (7, .int ((FO r (x3f x1 x2 x3) sp (3 * 1 + (0 + 1))).1)), (12, .int (OV9 r (x3f x1 x2 x3) sp 3)), (11, .int 2), (10, .int 0), (9, .int 1), (0, .ref (am 0)), (1, .int (nI (ix x1))), (2, .int (nI (ix x2))), (3, .int (nI (ix x3))), (4, .int sp), (5, .int w)]) hx hb dX9_order_187 hl (by decide) rfl (fun ls hl => ?_)
                                    refine lv_iinc (v := 1) (lv' := [(10, .int 1), (8, .int ((FO r (x3f x1 x2 x3) sp (3 * 1 + (0 + 1))).2)), (7, .int ((FO r (x3f x1 x2 x3) sp (3 * 1 + (0 + 1))).1)), (12, .int (OV9 r (x3f x1 x2 x3) sp 3)), (11, .int 2), (9, .int 1), (0, .ref (am 0)), (1, .int (nI (ix x1))), (2, .int (nI (ix x2))), (3, .int (nI (ix x3))), (4, .int sp), (5, .int w)]) hx hb dX9_order_189 hl (k := 4) rfl rfl (by decide) rfl (fun ls hl => ?_)
                                    refine lv_goto (tgt := 101) hx hb dX9_order_192 (by decide) ?_
                                    exact ih_101 1 (0 + 1) _ (by omega) (by omega) (by omega) _ _ _ hP hD hS (lv_sub hl [0, 5, 1, 2, 6, 7, 8, 9, 10, 11] rfl)
                                  · skip
                                    refine lv_goto (tgt := 189) hx hb dX9_order_166 (by decide) ?_
                                    refine lv_iinc (v := 1) (lv' := [(10, .int 1), (12, .int (OV9 r (x3f x1 x2 x3) sp 3)), (11, .int 2), (9, .int 1), (8, .int ((FO r (x3f x1 x2 x3) sp (3 * 1 + 0)).2)), (7, .int ((FO r (x3f x1 x2 x3) sp (3 * 1 + 0)).1)), (0, .ref (am 0)), (1, .int (nI (ix x1))), (2, .int (nI (ix x2))), (3, .int (nI (ix x3))), (4, .int sp), (5, .int w)]) hx hb dX9_order_189 hl (k := 2) rfl rfl (by decide) rfl (fun ls hl => ?_)
                                    refine lv_goto (tgt := 101) hx hb dX9_order_192 (by decide) ?_
                                    rw [← show FO r (x3f x1 x2 x3) sp (3 * 1 + (0 + 1)) = FO r (x3f x1 x2 x3) sp (3 * 1 + 0) from FO_n (j := 3) (by decide) c_58] at hl
                                    exact ih_101 1 (0 + 1) _ (by omega) (by omega) (by omega) _ _ _ hP hD hS (lv_sub hl [0, 3, 4, 5, 6, 7, 8, 9, 10, 11] rfl)
                                · skip
                                  exact absurd c_53 (by decide)
                            · skip
                              have hl : lv_has ls 13 [(10, .int 1), (9, .int 1), (8, .int ((FO r (x3f x1 x2 x3) sp (3 * 1 + 1)).2)), (7, .int ((FO r (x3f x1 x2 x3) sp (3 * 1 + 1)).1)), (0, .ref (am 0)), (1, .int (nI (ix x1))), (2, .int (nI (ix x2))), (3, .int (nI (ix x3))), (4, .int sp), (5, .int w)] := hl
                              refine lv_iconst (v := 3) hx hb dX9_order_103 (by decide) ?_
                              refine lv_icmp_ge (tgt := 195) hx hb dX9_order_104 (by decide) (fun c_59 => ?_) (fun c_59 => ?_)
                              · skip
                                exact absurd c_59 (by decide)
                              · skip
                                refine lv_iconst (v := 3) hx hb dX9_order_107 (by decide) ?_
                                refine lv_iload hx hb dX9_order_108 (lv_at hl 1 rfl) ?_
                                refine x_isub hx hb dX9_order_110 (v := 2) (by decide) ?_
                                refine lv_iload hx hb dX9_order_111 (lv_at hl 0 rfl) ?_
                                refine x_isub hx hb dX9_order_113 (v := 1) (by decide) ?_
                                refine lv_istore (lv' := [(11, .int 1), (10, .int 1), (9, .int 1), (8, .int ((FO r (x3f x1 x2 x3) sp (3 * 1 + 1)).2)), (7, .int ((FO r (x3f x1 x2 x3) sp (3 * 1 + 1)).1)), (0, .ref (am 0)), (1, .int (nI (ix x1))), (2, .int (nI (ix x2))), (3, .int (nI (ix x3))), (4, .int sp), (5, .int w)]) hx hb dX9_order_114 hl (by decide) rfl (fun ls hl => ?_)
                                refine lv_iload hx hb dX9_order_116 (lv_at hl 2 rfl) ?_
                                refine lv_iload hx hb dX9_order_118 (lv_at hl 1 rfl) ?_
                                refine lv_icmp_ne (tgt := 127) hx hb dX9_order_120 (by decide) (fun c_60 => ?_) (fun c_60 => ?_)
                                · skip
                                  exact absurd c_60 (by decide)
                                · skip
                                  refine lv_iconst (v := (-1)) hx hb dX9_order_123 (by decide) ?_
                                  refine lv_goto (tgt := 157) hx hb dX9_order_124 (by decide) ?_
                                  refine lv_istore (lv' := [(12, .int (-1)), (11, .int 1), (10, .int 1), (9, .int 1), (8, .int ((FO r (x3f x1 x2 x3) sp (3 * 1 + 1)).2)), (7, .int ((FO r (x3f x1 x2 x3) sp (3 * 1 + 1)).1)), (0, .ref (am 0)), (1, .int (nI (ix x1))), (2, .int (nI (ix x2))), (3, .int (nI (ix x3))), (4, .int sp), (5, .int w)]) hx hb dX9_order_157 hl (by decide) rfl (fun ls hl => ?_)
                                  refine lv_iload hx hb dX9_order_159 (lv_at hl 0 rfl) ?_
                                  refine lv_iload hx hb dX9_order_161 (lv_at hl 4 rfl) ?_
                                  refine lv_icmp_gt (tgt := 169) hx hb dX9_order_163 (by decide) (fun c_61 => ?_) (fun c_61 => ?_)
                                  · skip
                                    exact absurd c_61 (FO_ng _)
                                  · skip
                                    refine lv_goto (tgt := 189) hx hb dX9_order_166 (by decide) ?_
                                    refine lv_iinc (v := 2) (lv' := [(10, .int 2), (12, .int (-1)), (11, .int 1), (9, .int 1), (8, .int ((FO r (x3f x1 x2 x3) sp (3 * 1 + 1)).2)), (7, .int ((FO r (x3f x1 x2 x3) sp (3 * 1 + 1)).1)), (0, .ref (am 0)), (1, .int (nI (ix x1))), (2, .int (nI (ix x2))), (3, .int (nI (ix x3))), (4, .int sp), (5, .int w)]) hx hb dX9_order_189 hl (k := 2) rfl rfl (by decide) rfl (fun ls hl => ?_)
                                    refine lv_goto (tgt := 101) hx hb dX9_order_192 (by decide) ?_
                                    rw [← show FO r (x3f x1 x2 x3) sp (3 * 1 + (1 + 1)) = FO r (x3f x1 x2 x3) sp (3 * 1 + 1) from FO_e (j := 4) rfl] at hl
                                    exact ih_101 1 (1 + 1) _ (by omega) (by omega) (by omega) _ _ _ hP hD hS (lv_sub hl [0, 3, 4, 5, 6, 7, 8, 9, 10, 11] rfl)
                            · skip
                              have hl : lv_has ls 13 [(10, .int 2), (9, .int 1), (8, .int ((FO r (x3f x1 x2 x3) sp (3 * 1 + 2)).2)), (7, .int ((FO r (x3f x1 x2 x3) sp (3 * 1 + 2)).1)), (0, .ref (am 0)), (1, .int (nI (ix x1))), (2, .int (nI (ix x2))), (3, .int (nI (ix x3))), (4, .int sp), (5, .int w)] := hl
                              refine lv_iconst (v := 3) hx hb dX9_order_103 (by decide) ?_
                              refine lv_icmp_ge (tgt := 195) hx hb dX9_order_104 (by decide) (fun c_62 => ?_) (fun c_62 => ?_)
                              · skip
                                exact absurd c_62 (by decide)
                              · skip
                                refine lv_iconst (v := 3) hx hb dX9_order_107 (by decide) ?_
                                refine lv_iload hx hb dX9_order_108 (lv_at hl 1 rfl) ?_
                                refine x_isub hx hb dX9_order_110 (v := 2) (by decide) ?_
                                refine lv_iload hx hb dX9_order_111 (lv_at hl 0 rfl) ?_
                                refine x_isub hx hb dX9_order_113 (v := 0) (by decide) ?_
                                refine lv_istore (lv' := [(11, .int 0), (10, .int 2), (9, .int 1), (8, .int ((FO r (x3f x1 x2 x3) sp (3 * 1 + 2)).2)), (7, .int ((FO r (x3f x1 x2 x3) sp (3 * 1 + 2)).1)), (0, .ref (am 0)), (1, .int (nI (ix x1))), (2, .int (nI (ix x2))), (3, .int (nI (ix x3))), (4, .int sp), (5, .int w)]) hx hb dX9_order_114 hl (by decide) rfl (fun ls hl => ?_)
                                refine lv_iload hx hb dX9_order_116 (lv_at hl 2 rfl) ?_
                                refine lv_iload hx hb dX9_order_118 (lv_at hl 1 rfl) ?_
                                refine lv_icmp_ne (tgt := 127) hx hb dX9_order_120 (by decide) (fun c_63 => ?_) (fun c_63 => ?_)
                                · skip
                                  refine lv_aload_n hx hb dX9_order_127 rfl (lv_at hl 5 rfl) ?_
                                  refine lv_iload_n hx hb dX9_order_128 rfl (lv_at hl 6 rfl) ?_
                                  refine lv_iload_n hx hb dX9_order_129 rfl (lv_at hl 7 rfl) ?_
                                  refine lv_iload_n hx hb dX9_order_130 rfl (lv_at hl 8 rfl) ?_
                                  refine lv_iload hx hb dX9_order_131 (lv_at hl 2 rfl) ?_
                                  refine x_Si (wN := fun _ => (wM G am ho rn ln pl sd lt ro rf nb ++ [(am 1, .inl (G.2 0, 54, .inl (row r)))] ++ [(am 2, .inl (G.2 0, 54, .inl (row q9)))] ++ [(am 3, .inl (G.2 0, 54, .inl (row r2)))] ++ [(am 4, .inl (G.2 0, 54, .inl (row r4)))])) ⟨C0, hK, hP, hD, hS, hA⟩ ((m9_placed l G (nI (ix x1)) (nI (ix x2)) (nI (ix x3)) 1)) (va_cwS 4 hts (lw_S q1398 q1399 q95 q1400) rfl rfl rfl (by decide +kernel) ⟨Nat.le_of_ble_eq_true rfl, Nat.le_of_ble_eq_true rfl⟩) [] [0, 2, 4, 6, 8, 10, 12, 14, 16] rfl (fun _ => rfl) rfl rfl hl.1 rfl (Nat.le_of_ble_eq_true rfl) dX9_order_133 ⟨(Nat.le_of_ble_eq_true rfl), (Nat.le_of_ble_eq_true rfl)⟩ (fun r_64 u_64 H locs hw_64 hP hD hS => ?_)
                                  have hw_64 : r_64 = nI (ix x2) := hw_64.trans ((if_neg (by decide)).trans (if_pos rfl))
                                  have hw_64 : (nI (ix x2) : Int32) = r_64 := hw_64.symm
                                  subst hw_64
                                  refine lv_iload_n hx hb dX9_order_136 rfl (lv_at hl 6 rfl) ?_
                                  refine lv_iload_n hx hb dX9_order_137 rfl (lv_at hl 7 rfl) ?_
                                  refine lv_iload_n hx hb dX9_order_138 rfl (lv_at hl 8 rfl) ?_
                                  refine lv_iload hx hb dX9_order_139 (lv_at hl 1 rfl) ?_
                                  refine x_Si (wN := fun _ => (wM G am ho rn ln pl sd lt ro rf nb ++ [(am 1, .inl (G.2 0, 54, .inl (row r)))] ++ [(am 2, .inl (G.2 0, 54, .inl (row q9)))] ++ [(am 3, .inl (G.2 0, 54, .inl (row r2)))] ++ [(am 4, .inl (G.2 0, 54, .inl (row r4)))])) ⟨C0, hK, hP, hD, hS, hA⟩ ((m9_placed l G (nI (ix x1)) (nI (ix x2)) (nI (ix x3)) 2)) (va_cwS 4 hts (lw_S q1398 q1399 q95 q1400) rfl rfl rfl (by decide +kernel) ⟨Nat.le_of_ble_eq_true rfl, Nat.le_of_ble_eq_true rfl⟩) [] [0, 2, 4, 6, 8, 10, 12, 14, 16] rfl (fun _ => rfl) rfl rfl hl.1 rfl (Nat.le_of_ble_eq_true rfl) dX9_order_141 ⟨(Nat.le_of_ble_eq_true rfl), (Nat.le_of_ble_eq_true rfl)⟩ (fun r_65 u_65 H locs hw_65 hP hD hS => ?_)
                                  have hw_65 : r_65 = nI (ix x3) := hw_65.trans ((if_neg (by decide)).trans (if_neg (by decide)))
                                  have hw_65 : (nI (ix x3) : Int32) = r_65 := hw_65.symm
                                  subst hw_65
                                  refine lv_iload_n hx hb dX9_order_144 rfl (lv_at hl 6 rfl) ?_
                                  refine lv_iload_n hx hb dX9_order_145 rfl (lv_at hl 7 rfl) ?_
                                  refine lv_iload_n hx hb dX9_order_146 rfl (lv_at hl 8 rfl) ?_
                                  refine lv_iload hx hb dX9_order_147 (lv_at hl 0 rfl) ?_
                                  refine x_Si (wN := fun _ => (wM G am ho rn ln pl sd lt ro rf nb ++ [(am 1, .inl (G.2 0, 54, .inl (row r)))] ++ [(am 2, .inl (G.2 0, 54, .inl (row q9)))] ++ [(am 3, .inl (G.2 0, 54, .inl (row r2)))] ++ [(am 4, .inl (G.2 0, 54, .inl (row r4)))])) ⟨C0, hK, hP, hD, hS, hA⟩ ((m9_placed l G (nI (ix x1)) (nI (ix x2)) (nI (ix x3)) 0)) (va_cwS 4 hts (lw_S q1398 q1399 q95 q1400) rfl rfl rfl (by decide +kernel) ⟨Nat.le_of_ble_eq_true rfl, Nat.le_of_ble_eq_true rfl⟩) [] [0, 2, 4, 6, 8, 10, 12, 14, 16] rfl (fun _ => rfl) rfl rfl hl.1 rfl (Nat.le_of_ble_eq_true rfl) dX9_order_149 ⟨(Nat.le_of_ble_eq_true rfl), (Nat.le_of_ble_eq_true rfl)⟩ (fun r_66 u_66 H locs hw_66 hP hD hS => ?_)
                                  have hw_66 : r_66 = nI (ix x1) := hw_66.trans (if_pos rfl)
                                  have hw_66 : (nI (ix x1) : Int32) = r_66 := hw_66.symm
                                  subst hw_66
                                  refine lv_iload hx hb dX9_order_152 (lv_at hl 9 rfl) ?_
                                  refine x_Vi (wN := fun u_67 => (wM G am ho rn ln pl sd lt ro rf nb ++ [(am 1, .inl (G.2 0, 54, .inl (row r)))] ++ [(am 2, .inl (G.2 0, 54, .inl (row u_67)))] ++ [(am 3, .inl (G.2 0, 54, .inl (row r2)))] ++ [(am 4, .inl (G.2 0, 54, .inl (row r4)))])) ⟨C0, hK, hP, hD, hS, hA⟩ 0 rfl (ci := 8) rfl rfl ((m9_standingBy l G am r q9 r2 r4 ho rn ln pl sd lt ro rf nb hr hp (ix x2) (ix x3) (ix x1) sp (by omega) (by omega) (by omega))) (cwV 4 hts (lw_V q1401 q1403 qs81 q95 q1404) rfl rfl rfl (by decide +kernel) ⟨Nat.le_of_ble_eq_true rfl, Nat.le_of_ble_eq_true rfl⟩) [0, 1, 2, 3, 4, 5, 6, 7, 8] [1, 3, 5, 7, 9, 11, 13, 15, 17] rfl (fun _ => rfl) rfl rfl hl.1 rfl (Nat.le_of_ble_eq_true rfl) dX9_order_154 ⟨(Nat.le_of_ble_eq_true rfl), (Nat.le_of_ble_eq_true rfl)⟩ (fun r_67 u_67 H locs hw_67 hP hD hS => ?_)
                                  have hw_67 : (pStN (pOR r (f3 (ix x2) (ix x3) (ix x1)) sp 10) : Int32) = r_67 := hw_67.symm
                                  subst hw_67
                                  have hP : va_P G.1 vwCl (wM G am ho rn ln pl sd lt ro rf nb ++ [(am 1, .inl (G.2 0, 54, .inl (row r)))] ++ [(am 2, .inl (G.2 0, 54, .inl (row u_67)))] ++ [(am 3, .inl (G.2 0, 54, .inl (row r2)))] ++ [(am 4, .inl (G.2 0, 54, .inl (row r4)))]) H := hP
                                  have hD : va_D A (wM G am ho rn ln pl sd lt ro rf nb ++ [(am 1, .inl (G.2 0, 54, .inl (row r)))] ++ [(am 2, .inl (G.2 0, 54, .inl (row u_67)))] ++ [(am 3, .inl (G.2 0, 54, .inl (row r2)))] ++ [(am 4, .inl (G.2 0, 54, .inl (row r4)))]) := hD
                                  rw [show (pStN (pOR r (f3 (ix x2) (ix x3) (ix x1)) sp 10) : Int32) = OV9 r (x3f x1 x2 x3) sp 5 from rfl]
                                  refine lv_istore (lv' := [(12, .int (OV9 r (x3f x1 x2 x3) sp 5)), (11, .int 0), (10, .int 2), (9, .int 1), (8, .int ((FO r (x3f x1 x2 x3) sp (3 * 1 + 2)).2)), (7, .int ((FO r (x3f x1 x2 x3) sp (3 * 1 + 2)).1)), (0, .ref (am 0)), (1, .int (nI (ix x1))), (2, .int (nI (ix x2))), (3, .int (nI (ix x3))), (4, .int sp), (5, .int w)]) hx hb dX9_order_157 hl (by decide) rfl (fun ls hl => ?_)
                                  refine lv_iload hx hb dX9_order_159 (lv_at hl 0 rfl) ?_
                                  refine lv_iload hx hb dX9_order_161 (lv_at hl 4 rfl) ?_
                                  refine lv_icmp_gt (tgt := 169) hx hb dX9_order_163 (by decide) (fun c_68 => ?_) (fun c_68 => ?_)
                                  · skip
                                    refine lv_bipush (v := 100) hx hb dX9_order_169 (by decide) ?_
                                    refine lv_iload hx hb dX9_order_171 (lv_at hl 3 rfl) ?_
                                    refine x_imul hx hb dX9_order_173 (v := 100) (by decide) ?_
                                    refine lv_bipush (v := 10) hx hb dX9_order_174 (by decide) ?_
                                    refine lv_iload hx hb dX9_order_176 (lv_at hl 2 rfl) ?_
                                    refine x_imul hx hb dX9_order_178 (v := 20) (by decide) ?_
                                    refine x_iadd hx hb dX9_order_179 (v := 120) (by decide) ?_
                                    refine lv_iload hx hb dX9_order_180 (lv_at hl 1 rfl) ?_
                                    refine x_iadd hx hb dX9_order_182 (v := 120) (by decide) ?_
                                    rw [show (120 : Int32) = (FO r (x3f x1 x2 x3) sp (3 * 1 + (2 + 1))).1 from (show (120 : Int32) = (FO r (x3f x1 x2 x3) sp (3 * 1 + (2 + 1))).1 from (congrArg Prod.fst (FO_y (j := 5) (by decide) c_68)).symm)]
                                    refine lv_istore (lv' := [(7, .int ((FO r (x3f x1 x2 x3) sp (3 * 1 + (2 + 1))).1)), (12, .int (OV9 r (x3f x1 x2 x3) sp 5)), (11, .int 0), (10, .int 2), (9, .int 1), (8, .int ((FO r (x3f x1 x2 x3) sp (3 * 1 + 2)).2)), (0, .ref (am 0)), (1, .int (nI (ix x1))), (2, .int (nI (ix x2))), (3, .int (nI (ix x3))), (4, .int sp), (5, .int w)]) hx hb dX9_order_183 hl (by decide) rfl (fun ls hl => ?_)
                                    refine lv_iload hx hb dX9_order_185 (lv_at hl 1 rfl) ?_
                                    rw [show (OV9 r (x3f x1 x2 x3) sp 5 : Int32) = (FO r (x3f x1 x2 x3) sp (3 * 1 + (2 + 1))).2 from (show (OV9 r (x3f x1 x2 x3) sp 5 : Int32) = (FO r (x3f x1 x2 x3) sp (3 * 1 + (2 + 1))).2 from (congrArg Prod.snd (FO_y (j := 5) (by decide) c_68)).symm)]
                                    refine lv_istore (lv' := [(8, .int ((FO r (x3f x1 x2 x3) sp (3 * 1 + (2 + 1))).2)), (7, .int ((FO r (x3f x1 x2 x3) sp (3 * 1 + (2 + 1))).1)), (12, .int (OV9 r (x3f x1 x2 x3) sp 5)), (11, .int 0), (10, .int 2), (9, .int 1), (0, .ref (am 0)), (1, .int (nI (ix x1))), (2, .int (nI (ix x2))), (3, .int (nI (ix x3))), (4, .int sp), (5, .int w)]) hx hb dX9_order_187 hl (by decide) rfl (fun ls hl => ?_)
                                    refine lv_iinc (v := 3) (lv' := [(10, .int 3), (8, .int ((FO r (x3f x1 x2 x3) sp (3 * 1 + (2 + 1))).2)), (7, .int ((FO r (x3f x1 x2 x3) sp (3 * 1 + (2 + 1))).1)), (12, .int (OV9 r (x3f x1 x2 x3) sp 5)), (11, .int 0), (9, .int 1), (0, .ref (am 0)), (1, .int (nI (ix x1))), (2, .int (nI (ix x2))), (3, .int (nI (ix x3))), (4, .int sp), (5, .int w)]) hx hb dX9_order_189 hl (k := 4) rfl rfl (by decide) rfl (fun ls hl => ?_)
                                    refine lv_goto (tgt := 101) hx hb dX9_order_192 (by decide) ?_
                                    exact ih_101 1 (2 + 1) _ (by omega) (by omega) (by omega) _ _ _ hP hD hS (lv_sub hl [0, 5, 1, 2, 6, 7, 8, 9, 10, 11] rfl)
                                  · skip
                                    refine lv_goto (tgt := 189) hx hb dX9_order_166 (by decide) ?_
                                    refine lv_iinc (v := 3) (lv' := [(10, .int 3), (12, .int (OV9 r (x3f x1 x2 x3) sp 5)), (11, .int 0), (9, .int 1), (8, .int ((FO r (x3f x1 x2 x3) sp (3 * 1 + 2)).2)), (7, .int ((FO r (x3f x1 x2 x3) sp (3 * 1 + 2)).1)), (0, .ref (am 0)), (1, .int (nI (ix x1))), (2, .int (nI (ix x2))), (3, .int (nI (ix x3))), (4, .int sp), (5, .int w)]) hx hb dX9_order_189 hl (k := 2) rfl rfl (by decide) rfl (fun ls hl => ?_)
                                    refine lv_goto (tgt := 101) hx hb dX9_order_192 (by decide) ?_
                                    rw [← show FO r (x3f x1 x2 x3) sp (3 * 1 + (2 + 1)) = FO r (x3f x1 x2 x3) sp (3 * 1 + 2) from FO_n (j := 5) (by decide) c_68] at hl
                                    exact ih_101 1 (2 + 1) _ (by omega) (by omega) (by omega) _ _ _ hP hD hS (lv_sub hl [0, 3, 4, 5, 6, 7, 8, 9, 10, 11] rfl)
                                · skip
                                  exact absurd c_63 (by decide)
                            · skip
                              have hl : lv_has ls 13 [(10, .int 3), (9, .int 1), (8, .int ((FO r (x3f x1 x2 x3) sp (3 * 1 + 3)).2)), (7, .int ((FO r (x3f x1 x2 x3) sp (3 * 1 + 3)).1)), (0, .ref (am 0)), (1, .int (nI (ix x1))), (2, .int (nI (ix x2))), (3, .int (nI (ix x3))), (4, .int sp), (5, .int w)] := hl
                              refine lv_iconst (v := 3) hx hb dX9_order_103 (by decide) ?_
                              refine lv_icmp_ge (tgt := 195) hx hb dX9_order_104 (by decide) (fun c_69 => ?_) (fun c_69 => ?_)
                              · skip
                                refine lv_iinc (v := 2) (lv' := [(9, .int 2), (10, .int 3), (8, .int ((FO r (x3f x1 x2 x3) sp (3 * 1 + 3)).2)), (7, .int ((FO r (x3f x1 x2 x3) sp (3 * 1 + 3)).1)), (0, .ref (am 0)), (1, .int (nI (ix x1))), (2, .int (nI (ix x2))), (3, .int (nI (ix x3))), (4, .int sp), (5, .int w)]) hx hb dX9_order_195 hl (k := 1) rfl rfl (by decide) rfl (fun ls hl => ?_)
                                refine lv_goto (tgt := 92) hx hb dX9_order_198 (by decide) ?_
                                refine lv_iload hx hb dX9_order_92 (lv_at hl 0 rfl) ?_
                                refine lv_iconst (v := 3) hx hb dX9_order_94 (by decide) ?_
                                refine lv_icmp_ge (tgt := 201) hx hb dX9_order_95 (by decide) (fun c_70 => ?_) (fun c_70 => ?_)
                                · skip
                                  exact absurd c_70 (by decide)
                                · skip
                                  refine lv_iconst (v := 0) hx hb dX9_order_98 (by decide) ?_
                                  refine lv_istore (lv' := [(10, .int 0), (9, .int 2), (8, .int ((FO r (x3f x1 x2 x3) sp (3 * 1 + 3)).2)), (7, .int ((FO r (x3f x1 x2 x3) sp (3 * 1 + 3)).1)), (0, .ref (am 0)), (1, .int (nI (ix x1))), (2, .int (nI (ix x2))), (3, .int (nI (ix x3))), (4, .int sp), (5, .int w)]) hx hb dX9_order_99 hl (by decide) rfl (fun ls hl => ?_)
                                  exact ih_101 (1 + 1) 0 _ (by omega) (by omega) (by omega) _ _ _ hP hD hS (lv_sub hl [0, 1, 2, 3, 4, 5, 6, 7, 8, 9] rfl)
                              · skip
                                exact absurd c_69 (by decide)
                          · skip
                            rcases (show y = 0 ∨ y = 1 ∨ y = 2 ∨ y = 3 by omega) with rfl | rfl | rfl | rfl
                            · skip
                              have hl : lv_has ls 13 [(10, .int 0), (9, .int 2), (8, .int ((FO r (x3f x1 x2 x3) sp (3 * 2 + 0)).2)), (7, .int ((FO r (x3f x1 x2 x3) sp (3 * 2 + 0)).1)), (0, .ref (am 0)), (1, .int (nI (ix x1))), (2, .int (nI (ix x2))), (3, .int (nI (ix x3))), (4, .int sp), (5, .int w)] := hl
                              refine lv_iconst (v := 3) hx hb dX9_order_103 (by decide) ?_
                              refine lv_icmp_ge (tgt := 195) hx hb dX9_order_104 (by decide) (fun c_71 => ?_) (fun c_71 => ?_)
                              · skip
                                exact absurd c_71 (by decide)
                              · skip
                                refine lv_iconst (v := 3) hx hb dX9_order_107 (by decide) ?_
                                refine lv_iload hx hb dX9_order_108 (lv_at hl 1 rfl) ?_
                                refine x_isub hx hb dX9_order_110 (v := 1) (by decide) ?_
                                refine lv_iload hx hb dX9_order_111 (lv_at hl 0 rfl) ?_
                                refine x_isub hx hb dX9_order_113 (v := 1) (by decide) ?_
                                refine lv_istore (lv' := [(11, .int 1), (10, .int 0), (9, .int 2), (8, .int ((FO r (x3f x1 x2 x3) sp (3 * 2 + 0)).2)), (7, .int ((FO r (x3f x1 x2 x3) sp (3 * 2 + 0)).1)), (0, .ref (am 0)), (1, .int (nI (ix x1))), (2, .int (nI (ix x2))), (3, .int (nI (ix x3))), (4, .int sp), (5, .int w)]) hx hb dX9_order_114 hl (by decide) rfl (fun ls hl => ?_)
                                refine lv_iload hx hb dX9_order_116 (lv_at hl 2 rfl) ?_
                                refine lv_iload hx hb dX9_order_118 (lv_at hl 1 rfl) ?_
                                refine lv_icmp_ne (tgt := 127) hx hb dX9_order_120 (by decide) (fun c_72 => ?_) (fun c_72 => ?_)
                                · skip
                                  refine lv_aload_n hx hb dX9_order_127 rfl (lv_at hl 5 rfl) ?_
                                  refine lv_iload_n hx hb dX9_order_128 rfl (lv_at hl 6 rfl) ?_
                                  refine lv_iload_n hx hb dX9_order_129 rfl (lv_at hl 7 rfl) ?_
                                  refine lv_iload_n hx hb dX9_order_130 rfl (lv_at hl 8 rfl) ?_
                                  refine lv_iload hx hb dX9_order_131 (lv_at hl 2 rfl) ?_
                                  refine x_Si (wN := fun _ => (wM G am ho rn ln pl sd lt ro rf nb ++ [(am 1, .inl (G.2 0, 54, .inl (row r)))] ++ [(am 2, .inl (G.2 0, 54, .inl (row q9)))] ++ [(am 3, .inl (G.2 0, 54, .inl (row r2)))] ++ [(am 4, .inl (G.2 0, 54, .inl (row r4)))])) ⟨C0, hK, hP, hD, hS, hA⟩ ((m9_placed l G (nI (ix x1)) (nI (ix x2)) (nI (ix x3)) 2)) (va_cwS 4 hts (lw_S q1398 q1399 q95 q1400) rfl rfl rfl (by decide +kernel) ⟨Nat.le_of_ble_eq_true rfl, Nat.le_of_ble_eq_true rfl⟩) [] [0, 2, 4, 6, 8, 10, 12, 14, 16] rfl (fun _ => rfl) rfl rfl hl.1 rfl (Nat.le_of_ble_eq_true rfl) dX9_order_133 ⟨(Nat.le_of_ble_eq_true rfl), (Nat.le_of_ble_eq_true rfl)⟩ (fun r_73 u_73 H locs hw_73 hP hD hS => ?_)
                                  have hw_73 : r_73 = nI (ix x3) := hw_73.trans ((if_neg (by decide)).trans (if_neg (by decide)))
                                  have hw_73 : (nI (ix x3) : Int32) = r_73 := hw_73.symm
                                  subst hw_73
                                  refine lv_iload_n hx hb dX9_order_136 rfl (lv_at hl 6 rfl) ?_
                                  refine lv_iload_n hx hb dX9_order_137 rfl (lv_at hl 7 rfl) ?_
                                  refine lv_iload_n hx hb dX9_order_138 rfl (lv_at hl 8 rfl) ?_
                                  refine lv_iload hx hb dX9_order_139 (lv_at hl 1 rfl) ?_
                                  refine x_Si (wN := fun _ => (wM G am ho rn ln pl sd lt ro rf nb ++ [(am 1, .inl (G.2 0, 54, .inl (row r)))] ++ [(am 2, .inl (G.2 0, 54, .inl (row q9)))] ++ [(am 3, .inl (G.2 0, 54, .inl (row r2)))] ++ [(am 4, .inl (G.2 0, 54, .inl (row r4)))])) ⟨C0, hK, hP, hD, hS, hA⟩ ((m9_placed l G (nI (ix x1)) (nI (ix x2)) (nI (ix x3)) 0)) (va_cwS 4 hts (lw_S q1398 q1399 q95 q1400) rfl rfl rfl (by decide +kernel) ⟨Nat.le_of_ble_eq_true rfl, Nat.le_of_ble_eq_true rfl⟩) [] [0, 2, 4, 6, 8, 10, 12, 14, 16] rfl (fun _ => rfl) rfl rfl hl.1 rfl (Nat.le_of_ble_eq_true rfl) dX9_order_141 ⟨(Nat.le_of_ble_eq_true rfl), (Nat.le_of_ble_eq_true rfl)⟩ (fun r_74 u_74 H locs hw_74 hP hD hS => ?_)
                                  have hw_74 : r_74 = nI (ix x1) := hw_74.trans (if_pos rfl)
                                  have hw_74 : (nI (ix x1) : Int32) = r_74 := hw_74.symm
                                  subst hw_74
                                  refine lv_iload_n hx hb dX9_order_144 rfl (lv_at hl 6 rfl) ?_
                                  refine lv_iload_n hx hb dX9_order_145 rfl (lv_at hl 7 rfl) ?_
                                  refine lv_iload_n hx hb dX9_order_146 rfl (lv_at hl 8 rfl) ?_
                                  refine lv_iload hx hb dX9_order_147 (lv_at hl 0 rfl) ?_
                                  refine x_Si (wN := fun _ => (wM G am ho rn ln pl sd lt ro rf nb ++ [(am 1, .inl (G.2 0, 54, .inl (row r)))] ++ [(am 2, .inl (G.2 0, 54, .inl (row q9)))] ++ [(am 3, .inl (G.2 0, 54, .inl (row r2)))] ++ [(am 4, .inl (G.2 0, 54, .inl (row r4)))])) ⟨C0, hK, hP, hD, hS, hA⟩ ((m9_placed l G (nI (ix x1)) (nI (ix x2)) (nI (ix x3)) 1)) (va_cwS 4 hts (lw_S q1398 q1399 q95 q1400) rfl rfl rfl (by decide +kernel) ⟨Nat.le_of_ble_eq_true rfl, Nat.le_of_ble_eq_true rfl⟩) [] [0, 2, 4, 6, 8, 10, 12, 14, 16] rfl (fun _ => rfl) rfl rfl hl.1 rfl (Nat.le_of_ble_eq_true rfl) dX9_order_149 ⟨(Nat.le_of_ble_eq_true rfl), (Nat.le_of_ble_eq_true rfl)⟩ (fun r_75 u_75 H locs hw_75 hP hD hS => ?_)
                                  have hw_75 : r_75 = nI (ix x2) := hw_75.trans ((if_neg (by decide)).trans (if_pos rfl))
                                  have hw_75 : (nI (ix x2) : Int32) = r_75 := hw_75.symm
                                  subst hw_75
                                  refine lv_iload hx hb dX9_order_152 (lv_at hl 9 rfl) ?_
                                  refine x_Vi (wN := fun u_76 => (wM G am ho rn ln pl sd lt ro rf nb ++ [(am 1, .inl (G.2 0, 54, .inl (row r)))] ++ [(am 2, .inl (G.2 0, 54, .inl (row u_76)))] ++ [(am 3, .inl (G.2 0, 54, .inl (row r2)))] ++ [(am 4, .inl (G.2 0, 54, .inl (row r4)))])) ⟨C0, hK, hP, hD, hS, hA⟩ 0 rfl (ci := 8) rfl rfl ((m9_standingBy l G am r q9 r2 r4 ho rn ln pl sd lt ro rf nb hr hp (ix x3) (ix x1) (ix x2) sp (by omega) (by omega) (by omega))) (cwV 4 hts (lw_V q1401 q1403 qs81 q95 q1404) rfl rfl rfl (by decide +kernel) ⟨Nat.le_of_ble_eq_true rfl, Nat.le_of_ble_eq_true rfl⟩) [0, 1, 2, 3, 4, 5, 6, 7, 8] [1, 3, 5, 7, 9, 11, 13, 15, 17] rfl (fun _ => rfl) rfl rfl hl.1 rfl (Nat.le_of_ble_eq_true rfl) dX9_order_154 ⟨(Nat.le_of_ble_eq_true rfl), (Nat.le_of_ble_eq_true rfl)⟩ (fun r_76 u_76 H locs hw_76 hP hD hS => ?_)
                                  have hw_76 : (pStN (pOR r (f3 (ix x3) (ix x1) (ix x2)) sp 10) : Int32) = r_76 := hw_76.symm
                                  subst hw_76
                                  have hP : va_P G.1 vwCl (wM G am ho rn ln pl sd lt ro rf nb ++ [(am 1, .inl (G.2 0, 54, .inl (row r)))] ++ [(am 2, .inl (G.2 0, 54, .inl (row u_76)))] ++ [(am 3, .inl (G.2 0, 54, .inl (row r2)))] ++ [(am 4, .inl (G.2 0, 54, .inl (row r4)))]) H := hP
                                  have hD : va_D A (wM G am ho rn ln pl sd lt ro rf nb ++ [(am 1, .inl (G.2 0, 54, .inl (row r)))] ++ [(am 2, .inl (G.2 0, 54, .inl (row u_76)))] ++ [(am 3, .inl (G.2 0, 54, .inl (row r2)))] ++ [(am 4, .inl (G.2 0, 54, .inl (row r4)))]) := hD
                                  rw [show (pStN (pOR r (f3 (ix x3) (ix x1) (ix x2)) sp 10) : Int32) = OV9 r (x3f x1 x2 x3) sp 6 from rfl]
                                  refine lv_istore (lv' := [(12, .int (OV9 r (x3f x1 x2 x3) sp 6)), (11, .int 1), (10, .int 0), (9, .int 2), (8, .int ((FO r (x3f x1 x2 x3) sp (3 * 2 + 0)).2)), (7, .int ((FO r (x3f x1 x2 x3) sp (3 * 2 + 0)).1)), (0, .ref (am 0)), (1, .int (nI (ix x1))), (2, .int (nI (ix x2))), (3, .int (nI (ix x3))), (4, .int sp), (5, .int w)]) hx hb dX9_order_157 hl (by decide) rfl (fun ls hl => ?_)
                                  refine lv_iload hx hb dX9_order_159 (lv_at hl 0 rfl) ?_
                                  refine lv_iload hx hb dX9_order_161 (lv_at hl 4 rfl) ?_
                                  refine lv_icmp_gt (tgt := 169) hx hb dX9_order_163 (by decide) (fun c_77 => ?_) (fun c_77 => ?_)
                                  · skip
                                    refine lv_bipush (v := 100) hx hb dX9_order_169 (by decide) ?_
                                    refine lv_iload hx hb dX9_order_171 (lv_at hl 3 rfl) ?_
                                    refine x_imul hx hb dX9_order_173 (v := 200) (by decide) ?_
                                    refine lv_bipush (v := 10) hx hb dX9_order_174 (by decide) ?_
                                    refine lv_iload hx hb dX9_order_176 (lv_at hl 2 rfl) ?_
                                    refine x_imul hx hb dX9_order_178 (v := 0) (by decide) ?_
                                    refine x_iadd hx hb dX9_order_179 (v := 200) (by decide) ?_
                                    refine lv_iload hx hb dX9_order_180 (lv_at hl 1 rfl) ?_
                                    refine x_iadd hx hb dX9_order_182 (v := 201) (by decide) ?_
                                    rw [show (201 : Int32) = (FO r (x3f x1 x2 x3) sp (3 * 2 + (0 + 1))).1 from (show (201 : Int32) = (FO r (x3f x1 x2 x3) sp (3 * 2 + (0 + 1))).1 from (congrArg Prod.fst (FO_y (j := 6) (by decide) c_77)).symm)]
                                    refine lv_istore (lv' := [(7, .int ((FO r (x3f x1 x2 x3) sp (3 * 2 + (0 + 1))).1)), (12, .int (OV9 r (x3f x1 x2 x3) sp 6)), (11, .int 1), (10, .int 0), (9, .int 2), (8, .int ((FO r (x3f x1 x2 x3) sp (3 * 2 + 0)).2)), (0, .ref (am 0)), (1, .int (nI (ix x1))), (2, .int (nI (ix x2))), (3, .int (nI (ix x3))), (4, .int sp), (5, .int w)]) hx hb dX9_order_183 hl (by decide) rfl (fun ls hl => ?_)
                                    refine lv_iload hx hb dX9_order_185 (lv_at hl 1 rfl) ?_
                                    rw [show (OV9 r (x3f x1 x2 x3) sp 6 : Int32) = (FO r (x3f x1 x2 x3) sp (3 * 2 + (0 + 1))).2 from (show (OV9 r (x3f x1 x2 x3) sp 6 : Int32) = (FO r (x3f x1 x2 x3) sp (3 * 2 + (0 + 1))).2 from (congrArg Prod.snd (FO_y (j := 6) (by decide) c_77)).symm)]
                                    refine lv_istore (lv' := [(8, .int ((FO r (x3f x1 x2 x3) sp (3 * 2 + (0 + 1))).2)), (7, .int ((FO r (x3f x1 x2 x3) sp (3 * 2 + (0 + 1))).1)), (12, .int (OV9 r (x3f x1 x2 x3) sp 6)), (11, .int 1), (10, .int 0), (9, .int 2), (0, .ref (am 0)), (1, .int (nI (ix x1))), (2, .int (nI (ix x2))), (3, .int (nI (ix x3))), (4, .int sp), (5, .int w)]) hx hb dX9_order_187 hl (by decide) rfl (fun ls hl => ?_)
                                    refine lv_iinc (v := 1) (lv' := [(10, .int 1), (8, .int ((FO r (x3f x1 x2 x3) sp (3 * 2 + (0 + 1))).2)), (7, .int ((FO r (x3f x1 x2 x3) sp (3 * 2 + (0 + 1))).1)), (12, .int (OV9 r (x3f x1 x2 x3) sp 6)), (11, .int 1), (9, .int 2), (0, .ref (am 0)), (1, .int (nI (ix x1))), (2, .int (nI (ix x2))), (3, .int (nI (ix x3))), (4, .int sp), (5, .int w)]) hx hb dX9_order_189 hl (k := 4) rfl rfl (by decide) rfl (fun ls hl => ?_)
                                    refine lv_goto (tgt := 101) hx hb dX9_order_192 (by decide) ?_
                                    exact ih_101 2 (0 + 1) _ (by omega) (by omega) (by omega) _ _ _ hP hD hS (lv_sub hl [0, 5, 1, 2, 6, 7, 8, 9, 10, 11] rfl)
                                  · skip
                                    refine lv_goto (tgt := 189) hx hb dX9_order_166 (by decide) ?_
                                    refine lv_iinc (v := 1) (lv' := [(10, .int 1), (12, .int (OV9 r (x3f x1 x2 x3) sp 6)), (11, .int 1), (9, .int 2), (8, .int ((FO r (x3f x1 x2 x3) sp (3 * 2 + 0)).2)), (7, .int ((FO r (x3f x1 x2 x3) sp (3 * 2 + 0)).1)), (0, .ref (am 0)), (1, .int (nI (ix x1))), (2, .int (nI (ix x2))), (3, .int (nI (ix x3))), (4, .int sp), (5, .int w)]) hx hb dX9_order_189 hl (k := 2) rfl rfl (by decide) rfl (fun ls hl => ?_)
                                    refine lv_goto (tgt := 101) hx hb dX9_order_192 (by decide) ?_
                                    rw [← show FO r (x3f x1 x2 x3) sp (3 * 2 + (0 + 1)) = FO r (x3f x1 x2 x3) sp (3 * 2 + 0) from FO_n (j := 6) (by decide) c_77] at hl
                                    exact ih_101 2 (0 + 1) _ (by omega) (by omega) (by omega) _ _ _ hP hD hS (lv_sub hl [0, 3, 4, 5, 6, 7, 8, 9, 10, 11] rfl)
                                · skip
                                  exact absurd c_72 (by decide)
                            · skip
                              have hl : lv_has ls 13 [(10, .int 1), (9, .int 2), (8, .int ((FO r (x3f x1 x2 x3) sp (3 * 2 + 1)).2)), (7, .int ((FO r (x3f x1 x2 x3) sp (3 * 2 + 1)).1)), (0, .ref (am 0)), (1, .int (nI (ix x1))), (2, .int (nI (ix x2))), (3, .int (nI (ix x3))), (4, .int sp), (5, .int w)] := hl
                              refine lv_iconst (v := 3) hx hb dX9_order_103 (by decide) ?_
                              refine lv_icmp_ge (tgt := 195) hx hb dX9_order_104 (by decide) (fun c_78 => ?_) (fun c_78 => ?_)
                              · skip
                                exact absurd c_78 (by decide)
                              · skip
                                refine lv_iconst (v := 3) hx hb dX9_order_107 (by decide) ?_
                                refine lv_iload hx hb dX9_order_108 (lv_at hl 1 rfl) ?_
                                refine x_isub hx hb dX9_order_110 (v := 1) (by decide) ?_
                                refine lv_iload hx hb dX9_order_111 (lv_at hl 0 rfl) ?_
                                refine x_isub hx hb dX9_order_113 (v := 0) (by decide) ?_
                                refine lv_istore (lv' := [(11, .int 0), (10, .int 1), (9, .int 2), (8, .int ((FO r (x3f x1 x2 x3) sp (3 * 2 + 1)).2)), (7, .int ((FO r (x3f x1 x2 x3) sp (3 * 2 + 1)).1)), (0, .ref (am 0)), (1, .int (nI (ix x1))), (2, .int (nI (ix x2))), (3, .int (nI (ix x3))), (4, .int sp), (5, .int w)]) hx hb dX9_order_114 hl (by decide) rfl (fun ls hl => ?_)
                                refine lv_iload hx hb dX9_order_116 (lv_at hl 2 rfl) ?_
                                refine lv_iload hx hb dX9_order_118 (lv_at hl 1 rfl) ?_
                                refine lv_icmp_ne (tgt := 127) hx hb dX9_order_120 (by decide) (fun c_79 => ?_) (fun c_79 => ?_)
                                · skip
                                  refine lv_aload_n hx hb dX9_order_127 rfl (lv_at hl 5 rfl) ?_
                                  refine lv_iload_n hx hb dX9_order_128 rfl (lv_at hl 6 rfl) ?_
                                  refine lv_iload_n hx hb dX9_order_129 rfl (lv_at hl 7 rfl) ?_
                                  refine lv_iload_n hx hb dX9_order_130 rfl (lv_at hl 8 rfl) ?_
                                  refine lv_iload hx hb dX9_order_131 (lv_at hl 2 rfl) ?_
                                  refine x_Si (wN := fun _ => (wM G am ho rn ln pl sd lt ro rf nb ++ [(am 1, .inl (G.2 0, 54, .inl (row r)))] ++ [(am 2, .inl (G.2 0, 54, .inl (row q9)))] ++ [(am 3, .inl (G.2 0, 54, .inl (row r2)))] ++ [(am 4, .inl (G.2 0, 54, .inl (row r4)))])) ⟨C0, hK, hP, hD, hS, hA⟩ ((m9_placed l G (nI (ix x1)) (nI (ix x2)) (nI (ix x3)) 2)) (va_cwS 4 hts (lw_S q1398 q1399 q95 q1400) rfl rfl rfl (by decide +kernel) ⟨Nat.le_of_ble_eq_true rfl, Nat.le_of_ble_eq_true rfl⟩) [] [0, 2, 4, 6, 8, 10, 12, 14, 16] rfl (fun _ => rfl) rfl rfl hl.1 rfl (Nat.le_of_ble_eq_true rfl) dX9_order_133 ⟨(Nat.le_of_ble_eq_true rfl), (Nat.le_of_ble_eq_true rfl)⟩ (fun r_80 u_80 H locs hw_80 hP hD hS => ?_)
                                  have hw_80 : r_80 = nI (ix x3) := hw_80.trans ((if_neg (by decide)).trans (if_neg (by decide)))
                                  have hw_80 : (nI (ix x3) : Int32) = r_80 := hw_80.symm
                                  subst hw_80
                                  refine lv_iload_n hx hb dX9_order_136 rfl (lv_at hl 6 rfl) ?_
                                  refine lv_iload_n hx hb dX9_order_137 rfl (lv_at hl 7 rfl) ?_
                                  refine lv_iload_n hx hb dX9_order_138 rfl (lv_at hl 8 rfl) ?_
                                  refine lv_iload hx hb dX9_order_139 (lv_at hl 1 rfl) ?_
                                  refine x_Si (wN := fun _ => (wM G am ho rn ln pl sd lt ro rf nb ++ [(am 1, .inl (G.2 0, 54, .inl (row r)))] ++ [(am 2, .inl (G.2 0, 54, .inl (row q9)))] ++ [(am 3, .inl (G.2 0, 54, .inl (row r2)))] ++ [(am 4, .inl (G.2 0, 54, .inl (row r4)))])) ⟨C0, hK, hP, hD, hS, hA⟩ ((m9_placed l G (nI (ix x1)) (nI (ix x2)) (nI (ix x3)) 1)) (va_cwS 4 hts (lw_S q1398 q1399 q95 q1400) rfl rfl rfl (by decide +kernel) ⟨Nat.le_of_ble_eq_true rfl, Nat.le_of_ble_eq_true rfl⟩) [] [0, 2, 4, 6, 8, 10, 12, 14, 16] rfl (fun _ => rfl) rfl rfl hl.1 rfl (Nat.le_of_ble_eq_true rfl) dX9_order_141 ⟨(Nat.le_of_ble_eq_true rfl), (Nat.le_of_ble_eq_true rfl)⟩ (fun r_81 u_81 H locs hw_81 hP hD hS => ?_)
                                  have hw_81 : r_81 = nI (ix x2) := hw_81.trans ((if_neg (by decide)).trans (if_pos rfl))
                                  have hw_81 : (nI (ix x2) : Int32) = r_81 := hw_81.symm
                                  subst hw_81
                                  refine lv_iload_n hx hb dX9_order_144 rfl (lv_at hl 6 rfl) ?_
                                  refine lv_iload_n hx hb dX9_order_145 rfl (lv_at hl 7 rfl) ?_
                                  refine lv_iload_n hx hb dX9_order_146 rfl (lv_at hl 8 rfl) ?_
                                  refine lv_iload hx hb dX9_order_147 (lv_at hl 0 rfl) ?_
                                  refine x_Si (wN := fun _ => (wM G am ho rn ln pl sd lt ro rf nb ++ [(am 1, .inl (G.2 0, 54, .inl (row r)))] ++ [(am 2, .inl (G.2 0, 54, .inl (row q9)))] ++ [(am 3, .inl (G.2 0, 54, .inl (row r2)))] ++ [(am 4, .inl (G.2 0, 54, .inl (row r4)))])) ⟨C0, hK, hP, hD, hS, hA⟩ ((m9_placed l G (nI (ix x1)) (nI (ix x2)) (nI (ix x3)) 0)) (va_cwS 4 hts (lw_S q1398 q1399 q95 q1400) rfl rfl rfl (by decide +kernel) ⟨Nat.le_of_ble_eq_true rfl, Nat.le_of_ble_eq_true rfl⟩) [] [0, 2, 4, 6, 8, 10, 12, 14, 16] rfl (fun _ => rfl) rfl rfl hl.1 rfl (Nat.le_of_ble_eq_true rfl) dX9_order_149 ⟨(Nat.le_of_ble_eq_true rfl), (Nat.le_of_ble_eq_true rfl)⟩ (fun r_82 u_82 H locs hw_82 hP hD hS => ?_)
                                  have hw_82 : r_82 = nI (ix x1) := hw_82.trans (if_pos rfl)
                                  have hw_82 : (nI (ix x1) : Int32) = r_82 := hw_82.symm
                                  subst hw_82
                                  refine lv_iload hx hb dX9_order_152 (lv_at hl 9 rfl) ?_
                                  refine x_Vi (wN := fun u_83 => (wM G am ho rn ln pl sd lt ro rf nb ++ [(am 1, .inl (G.2 0, 54, .inl (row r)))] ++ [(am 2, .inl (G.2 0, 54, .inl (row u_83)))] ++ [(am 3, .inl (G.2 0, 54, .inl (row r2)))] ++ [(am 4, .inl (G.2 0, 54, .inl (row r4)))])) ⟨C0, hK, hP, hD, hS, hA⟩ 0 rfl (ci := 8) rfl rfl ((m9_standingBy l G am r q9 r2 r4 ho rn ln pl sd lt ro rf nb hr hp (ix x3) (ix x2) (ix x1) sp (by omega) (by omega) (by omega))) (cwV 4 hts (lw_V q1401 q1403 qs81 q95 q1404) rfl rfl rfl (by decide +kernel) ⟨Nat.le_of_ble_eq_true rfl, Nat.le_of_ble_eq_true rfl⟩) [0, 1, 2, 3, 4, 5, 6, 7, 8] [1, 3, 5, 7, 9, 11, 13, 15, 17] rfl (fun _ => rfl) rfl rfl hl.1 rfl (Nat.le_of_ble_eq_true rfl) dX9_order_154 ⟨(Nat.le_of_ble_eq_true rfl), (Nat.le_of_ble_eq_true rfl)⟩ (fun r_83 u_83 H locs hw_83 hP hD hS => ?_)
                                  have hw_83 : (pStN (pOR r (f3 (ix x3) (ix x2) (ix x1)) sp 10) : Int32) = r_83 := hw_83.symm
                                  subst hw_83
                                  have hP : va_P G.1 vwCl (wM G am ho rn ln pl sd lt ro rf nb ++ [(am 1, .inl (G.2 0, 54, .inl (row r)))] ++ [(am 2, .inl (G.2 0, 54, .inl (row u_83)))] ++ [(am 3, .inl (G.2 0, 54, .inl (row r2)))] ++ [(am 4, .inl (G.2 0, 54, .inl (row r4)))]) H := hP
                                  have hD : va_D A (wM G am ho rn ln pl sd lt ro rf nb ++ [(am 1, .inl (G.2 0, 54, .inl (row r)))] ++ [(am 2, .inl (G.2 0, 54, .inl (row u_83)))] ++ [(am 3, .inl (G.2 0, 54, .inl (row r2)))] ++ [(am 4, .inl (G.2 0, 54, .inl (row r4)))]) := hD
                                  rw [show (pStN (pOR r (f3 (ix x3) (ix x2) (ix x1)) sp 10) : Int32) = OV9 r (x3f x1 x2 x3) sp 7 from rfl]
                                  refine lv_istore (lv' := [(12, .int (OV9 r (x3f x1 x2 x3) sp 7)), (11, .int 0), (10, .int 1), (9, .int 2), (8, .int ((FO r (x3f x1 x2 x3) sp (3 * 2 + 1)).2)), (7, .int ((FO r (x3f x1 x2 x3) sp (3 * 2 + 1)).1)), (0, .ref (am 0)), (1, .int (nI (ix x1))), (2, .int (nI (ix x2))), (3, .int (nI (ix x3))), (4, .int sp), (5, .int w)]) hx hb dX9_order_157 hl (by decide) rfl (fun ls hl => ?_)
                                  refine lv_iload hx hb dX9_order_159 (lv_at hl 0 rfl) ?_
                                  refine lv_iload hx hb dX9_order_161 (lv_at hl 4 rfl) ?_
                                  refine lv_icmp_gt (tgt := 169) hx hb dX9_order_163 (by decide) (fun c_84 => ?_) (fun c_84 => ?_)
                                  · skip
                                    refine lv_bipush (v := 100) hx hb dX9_order_169 (by decide) ?_
                                    refine lv_iload hx hb dX9_order_171 (lv_at hl 3 rfl) ?_
                                    refine x_imul hx hb dX9_order_173 (v := 200) (by decide) ?_
                                    refine lv_bipush (v := 10) hx hb dX9_order_174 (by decide) ?_
                                    refine lv_iload hx hb dX9_order_176 (lv_at hl 2 rfl) ?_
                                    refine x_imul hx hb dX9_order_178 (v := 10) (by decide) ?_
                                    refine x_iadd hx hb dX9_order_179 (v := 210) (by decide) ?_
                                    refine lv_iload hx hb dX9_order_180 (lv_at hl 1 rfl) ?_
                                    refine x_iadd hx hb dX9_order_182 (v := 210) (by decide) ?_
                                    rw [show (210 : Int32) = (FO r (x3f x1 x2 x3) sp (3 * 2 + (1 + 1))).1 from (show (210 : Int32) = (FO r (x3f x1 x2 x3) sp (3 * 2 + (1 + 1))).1 from (congrArg Prod.fst (FO_y (j := 7) (by decide) c_84)).symm)]
                                    refine lv_istore (lv' := [(7, .int ((FO r (x3f x1 x2 x3) sp (3 * 2 + (1 + 1))).1)), (12, .int (OV9 r (x3f x1 x2 x3) sp 7)), (11, .int 0), (10, .int 1), (9, .int 2), (8, .int ((FO r (x3f x1 x2 x3) sp (3 * 2 + 1)).2)), (0, .ref (am 0)), (1, .int (nI (ix x1))), (2, .int (nI (ix x2))), (3, .int (nI (ix x3))), (4, .int sp), (5, .int w)]) hx hb dX9_order_183 hl (by decide) rfl (fun ls hl => ?_)
                                    refine lv_iload hx hb dX9_order_185 (lv_at hl 1 rfl) ?_
                                    rw [show (OV9 r (x3f x1 x2 x3) sp 7 : Int32) = (FO r (x3f x1 x2 x3) sp (3 * 2 + (1 + 1))).2 from (show (OV9 r (x3f x1 x2 x3) sp 7 : Int32) = (FO r (x3f x1 x2 x3) sp (3 * 2 + (1 + 1))).2 from (congrArg Prod.snd (FO_y (j := 7) (by decide) c_84)).symm)]
                                    refine lv_istore (lv' := [(8, .int ((FO r (x3f x1 x2 x3) sp (3 * 2 + (1 + 1))).2)), (7, .int ((FO r (x3f x1 x2 x3) sp (3 * 2 + (1 + 1))).1)), (12, .int (OV9 r (x3f x1 x2 x3) sp 7)), (11, .int 0), (10, .int 1), (9, .int 2), (0, .ref (am 0)), (1, .int (nI (ix x1))), (2, .int (nI (ix x2))), (3, .int (nI (ix x3))), (4, .int sp), (5, .int w)]) hx hb dX9_order_187 hl (by decide) rfl (fun ls hl => ?_)
                                    refine lv_iinc (v := 2) (lv' := [(10, .int 2), (8, .int ((FO r (x3f x1 x2 x3) sp (3 * 2 + (1 + 1))).2)), (7, .int ((FO r (x3f x1 x2 x3) sp (3 * 2 + (1 + 1))).1)), (12, .int (OV9 r (x3f x1 x2 x3) sp 7)), (11, .int 0), (9, .int 2), (0, .ref (am 0)), (1, .int (nI (ix x1))), (2, .int (nI (ix x2))), (3, .int (nI (ix x3))), (4, .int sp), (5, .int w)]) hx hb dX9_order_189 hl (k := 4) rfl rfl (by decide) rfl (fun ls hl => ?_)
                                    refine lv_goto (tgt := 101) hx hb dX9_order_192 (by decide) ?_
                                    exact ih_101 2 (1 + 1) _ (by omega) (by omega) (by omega) _ _ _ hP hD hS (lv_sub hl [0, 5, 1, 2, 6, 7, 8, 9, 10, 11] rfl)
                                  · skip
                                    refine lv_goto (tgt := 189) hx hb dX9_order_166 (by decide) ?_
                                    refine lv_iinc (v := 2) (lv' := [(10, .int 2), (12, .int (OV9 r (x3f x1 x2 x3) sp 7)), (11, .int 0), (9, .int 2), (8, .int ((FO r (x3f x1 x2 x3) sp (3 * 2 + 1)).2)), (7, .int ((FO r (x3f x1 x2 x3) sp (3 * 2 + 1)).1)), (0, .ref (am 0)), (1, .int (nI (ix x1))), (2, .int (nI (ix x2))), (3, .int (nI (ix x3))), (4, .int sp), (5, .int w)]) hx hb dX9_order_189 hl (k := 2) rfl rfl (by decide) rfl (fun ls hl => ?_)
                                    refine lv_goto (tgt := 101) hx hb dX9_order_192 (by decide) ?_
                                    rw [← show FO r (x3f x1 x2 x3) sp (3 * 2 + (1 + 1)) = FO r (x3f x1 x2 x3) sp (3 * 2 + 1) from FO_n (j := 7) (by decide) c_84] at hl
                                    exact ih_101 2 (1 + 1) _ (by omega) (by omega) (by omega) _ _ _ hP hD hS (lv_sub hl [0, 3, 4, 5, 6, 7, 8, 9, 10, 11] rfl)
                                · skip
                                  exact absurd c_79 (by decide)
                            · skip
                              have hl : lv_has ls 13 [(10, .int 2), (9, .int 2), (8, .int ((FO r (x3f x1 x2 x3) sp (3 * 2 + 2)).2)), (7, .int ((FO r (x3f x1 x2 x3) sp (3 * 2 + 2)).1)), (0, .ref (am 0)), (1, .int (nI (ix x1))), (2, .int (nI (ix x2))), (3, .int (nI (ix x3))), (4, .int sp), (5, .int w)] := hl
                              refine lv_iconst (v := 3) hx hb dX9_order_103 (by decide) ?_
                              refine lv_icmp_ge (tgt := 195) hx hb dX9_order_104 (by decide) (fun c_85 => ?_) (fun c_85 => ?_)
                              · skip
                                exact absurd c_85 (by decide)
                              · skip
                                refine lv_iconst (v := 3) hx hb dX9_order_107 (by decide) ?_
                                refine lv_iload hx hb dX9_order_108 (lv_at hl 1 rfl) ?_
                                refine x_isub hx hb dX9_order_110 (v := 1) (by decide) ?_
                                refine lv_iload hx hb dX9_order_111 (lv_at hl 0 rfl) ?_
                                refine x_isub hx hb dX9_order_113 (v := (-1)) (by decide) ?_
                                refine lv_istore (lv' := [(11, .int (-1)), (10, .int 2), (9, .int 2), (8, .int ((FO r (x3f x1 x2 x3) sp (3 * 2 + 2)).2)), (7, .int ((FO r (x3f x1 x2 x3) sp (3 * 2 + 2)).1)), (0, .ref (am 0)), (1, .int (nI (ix x1))), (2, .int (nI (ix x2))), (3, .int (nI (ix x3))), (4, .int sp), (5, .int w)]) hx hb dX9_order_114 hl (by decide) rfl (fun ls hl => ?_)
                                refine lv_iload hx hb dX9_order_116 (lv_at hl 2 rfl) ?_
                                refine lv_iload hx hb dX9_order_118 (lv_at hl 1 rfl) ?_
                                refine lv_icmp_ne (tgt := 127) hx hb dX9_order_120 (by decide) (fun c_86 => ?_) (fun c_86 => ?_)
                                · skip
                                  exact absurd c_86 (by decide)
                                · skip
                                  refine lv_iconst (v := (-1)) hx hb dX9_order_123 (by decide) ?_
                                  refine lv_goto (tgt := 157) hx hb dX9_order_124 (by decide) ?_
                                  refine lv_istore (lv' := [(12, .int (-1)), (11, .int (-1)), (10, .int 2), (9, .int 2), (8, .int ((FO r (x3f x1 x2 x3) sp (3 * 2 + 2)).2)), (7, .int ((FO r (x3f x1 x2 x3) sp (3 * 2 + 2)).1)), (0, .ref (am 0)), (1, .int (nI (ix x1))), (2, .int (nI (ix x2))), (3, .int (nI (ix x3))), (4, .int sp), (5, .int w)]) hx hb dX9_order_157 hl (by decide) rfl (fun ls hl => ?_)
                                  refine lv_iload hx hb dX9_order_159 (lv_at hl 0 rfl) ?_
                                  refine lv_iload hx hb dX9_order_161 (lv_at hl 4 rfl) ?_
                                  refine lv_icmp_gt (tgt := 169) hx hb dX9_order_163 (by decide) (fun c_87 => ?_) (fun c_87 => ?_)
                                  · skip
                                    exact absurd c_87 (FO_ng _)
                                  · skip
                                    refine lv_goto (tgt := 189) hx hb dX9_order_166 (by decide) ?_
                                    refine lv_iinc (v := 3) (lv' := [(10, .int 3), (12, .int (-1)), (11, .int (-1)), (9, .int 2), (8, .int ((FO r (x3f x1 x2 x3) sp (3 * 2 + 2)).2)), (7, .int ((FO r (x3f x1 x2 x3) sp (3 * 2 + 2)).1)), (0, .ref (am 0)), (1, .int (nI (ix x1))), (2, .int (nI (ix x2))), (3, .int (nI (ix x3))), (4, .int sp), (5, .int w)]) hx hb dX9_order_189 hl (k := 2) rfl rfl (by decide) rfl (fun ls hl => ?_)
                                    refine lv_goto (tgt := 101) hx hb dX9_order_192 (by decide) ?_
                                    rw [← show FO r (x3f x1 x2 x3) sp (3 * 2 + (2 + 1)) = FO r (x3f x1 x2 x3) sp (3 * 2 + 2) from FO_e (j := 8) rfl] at hl
                                    exact ih_101 2 (2 + 1) _ (by omega) (by omega) (by omega) _ _ _ hP hD hS (lv_sub hl [0, 3, 4, 5, 6, 7, 8, 9, 10, 11] rfl)
                            · skip
                              have hl : lv_has ls 13 [(10, .int 3), (9, .int 2), (8, .int ((FO r (x3f x1 x2 x3) sp (3 * 2 + 3)).2)), (7, .int ((FO r (x3f x1 x2 x3) sp (3 * 2 + 3)).1)), (0, .ref (am 0)), (1, .int (nI (ix x1))), (2, .int (nI (ix x2))), (3, .int (nI (ix x3))), (4, .int sp), (5, .int w)] := hl
                              refine lv_iconst (v := 3) hx hb dX9_order_103 (by decide) ?_
                              refine lv_icmp_ge (tgt := 195) hx hb dX9_order_104 (by decide) (fun c_88 => ?_) (fun c_88 => ?_)
                              · skip
                                refine lv_iinc (v := 3) (lv' := [(9, .int 3), (10, .int 3), (8, .int ((FO r (x3f x1 x2 x3) sp (3 * 2 + 3)).2)), (7, .int ((FO r (x3f x1 x2 x3) sp (3 * 2 + 3)).1)), (0, .ref (am 0)), (1, .int (nI (ix x1))), (2, .int (nI (ix x2))), (3, .int (nI (ix x3))), (4, .int sp), (5, .int w)]) hx hb dX9_order_195 hl (k := 1) rfl rfl (by decide) rfl (fun ls hl => ?_)
                                refine lv_goto (tgt := 92) hx hb dX9_order_198 (by decide) ?_
                                refine lv_iload hx hb dX9_order_92 (lv_at hl 0 rfl) ?_
                                refine lv_iconst (v := 3) hx hb dX9_order_94 (by decide) ?_
                                refine lv_icmp_ge (tgt := 201) hx hb dX9_order_95 (by decide) (fun c_89 => ?_) (fun c_89 => ?_)
                                · skip
                                  refine lv_iload hx hb dX9_order_201 (lv_at hl 9 rfl) ?_
                                  refine lv_if_ne (tgt := 211) hx hb dX9_order_203 (by decide) (fun c_90 => ?_) (fun c_90 => ?_)
                                  · skip
                                    refine lv_iload hx hb dX9_order_211 (lv_at hl 2 rfl) ?_
                                    have hE : eS (tB r x1) (-1) (eS (tB r x2) (-1) (eS (tB r x3) (-1) (eS (decide (x1 ≠ x2 ∧ x1 ≠ x3 ∧ x2 ≠ x3)) (-1) (eW (wBy sp.toInt 0 9) (eS (inR w 0 1) (-2) 0))))) = 0 := by rw [eS_t (show tB r x1 = true from (by first | exact bI_n0 c_2 | exact bI_0.mp c_2)), eS_t (show tB r x2 = true from (by first | exact bI_n0 c_7 | exact bI_0.mp c_7)), eS_t (show tB r x3 = true from (by first | exact bI_n0 c_12 | exact bI_0.mp c_12)), eS_t (decide_eq_true ⟨c_16, c_20, c_24⟩), eW_0 c_26, eS_t (show inR w 0 1 = true from (by have h9 := c_30; simpa [bI_0] using h9))]
                                    have hP : va_P G.1 vwCl (wM G am ho rn ln pl sd lt ro (sel (eS (tB r x1) (-1) (eS (tB r x2) (-1) (eS (tB r x3) (-1) (eS (decide (x1 ≠ x2 ∧ x1 ≠ x3 ∧ x2 ≠ x3)) (-1) (eW (wBy sp.toInt 0 9) (eS (inR w 0 1) (-2) 0)))))) rf (rfU rf (eS (tB r x1) (-1) (eS (tB r x2) (-1) (eS (tB r x3) (-1) (eS (decide (x1 ≠ x2 ∧ x1 ≠ x3 ∧ x2 ≠ x3)) (-1) (eW (wBy sp.toInt 0 9) (eS (inR w 0 1) (-2) 0)))))))) nb ++ [(am 1, .inl (G.2 0, 54, .inl (row r)))] ++ [(am 2, .inl (G.2 0, 54, .inl (row q9)))] ++ [(am 3, .inl (G.2 0, 54, .inl (row r2)))] ++ [(am 4, .inl (G.2 0, 54, .inl (row r4)))]) H := by rw [hE]; simp only [sel_0 rfl]; exact hP
                                    have hD : va_D A (wM G am ho rn ln pl sd lt ro (sel (eS (tB r x1) (-1) (eS (tB r x2) (-1) (eS (tB r x3) (-1) (eS (decide (x1 ≠ x2 ∧ x1 ≠ x3 ∧ x2 ≠ x3)) (-1) (eW (wBy sp.toInt 0 9) (eS (inR w 0 1) (-2) 0)))))) rf (rfU rf (eS (tB r x1) (-1) (eS (tB r x2) (-1) (eS (tB r x3) (-1) (eS (decide (x1 ≠ x2 ∧ x1 ≠ x3 ∧ x2 ≠ x3)) (-1) (eW (wBy sp.toInt 0 9) (eS (inR w 0 1) (-2) 0)))))))) nb ++ [(am 1, .inl (G.2 0, 54, .inl (row r)))] ++ [(am 2, .inl (G.2 0, 54, .inl (row q9)))] ++ [(am 3, .inl (G.2 0, 54, .inl (row r2)))] ++ [(am 4, .inl (G.2 0, 54, .inl (row r4)))]) := by rw [hE]; simp only [sel_0 rfl]; exact hD
                                    refine hret _ _ _ _ _ _ ((FO r (x3f x1 x2 x3) sp (3 * 2 + 3)).2) q9 dX9_order_213 ?_ hP hD hS (Nat.le_of_ble_eq_true rfl) (Nat.le_of_ble_eq_true rfl)
                                    rw [hE, sel_0 rfl]
                                    show (FO r (x3f x1 x2 x3) sp 9).2 = _
                                    unfold pOrd
                                    rw [if_neg c_90, FO_9 hN]
                                  · skip
                                    refine lv_iload hx hb dX9_order_206 (lv_at hl 3 rfl) ?_
                                    refine lv_goto (tgt := 213) hx hb dX9_order_208 (by decide) ?_
                                    have hE : eS (tB r x1) (-1) (eS (tB r x2) (-1) (eS (tB r x3) (-1) (eS (decide (x1 ≠ x2 ∧ x1 ≠ x3 ∧ x2 ≠ x3)) (-1) (eW (wBy sp.toInt 0 9) (eS (inR w 0 1) (-2) 0))))) = 0 := by rw [eS_t (show tB r x1 = true from (by first | exact bI_n0 c_2 | exact bI_0.mp c_2)), eS_t (show tB r x2 = true from (by first | exact bI_n0 c_7 | exact bI_0.mp c_7)), eS_t (show tB r x3 = true from (by first | exact bI_n0 c_12 | exact bI_0.mp c_12)), eS_t (decide_eq_true ⟨c_16, c_20, c_24⟩), eW_0 c_26, eS_t (show inR w 0 1 = true from (by have h9 := c_30; simpa [bI_0] using h9))]
                                    have hP : va_P G.1 vwCl (wM G am ho rn ln pl sd lt ro (sel (eS (tB r x1) (-1) (eS (tB r x2) (-1) (eS (tB r x3) (-1) (eS (decide (x1 ≠ x2 ∧ x1 ≠ x3 ∧ x2 ≠ x3)) (-1) (eW (wBy sp.toInt 0 9) (eS (inR w 0 1) (-2) 0)))))) rf (rfU rf (eS (tB r x1) (-1) (eS (tB r x2) (-1) (eS (tB r x3) (-1) (eS (decide (x1 ≠ x2 ∧ x1 ≠ x3 ∧ x2 ≠ x3)) (-1) (eW (wBy sp.toInt 0 9) (eS (inR w 0 1) (-2) 0)))))))) nb ++ [(am 1, .inl (G.2 0, 54, .inl (row r)))] ++ [(am 2, .inl (G.2 0, 54, .inl (row q9)))] ++ [(am 3, .inl (G.2 0, 54, .inl (row r2)))] ++ [(am 4, .inl (G.2 0, 54, .inl (row r4)))]) H := by rw [hE]; simp only [sel_0 rfl]; exact hP
                                    have hD : va_D A (wM G am ho rn ln pl sd lt ro (sel (eS (tB r x1) (-1) (eS (tB r x2) (-1) (eS (tB r x3) (-1) (eS (decide (x1 ≠ x2 ∧ x1 ≠ x3 ∧ x2 ≠ x3)) (-1) (eW (wBy sp.toInt 0 9) (eS (inR w 0 1) (-2) 0)))))) rf (rfU rf (eS (tB r x1) (-1) (eS (tB r x2) (-1) (eS (tB r x3) (-1) (eS (decide (x1 ≠ x2 ∧ x1 ≠ x3 ∧ x2 ≠ x3)) (-1) (eW (wBy sp.toInt 0 9) (eS (inR w 0 1) (-2) 0)))))))) nb ++ [(am 1, .inl (G.2 0, 54, .inl (row r)))] ++ [(am 2, .inl (G.2 0, 54, .inl (row q9)))] ++ [(am 3, .inl (G.2 0, 54, .inl (row r2)))] ++ [(am 4, .inl (G.2 0, 54, .inl (row r4)))]) := by rw [hE]; simp only [sel_0 rfl]; exact hD
                                    refine hret _ _ _ _ _ _ ((FO r (x3f x1 x2 x3) sp (3 * 2 + 3)).1) q9 dX9_order_213 ?_ hP hD hS (Nat.le_of_ble_eq_true rfl) (Nat.le_of_ble_eq_true rfl)
                                    rw [hE, sel_0 rfl]
                                    show (FO r (x3f x1 x2 x3) sp 9).1 = _
                                    unfold pOrd
                                    rw [if_pos c_90, FO_9 hN]
                                · skip
                                  exact absurd c_89 (by decide)
                              · skip
                                exact absurd c_88 (by decide)
                      exact loop_101 12 0 0 _ (by omega) (by omega) (by omega) _ _ _ hP hD hS (lv_sub hl [0, 1, 2, 3, 5, 6, 7, 8, 9, 10] rfl)
                  · skip
                    exact absurd c_26 c_31
                · skip
                  refine lv_bipush (v := (-2)) hx hb dX9_order_67 (by decide) ?_
                  refine lv_istore (lv' := [(6, .int (-2)), (0, .ref (am 0)), (1, .int x1), (2, .int x2), (3, .int x3), (4, .int sp), (5, .int w)]) hx hb dX9_order_69 hl (by decide) rfl (fun ls hl => ?_)
                  refine lv_iload hx hb dX9_order_71 (lv_at hl 0 rfl) ?_
                  refine lv_if_eq (tgt := 83) hx hb dX9_order_73 (by decide) (fun c_91 => ?_) (fun c_91 => ?_)
                  · skip
                    exact absurd c_91 (by decide)
                  · skip
                    refine lv_aload_n hx hb dX9_order_76 rfl (lv_at hl 1 rfl) ?_
                    refine lv_iload hx hb dX9_order_77 (lv_at hl 0 rfl) ?_
                    refine x_Vi (wN := fun _ => (wM G am ho rn ln pl sd lt ro (rfU rf (-2)) nb ++ [(am 1, .inl (G.2 0, 54, .inl (row r)))] ++ [(am 2, .inl (G.2 0, 54, .inl (row rm)))] ++ [(am 3, .inl (G.2 0, 54, .inl (row r2)))] ++ [(am 4, .inl (G.2 0, 54, .inl (row r4)))])) ⟨C0, hK, hP, hD, hS, hA⟩ 0 rfl (ci := 8) rfl rfl ((m9_no l G am ho rn ln pl sd lt ro rf nb (-2) noOk_k.2.1)) (cwV 1 hts (lw_V q1206 q1208 qs66 q95 q1209) rfl rfl rfl (by decide +kernel) ⟨Nat.le_of_ble_eq_true rfl, Nat.le_of_ble_eq_true rfl⟩) [0, 1, 2, 3, 4] [1, 3, 5, 7, 9, 10, 12, 14, 16] rfl (fun _ => rfl) rfl rfl hl.1 rfl (Nat.le_of_ble_eq_true rfl) dX9_order_79 ⟨(Nat.le_of_ble_eq_true rfl), (Nat.le_of_ble_eq_true rfl)⟩ (fun r_92 u_92 H locs hw_92 hP hD hS => ?_)
                    have hw_92 : ((-2) : Int32) = r_92 := hw_92.symm
                    subst hw_92
                    have hP : va_P G.1 vwCl (wM G am ho rn ln pl sd lt ro (rfU rf (-2)) nb ++ [(am 1, .inl (G.2 0, 54, .inl (row r)))] ++ [(am 2, .inl (G.2 0, 54, .inl (row rm)))] ++ [(am 3, .inl (G.2 0, 54, .inl (row r2)))] ++ [(am 4, .inl (G.2 0, 54, .inl (row r4)))]) H := hP
                    have hD : va_D A (wM G am ho rn ln pl sd lt ro (rfU rf (-2)) nb ++ [(am 1, .inl (G.2 0, 54, .inl (row r)))] ++ [(am 2, .inl (G.2 0, 54, .inl (row rm)))] ++ [(am 3, .inl (G.2 0, 54, .inl (row r2)))] ++ [(am 4, .inl (G.2 0, 54, .inl (row r4)))]) := hD
                    have hE : eS (tB r x1) (-1) (eS (tB r x2) (-1) (eS (tB r x3) (-1) (eS (decide (x1 ≠ x2 ∧ x1 ≠ x3 ∧ x2 ≠ x3)) (-1) (eW (wBy sp.toInt 0 9) (eS (inR w 0 1) (-2) 0))))) = (-2) := by rw [eS_t (show tB r x1 = true from (by first | exact bI_n0 c_2 | exact bI_0.mp c_2)), eS_t (show tB r x2 = true from (by first | exact bI_n0 c_7 | exact bI_0.mp c_7)), eS_t (show tB r x3 = true from (by first | exact bI_n0 c_12 | exact bI_0.mp c_12)), eS_t (decide_eq_true ⟨c_16, c_20, c_24⟩), eW_0 c_26, eS_f (show inR w 0 1 = false from (by have h9 := c_30; simpa [bI_0] using h9))]
                    have hne : ((-2) : Int32) ≠ 0 := (by decide)
                    have hP : va_P G.1 vwCl (wM G am ho rn ln pl sd lt ro (sel (eS (tB r x1) (-1) (eS (tB r x2) (-1) (eS (tB r x3) (-1) (eS (decide (x1 ≠ x2 ∧ x1 ≠ x3 ∧ x2 ≠ x3)) (-1) (eW (wBy sp.toInt 0 9) (eS (inR w 0 1) (-2) 0)))))) rf (rfU rf (eS (tB r x1) (-1) (eS (tB r x2) (-1) (eS (tB r x3) (-1) (eS (decide (x1 ≠ x2 ∧ x1 ≠ x3 ∧ x2 ≠ x3)) (-1) (eW (wBy sp.toInt 0 9) (eS (inR w 0 1) (-2) 0)))))))) nb ++ [(am 1, .inl (G.2 0, 54, .inl (row r)))] ++ [(am 2, .inl (G.2 0, 54, .inl (row rm)))] ++ [(am 3, .inl (G.2 0, 54, .inl (row r2)))] ++ [(am 4, .inl (G.2 0, 54, .inl (row r4)))]) H := by rw [hE]; simp only [sel_n hne]; exact hP
                    have hD : va_D A (wM G am ho rn ln pl sd lt ro (sel (eS (tB r x1) (-1) (eS (tB r x2) (-1) (eS (tB r x3) (-1) (eS (decide (x1 ≠ x2 ∧ x1 ≠ x3 ∧ x2 ≠ x3)) (-1) (eW (wBy sp.toInt 0 9) (eS (inR w 0 1) (-2) 0)))))) rf (rfU rf (eS (tB r x1) (-1) (eS (tB r x2) (-1) (eS (tB r x3) (-1) (eS (decide (x1 ≠ x2 ∧ x1 ≠ x3 ∧ x2 ≠ x3)) (-1) (eW (wBy sp.toInt 0 9) (eS (inR w 0 1) (-2) 0)))))))) nb ++ [(am 1, .inl (G.2 0, 54, .inl (row r)))] ++ [(am 2, .inl (G.2 0, 54, .inl (row rm)))] ++ [(am 3, .inl (G.2 0, 54, .inl (row r2)))] ++ [(am 4, .inl (G.2 0, 54, .inl (row r4)))]) := by rw [hE]; simp only [sel_n hne]; exact hD
                    refine hret _ _ _ _ _ _ (-2) rm dX9_order_82 ?_ hP hD hS (Nat.le_of_ble_eq_true rfl) (Nat.le_of_ble_eq_true rfl)
                    rw [hE, sel_n hne]
            · skip
              refine lv_iconst (v := (-1)) hx hb dX9_order_39 (by decide) ?_
              refine lv_goto (tgt := 50) hx hb dX9_order_40 (by decide) ?_
              refine lv_istore (lv' := [(6, .int (-1)), (0, .ref (am 0)), (1, .int x1), (2, .int x2), (3, .int x3), (4, .int sp), (5, .int w)]) hx hb dX9_order_50 hl (by decide) rfl (fun ls hl => ?_)
              refine lv_iload hx hb dX9_order_52 (lv_at hl 0 rfl) ?_
              refine lv_if_ne (tgt := 71) hx hb dX9_order_54 (by decide) (fun c_93 => ?_) (fun c_93 => ?_)
              · skip
                refine lv_iload hx hb dX9_order_71 (lv_at hl 0 rfl) ?_
                refine lv_if_eq (tgt := 83) hx hb dX9_order_73 (by decide) (fun c_94 => ?_) (fun c_94 => ?_)
                · skip
                  exact absurd c_94 (by decide)
                · skip
                  refine lv_aload_n hx hb dX9_order_76 rfl (lv_at hl 1 rfl) ?_
                  refine lv_iload hx hb dX9_order_77 (lv_at hl 0 rfl) ?_
                  refine x_Vi (wN := fun _ => (wM G am ho rn ln pl sd lt ro (rfU rf (-1)) nb ++ [(am 1, .inl (G.2 0, 54, .inl (row r)))] ++ [(am 2, .inl (G.2 0, 54, .inl (row rm)))] ++ [(am 3, .inl (G.2 0, 54, .inl (row r2)))] ++ [(am 4, .inl (G.2 0, 54, .inl (row r4)))])) ⟨C0, hK, hP, hD, hS, hA⟩ 0 rfl (ci := 8) rfl rfl ((m9_no l G am ho rn ln pl sd lt ro rf nb (-1) noOk_k.1)) (cwV 1 hts (lw_V q1206 q1208 qs66 q95 q1209) rfl rfl rfl (by decide +kernel) ⟨Nat.le_of_ble_eq_true rfl, Nat.le_of_ble_eq_true rfl⟩) [0, 1, 2, 3, 4] [1, 3, 5, 7, 9, 10, 12, 14, 16] rfl (fun _ => rfl) rfl rfl hl.1 rfl (Nat.le_of_ble_eq_true rfl) dX9_order_79 ⟨(Nat.le_of_ble_eq_true rfl), (Nat.le_of_ble_eq_true rfl)⟩ (fun r_95 u_95 H locs hw_95 hP hD hS => ?_)
                  have hw_95 : ((-1) : Int32) = r_95 := hw_95.symm
                  subst hw_95
                  have hP : va_P G.1 vwCl (wM G am ho rn ln pl sd lt ro (rfU rf (-1)) nb ++ [(am 1, .inl (G.2 0, 54, .inl (row r)))] ++ [(am 2, .inl (G.2 0, 54, .inl (row rm)))] ++ [(am 3, .inl (G.2 0, 54, .inl (row r2)))] ++ [(am 4, .inl (G.2 0, 54, .inl (row r4)))]) H := hP
                  have hD : va_D A (wM G am ho rn ln pl sd lt ro (rfU rf (-1)) nb ++ [(am 1, .inl (G.2 0, 54, .inl (row r)))] ++ [(am 2, .inl (G.2 0, 54, .inl (row rm)))] ++ [(am 3, .inl (G.2 0, 54, .inl (row r2)))] ++ [(am 4, .inl (G.2 0, 54, .inl (row r4)))]) := hD
                  have hE : eS (tB r x1) (-1) (eS (tB r x2) (-1) (eS (tB r x3) (-1) (eS (decide (x1 ≠ x2 ∧ x1 ≠ x3 ∧ x2 ≠ x3)) (-1) (eW (wBy sp.toInt 0 9) (eS (inR w 0 1) (-2) 0))))) = (-1) := by rw [eS_t (show tB r x1 = true from (by first | exact bI_n0 c_2 | exact bI_0.mp c_2)), eS_t (show tB r x2 = true from (by first | exact bI_n0 c_7 | exact bI_0.mp c_7)), eS_t (show tB r x3 = true from (by first | exact bI_n0 c_12 | exact bI_0.mp c_12)), eS_f (decide_eq_false (fun z => z.2.2 c_24))]
                  have hne : ((-1) : Int32) ≠ 0 := (by decide)
                  have hP : va_P G.1 vwCl (wM G am ho rn ln pl sd lt ro (sel (eS (tB r x1) (-1) (eS (tB r x2) (-1) (eS (tB r x3) (-1) (eS (decide (x1 ≠ x2 ∧ x1 ≠ x3 ∧ x2 ≠ x3)) (-1) (eW (wBy sp.toInt 0 9) (eS (inR w 0 1) (-2) 0)))))) rf (rfU rf (eS (tB r x1) (-1) (eS (tB r x2) (-1) (eS (tB r x3) (-1) (eS (decide (x1 ≠ x2 ∧ x1 ≠ x3 ∧ x2 ≠ x3)) (-1) (eW (wBy sp.toInt 0 9) (eS (inR w 0 1) (-2) 0)))))))) nb ++ [(am 1, .inl (G.2 0, 54, .inl (row r)))] ++ [(am 2, .inl (G.2 0, 54, .inl (row rm)))] ++ [(am 3, .inl (G.2 0, 54, .inl (row r2)))] ++ [(am 4, .inl (G.2 0, 54, .inl (row r4)))]) H := by rw [hE]; simp only [sel_n hne]; exact hP
                  have hD : va_D A (wM G am ho rn ln pl sd lt ro (sel (eS (tB r x1) (-1) (eS (tB r x2) (-1) (eS (tB r x3) (-1) (eS (decide (x1 ≠ x2 ∧ x1 ≠ x3 ∧ x2 ≠ x3)) (-1) (eW (wBy sp.toInt 0 9) (eS (inR w 0 1) (-2) 0)))))) rf (rfU rf (eS (tB r x1) (-1) (eS (tB r x2) (-1) (eS (tB r x3) (-1) (eS (decide (x1 ≠ x2 ∧ x1 ≠ x3 ∧ x2 ≠ x3)) (-1) (eW (wBy sp.toInt 0 9) (eS (inR w 0 1) (-2) 0)))))))) nb ++ [(am 1, .inl (G.2 0, 54, .inl (row r)))] ++ [(am 2, .inl (G.2 0, 54, .inl (row rm)))] ++ [(am 3, .inl (G.2 0, 54, .inl (row r2)))] ++ [(am 4, .inl (G.2 0, 54, .inl (row r4)))]) := by rw [hE]; simp only [sel_n hne]; exact hD
                  refine hret _ _ _ _ _ _ (-1) rm dX9_order_82 ?_ hP hD hS (Nat.le_of_ble_eq_true rfl) (Nat.le_of_ble_eq_true rfl)
                  rw [hE, sel_n hne]
              · skip
                exact absurd c_93 (by decide)

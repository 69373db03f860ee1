/-! the model: its object, first faces (printed by tools/model2.py) -/
/-! the model: its object, its world -/
set_option maxRecDepth 100000
def wM (G : xG) (am : Nat → Nat) (ho rn ln pl sd : Int32) (lt ro rf nb : Nat → Int32) : va_W := [(am 0, .inr (8, [.ref (am 1), .ref (am 2), .ref (am 3), .ref (am 4), .int ho, .ref (am 5), .ref (am 6), .ref (am 7), .int ln, .int rn, .int pl, .ref (am 8), .int sd])), (am 5, .inl (G.2 0, 96, .inl lt)), (am 6, .inl (G.2 0, 16, .inl ro)), (am 7, .inl (G.2 0, 7, .inl rf)), (am 8, .inl (G.2 0, 3, .inl nb))]
/-- one row of the model's -/
def w1 (G : xG) (q : Nat) (r : Rw) : va_W := [(q, .inl (G.2 0, 54, .inl (row r)))]
/-- a number that the model counts -/
def noOk (x : Int32) : Prop := -20 < x ∧ ∃ k, k < 7 ∧ -x = nI k
theorem noOk_k : noOk (-1) ∧ noOk (-2) ∧ noOk (-3) ∧ noOk (-4) ∧ noOk (-6) := ⟨⟨by decide, 1, by omega, rfl⟩, ⟨by decide, 2, by omega, rfl⟩, ⟨by decide, 3, by omega, rfl⟩, ⟨by decide, 4, by omega, rfl⟩, ⟨by decide, 6, by omega, rfl⟩⟩
def cOk (x : Int32) : Prop := x = 0 ∨ noOk x
theorem cOk.no {x : Int32} (h : cOk x) (h2 : x ≠ 0) : noOk x := h.resolve_left h2
theorem cOk_0 : cOk 0 := Or.inl rfl
theorem cOk_S {b : Bool} {n k : Int32} (h1 : noOk n) (h2 : cOk k) : cOk (eS b n k) := by unfold eS; split <;> first | exact h2 | exact Or.inr h1
theorem noOk_W {v lo hi : Int} (h : wBy v lo hi ≠ 0) : noOk (wBy v lo hi) := by
  unfold wBy at h ⊢
  split
  · exact noOk_k.2.2.2.1
  · split
    · exact noOk_k.2.2.2.2
    · rename_i h1 h2
      rw [if_neg h1, if_neg h2] at h
      exact absurd rfl h
theorem cOk_W {v lo hi : Int} {k : Int32} (h2 : cOk k) : cOk (eW (wBy v lo hi) k) := by
  unfold eW
  split
  · exact h2
  · rename_i h; exact Or.inr (noOk_W h)
theorem cOk_WW {v lo hi : Int} : cOk (wBy v lo hi) := by
  by_cases h : wBy v lo hi = 0
  · exact Or.inl h
  · exact Or.inr (noOk_W h)
set_option maxHeartbeats 4000000 in
set_option maxRecDepth 100000 in
theorem m9_no (l : Launch) (G : xG) (am : Nat → Nat) (ho rn ln pl sd : Int32) (lt ro rf nb : Nat → Int32) (x : Int32) (hx9 : noOk x) : xCi l G yX9_no cX9_no 2 (some .int) ({ frames := 0, cells := 0, slots := 0, locals := 0 } : Room) [.ref (am 0), .int x] (wM G am ho rn ln pl sd lt ro rf nb) (S := Unit) (fun v _ => v = x) (fun _ => (wM G am ho rn ln pl sd lt ro (rfU rf x) nb)) := by
  refine x_openi (by decide) (Nat.le_of_ble_eq_true rfl) (fun _ _ _ => rfl) ?_
  intro p e s m args below meth c A Q ls C0 hK hP hD hA hl hret
  obtain ⟨hx, hb, hml, hown, hts⟩ := id C0
  have hS : va_S A s.heap s.heap [] := va_S.rf
  have hP : va_P G.1 vwCl (wM G am ho rn ln pl sd lt ro rf nb) s.heap := hP
  have hD : va_D A (wM G am ho rn ln pl sd lt ro rf nb) := hD
  have hl : lv_has ls 2 [(0, .ref (am 0)), (1, .int x)] := hl
  obtain ⟨k, hk7, ek⟩ := hx9.2
  refine lv_aload_n hx hb dX9_no_0 rfl (lv_at hl 0 rfl) ?_
  refine va_get (D := G.1) (ci := 8) (v := .ref (am 7)) (C := RX9) (T := TX9) (N := 13) hx hb hts in_X9 hown hK.1 hP 0 rfl rfl 7 (by decide) (hts _ q1169) (fun _ h9 => h9) rfl dX9_no_1 ?_
  refine lv_iload_n hx hb dX9_no_4 rfl (lv_at hl 1 rfl) ?_
  refine lv_ineg hx hb dX9_no_5 ?_
  rw [show (-x : Int32) = nI k from ek]
  refine lv_dup2_11 hx hb dX9_no_6 rfl rfl ?_
  refine x_ialdn (k := k) hx hb hK.1 hP 3 0 rfl rfl (by omega) (by decide) (v := rf k) rfl dX9_no_7 ?_
  refine lv_iconst (v := 1) hx hb dX9_no_8 (by decide) ?_
  refine x_iadd hx hb dX9_no_9 (v := (rf k) + 1) rfl ?_
  refine x_iastn (k := k) hx hb hK.1 hP hD hS 3 0 rfl rfl (by omega) (by decide) (g := upd rf k ((rf k) + 1)) rfl dX9_no_10 (fun H locs hP hD hS => ?_)
  have hP : va_P G.1 vwCl (wM G am ho rn ln pl sd lt ro (upd rf k ((rf k) + 1)) nb) H := hP
  have hD : va_D A (wM G am ho rn ln pl sd lt ro (upd rf k ((rf k) + 1)) nb) := hD
  refine lv_iload_n hx hb dX9_no_11 rfl (lv_at hl 1 rfl) ?_
  rw [rfU_y hx9.1 hk7 ek] at hP hD
  refine hret _ _ _ _ _ _ x () dX9_no_12 ?_ hP hD hS (Nat.le_of_ble_eq_true rfl) (Nat.le_of_ble_eq_true rfl)
  rfl
set_option maxHeartbeats 4000000 in
set_option maxRecDepth 100000 in
theorem m9_noWide (l : Launch) (G : xG) (am : Nat → Nat) (ho rn ln pl sd : Int32) (lt ro rf nb : Nat → Int32) (x : Int32) (hx9 : noOk x) : xCl l G yX9_noWide cX9_noWide 2 (some .long) ({ frames := 1, cells := 0, slots := 0, locals := 21 } : Room) [.ref (am 0), .int x] (wM G am ho rn ln pl sd lt ro rf nb) (S := Unit) (fun v _ => v = 4000000000000000000 - x.toInt64) (fun _ => (wM G am ho rn ln pl sd lt ro (rfU rf x) nb)) := by
  refine x_openl (by decide) (Nat.le_of_ble_eq_true rfl) ?_
  intro p e s m args below meth c A Q ls C0 hK hP hD hA hl hret
  obtain ⟨hx, hb, hml, hown, hts⟩ := id C0
  have hS : va_S A s.heap s.heap [] := va_S.rf
  have hP : va_P G.1 vwCl (wM G am ho rn ln pl sd lt ro rf nb) s.heap := hP
  have hD : va_D A (wM G am ho rn ln pl sd lt ro rf nb) := hD
  have hl : lv_has ls 2 [(0, .ref (am 0)), (1, .int x)] := hl
  refine lv_ldc2 (v := 4000000000000000000) hx hb hown (hts _ q1428) dX9_noWide_0 ?_
  refine lv_aload_n hx hb dX9_noWide_3 rfl (lv_at hl 0 rfl) ?_
  refine lv_iload_n hx hb dX9_noWide_4 rfl (lv_at hl 1 rfl) ?_
  refine x_Vi (wN := fun _ => (wM G am ho rn ln pl sd lt ro (rfU rf x) nb)) ⟨C0, hK, hP, hD, hS, hA⟩ 0 rfl (ci := 8) rfl rfl ((m9_no l G am ho rn ln pl sd lt ro rf nb x hx9)) (cwV 1 hts (lw_V q1206 q1208 qs66 q95 q1209) rfl rfl rfl (by decide +kernel) ⟨Nat.le_of_ble_eq_true rfl, Nat.le_of_ble_eq_true rfl⟩) [0, 1, 2, 3, 4] [1, 3, 5, 7, 9] rfl (fun _ => rfl) rfl rfl hl.1 rfl (Nat.le_of_ble_eq_true rfl) dX9_noWide_5 ⟨(Nat.le_of_ble_eq_true rfl), (Nat.le_of_ble_eq_true rfl)⟩ (fun r_1 u_1 H locs hw_1 hP hD hS => ?_)
  have hw_1 : (x : Int32) = r_1 := hw_1.symm
  subst hw_1
  have hP : va_P G.1 vwCl (wM G am ho rn ln pl sd lt ro (rfU rf x) nb) H := hP
  have hD : va_D A (wM G am ho rn ln pl sd lt ro (rfU rf x) nb) := hD
  refine lv_i2l (v := x.toInt64) hx hb dX9_noWide_8 rfl ?_
  refine x_lsub hx hb dX9_noWide_9 (v := 4000000000000000000 - x.toInt64) rfl ?_
  refine hret _ _ _ _ _ _ (4000000000000000000 - x.toInt64) () dX9_noWide_10 ?_ hP hD hS (Nat.le_of_ble_eq_true rfl) (Nat.le_of_ble_eq_true rfl)
  rfl
set_option maxHeartbeats 4000000 in
set_option maxRecDepth 100000 in
theorem m9_wrongBy (l : Launch) (G : xG) (x y : Int32) : xCi l G yX9_wrongBy cX9_wrongBy 2 (some .int) ({ frames := 0, cells := 0, slots := 0, locals := 0 } : Room) [.int x, .int y] ([] : va_W) (S := Unit) (fun v _ => v = wBy x.toInt 0 y.toInt) (fun _ => []) := by
  refine x_openi (by decide) (Nat.le_of_ble_eq_true rfl) (fun _ _ _ => rfl) ?_
  intro p e s m args below meth c A Q ls C0 hK hP hD hA hl hret
  obtain ⟨hx, hb, hml, hown, hts⟩ := id C0
  have hS : va_S A s.heap s.heap [] := va_S.rf
  have hP : va_P G.1 vwCl ([] : va_W) s.heap := hP
  have hD : va_D A ([] : va_W) := hD
  have hl : lv_has ls 2 [(0, .int x), (1, .int y)] := hl
  refine lv_iload_n hx hb dX9_wrongBy_0 rfl (lv_at hl 0 rfl) ?_
  refine lv_if_ge (tgt := 9) hx hb dX9_wrongBy_1 (by decide) (fun c_1 => ?_) (fun c_1 => ?_)
  · skip
    refine lv_iload_n hx hb dX9_wrongBy_9 rfl (lv_at hl 0 rfl) ?_
    refine lv_iload_n hx hb dX9_wrongBy_10 rfl (lv_at hl 1 rfl) ?_
    refine lv_icmp_le (tgt := 19) hx hb dX9_wrongBy_11 (by decide) (fun c_2 => ?_) (fun c_2 => ?_)
    · skip
      refine lv_iconst (v := 0) hx hb dX9_wrongBy_19 (by decide) ?_
      refine hret _ _ _ _ _ _ 0 () dX9_wrongBy_20 ?_ hP hD hS (Nat.le_of_ble_eq_true rfl) (Nat.le_of_ble_eq_true rfl)
      have e0 : (0 : Int32).toInt = 0 := by decide
      simp only [Int32.lt_iff_toInt_lt, gt_iff_lt, ge_iff_le, Int32.le_iff_toInt_le] at c_1 c_2
      unfold wBy
      rw [if_neg (by omega), if_neg (by omega)]
    · skip
      refine lv_bipush (v := (-6)) hx hb dX9_wrongBy_14 (by decide) ?_
      refine lv_goto (tgt := 20) hx hb dX9_wrongBy_16 (by decide) ?_
      refine hret _ _ _ _ _ _ (-6) () dX9_wrongBy_20 ?_ hP hD hS (Nat.le_of_ble_eq_true rfl) (Nat.le_of_ble_eq_true rfl)
      have e0 : (0 : Int32).toInt = 0 := by decide
      simp only [Int32.lt_iff_toInt_lt, gt_iff_lt, ge_iff_le, Int32.le_iff_toInt_le] at c_1 c_2
      unfold wBy
      rw [if_neg (by omega), if_pos (by omega)]
  · skip
    refine lv_bipush (v := (-4)) hx hb dX9_wrongBy_4 (by decide) ?_
    refine lv_goto (tgt := 20) hx hb dX9_wrongBy_6 (by decide) ?_
    refine hret _ _ _ _ _ _ (-4) () dX9_wrongBy_20 ?_ hP hD hS (Nat.le_of_ble_eq_true rfl) (Nat.le_of_ble_eq_true rfl)
    have e0 : (0 : Int32).toInt = 0 := by decide
    simp only [Int32.lt_iff_toInt_lt, gt_iff_lt, ge_iff_le, Int32.le_iff_toInt_le] at c_1
    unfold wBy
    rw [if_pos (by omega)]
theorem isT_e {r : Rw} {t : Int32} (h : mny r < 2 ^ 30) : inR t (0 : Int32).toInt (nI (mny r) - 1).toInt = tB r t := by
  unfold tB
  rw [nI_m1 h]
  rfl
set_option maxHeartbeats 4000000 in
set_option maxRecDepth 100000 in
theorem m9_isThing (l : Launch) (G : xG) (am : Nat → Nat) (r rm r2 r4 : Rw) (ho rn ln pl sd : Int32) (lt ro rf nb : Nat → Int32) (hr : Ok r) (hp : r 5 3 = 0) (t : Int32) : xCi l G yX9_isThing cX9_isThing 2 (some .boolean) ({ frames := 1, cells := 0, slots := 0, locals := 22 } : Room) [.ref (am 0), .int t] (wM G am ho rn ln pl sd lt ro rf nb ++ [(am 1, .inl (G.2 0, 54, .inl (row r)))] ++ [(am 2, .inl (G.2 0, 54, .inl (row rm)))] ++ [(am 3, .inl (G.2 0, 54, .inl (row r2)))] ++ [(am 4, .inl (G.2 0, 54, .inl (row r4)))]) (S := Unit) (fun v _ => v = bI (tB r t)) (fun _ => (wM G am ho rn ln pl sd lt ro rf nb ++ [(am 1, .inl (G.2 0, 54, .inl (row r)))] ++ [(am 2, .inl (G.2 0, 54, .inl (row rm)))] ++ [(am 3, .inl (G.2 0, 54, .inl (row r2)))] ++ [(am 4, .inl (G.2 0, 54, .inl (row r4)))])) := by
  refine x_openi (by decide) (Nat.le_of_ble_eq_true rfl) (fun _ _ h => by rw [h]; exact bI_z _) ?_
  intro p e s m args below meth c A Q ls C0 hK hP hD hA hl hret
  obtain ⟨hx, hb, hml, hown, hts⟩ := id C0
  have hS : va_S A s.heap s.heap [] := va_S.rf
  have hP : va_P G.1 vwCl (wM G am ho rn ln pl sd lt ro rf nb ++ [(am 1, .inl (G.2 0, 54, .inl (row r)))] ++ [(am 2, .inl (G.2 0, 54, .inl (row rm)))] ++ [(am 3, .inl (G.2 0, 54, .inl (row r2)))] ++ [(am 4, .inl (G.2 0, 54, .inl (row r4)))]) s.heap := hP
  have hD : va_D A (wM G am ho rn ln pl sd lt ro rf nb ++ [(am 1, .inl (G.2 0, 54, .inl (row r)))] ++ [(am 2, .inl (G.2 0, 54, .inl (row rm)))] ++ [(am 3, .inl (G.2 0, 54, .inl (row r2)))] ++ [(am 4, .inl (G.2 0, 54, .inl (row r4)))]) := hD
  have hl : lv_has ls 2 [(0, .ref (am 0)), (1, .int t)] := hl
  have hr0 := hr.n
  have hN := hr.le
  refine lv_iload_n hx hb dX9_isThing_0 rfl (lv_at hl 1 rfl) ?_
  refine lv_iconst (v := 0) hx hb dX9_isThing_1 (by decide) ?_
  refine lv_aload_n hx hb dX9_isThing_2 rfl (lv_at hl 0 rfl) ?_
  refine va_get (D := G.1) (ci := 8) (v := .ref (am 1)) (C := RX9) (T := TX9) (N := 13) hx hb hts in_X9 hown hK.1 hP 0 rfl rfl 0 (by decide) (hts _ q1162) (fun _ h9 => h9) rfl dX9_isThing_3 ?_
  refine lv_iconst (v := 0) hx hb dX9_isThing_6 (by decide) ?_
  refine x_ialdn (k := 0) hx hb hK.1 hP 5 0 rfl rfl (by decide) (by decide) (v := nI (mny r)) (hr0) dX9_isThing_7 ?_
  refine lv_iconst (v := 1) hx hb dX9_isThing_8 (by decide) ?_
  refine x_isub hx hb dX9_isThing_9 (v := nI (mny r) - 1) rfl ?_
  refine x_Si (wN := fun _ => (wM G am ho rn ln pl sd lt ro rf nb ++ [(am 1, .inl (G.2 0, 54, .inl (row r)))] ++ [(am 2, .inl (G.2 0, 54, .inl (row rm)))] ++ [(am 3, .inl (G.2 0, 54, .inl (row r2)))] ++ [(am 4, .inl (G.2 0, 54, .inl (row r4)))])) ⟨C0, hK, hP, hD, hS, hA⟩ ((m9_isIn l G t 0 (nI (mny r) - 1))) (va_cwS 3 hts (lw_S q1233 q1234 q95 q1235) rfl rfl rfl (by decide +kernel) ⟨Nat.le_of_ble_eq_true rfl, Nat.le_of_ble_eq_true rfl⟩) [] [0, 2, 4, 6, 8, 10, 12, 14, 16] rfl (fun _ => rfl) rfl rfl hl.1 rfl (Nat.le_of_ble_eq_true rfl) dX9_isThing_10 ⟨(Nat.le_of_ble_eq_true rfl), (Nat.le_of_ble_eq_true rfl)⟩ (fun r_1 u_1 H locs hw_1 hP hD hS => ?_)
  have hw_1 : r_1 = bI (tB r t) := hw_1.trans (congrArg bI (isT_e (by omega)))
  have hw_1 : (bI (tB r t) : Int32) = r_1 := hw_1.symm
  subst hw_1
  refine hret _ _ _ _ _ _ (bI (tB r t)) () dX9_isThing_13 ?_ hP hD hS (Nat.le_of_ble_eq_true rfl) (Nat.le_of_ble_eq_true rfl)
  rfl
theorem pTh_5 {w : Int32} {r : Rw} {t : Nat} (e : w = 5) : pHabit (r 0 t) (r 1 t) (decide (pSet r 1 &&& (b1 t ^^^ -1) ≠ 0)) = pTh r t w := by rw [e]; rfl
theorem th_57 {w : Int32} (h0 : ¬ inR w 0 4 = true) : (∃ k, 5 ≤ k ∧ k ≤ 7 ∧ w = nI k ∧ inR w 0 7 = true) ∨ (inR w 0 7 = false ∧ (w.toInt < 5 ∨ (7 : Int) < w.toInt)) := by
  have h1 : ¬ (0 ≤ w.toInt ∧ w.toInt ≤ 4) := fun z => h0 (decide_eq_true z)
  by_cases h2 : inR w 0 7 = true
  · left
    obtain ⟨h3, h4⟩ := iR_ix (n := 7) (by omega) h2
    have h5 : w.toInt = ix w := by
      have := nI_toInt (n := ix w) (by omega)
      rw [← h4] at this
      exact this
    exact ⟨ix w, by omega, h3, h4, h2⟩
  · right
    have h3 : ¬ (0 ≤ w.toInt ∧ w.toInt ≤ 7) := fun z => h2 (decide_eq_true z)
    exact ⟨by simpa using h2, by omega⟩
set_option maxHeartbeats 4000000 in
set_option maxRecDepth 100000 in
theorem n_thing (l : Launch) (G : xG) (am : Nat → Nat) (r rm r2 r4 : Rw) (ho rn ln pl sd : Int32) (lt ro rf nb : Nat → Int32) (hr : Ok r) (hp : r 5 3 = 0) (t w : Int32) : xCi l G yX9_thing cX9_thing 3 (some .int) ({ frames := 3, cells := 0, slots := 0, locals := 64 } : Room) [.ref (am 0), .int t, .int w] (wM G am ho rn ln pl sd lt ro rf nb ++ [(am 1, .inl (G.2 0, 54, .inl (row r)))] ++ [(am 2, .inl (G.2 0, 54, .inl (row rm)))] ++ [(am 3, .inl (G.2 0, 54, .inl (row r2)))] ++ [(am 4, .inl (G.2 0, 54, .inl (row r4)))]) (S := Unit) (fun v _ => v = sel (eS (tB r t) (-1) (eS (inR w 0 7) (-2) 0)) (pTh r (ix t) w) (eS (tB r t) (-1) (eS (inR w 0 7) (-2) 0))) (fun _ => (wM G am ho rn ln pl sd lt ro (sel (eS (tB r t) (-1) (eS (inR w 0 7) (-2) 0)) rf (rfU rf (eS (tB r t) (-1) (eS (inR w 0 7) (-2) 0)))) nb ++ [(am 1, .inl (G.2 0, 54, .inl (row r)))] ++ [(am 2, .inl (G.2 0, 54, .inl (row rm)))] ++ [(am 3, .inl (G.2 0, 54, .inl (row r2)))] ++ [(am 4, .inl (G.2 0, 54, .inl (row r4)))])) := by
  refine x_openi (by decide) (Nat.le_of_ble_eq_true rfl) (fun _ _ _ => rfl) ?_
  intro p e s m args below meth c A Q ls C0 hK hP hD hA hl hret
  obtain ⟨hx, hb, hml, hown, hts⟩ := id C0
  have hS : va_S A s.heap s.heap [] := va_S.rf
  have hP : va_P G.1 vwCl (wM G am ho rn ln pl sd lt ro rf nb ++ [(am 1, .inl (G.2 0, 54, .inl (row r)))] ++ [(am 2, .inl (G.2 0, 54, .inl (row rm)))] ++ [(am 3, .inl (G.2 0, 54, .inl (row r2)))] ++ [(am 4, .inl (G.2 0, 54, .inl (row r4)))]) s.heap := hP
  have hD : va_D A (wM G am ho rn ln pl sd lt ro rf nb ++ [(am 1, .inl (G.2 0, 54, .inl (row r)))] ++ [(am 2, .inl (G.2 0, 54, .inl (row rm)))] ++ [(am 3, .inl (G.2 0, 54, .inl (row r2)))] ++ [(am 4, .inl (G.2 0, 54, .inl (row r4)))]) := hD
  have hl : lv_has ls 3 [(0, .ref (am 0)), (1, .int t), (2, .int w)] := hl
  have hr0 := hr.n
  have hN := hr.le
  refine lv_aload_n hx hb dX9_thing_0 rfl (lv_at hl 0 rfl) ?_
  refine lv_iload_n hx hb dX9_thing_1 rfl (lv_at hl 1 rfl) ?_
  refine x_Vi (wN := fun _ => (wM G am ho rn ln pl sd lt ro rf nb ++ [(am 1, .inl (G.2 0, 54, .inl (row r)))] ++ [(am 2, .inl (G.2 0, 54, .inl (row rm)))] ++ [(am 3, .inl (G.2 0, 54, .inl (row r2)))] ++ [(am 4, .inl (G.2 0, 54, .inl (row r4)))])) ⟨C0, hK, hP, hD, hS, hA⟩ 0 rfl (ci := 8) rfl rfl ((m9_isThing l G am r rm r2 r4 ho rn ln pl sd lt ro rf nb hr hp t)) (cwV 1 hts (lw_V q1247 q1249 qs73 q95 q1250) rfl rfl rfl (by decide +kernel) ⟨Nat.le_of_ble_eq_true rfl, Nat.le_of_ble_eq_true rfl⟩) [0, 1, 2, 3, 4, 5, 6, 7, 8] [1, 3, 5, 7, 9, 11, 13, 15, 17] rfl (fun _ => rfl) rfl rfl hl.1 rfl (Nat.le_of_ble_eq_true rfl) dX9_thing_2 ⟨(Nat.le_of_ble_eq_true rfl), (Nat.le_of_ble_eq_true rfl)⟩ (fun r_1 u_1 H locs hw_1 hP hD hS => ?_)
  have hw_1 : (bI (tB r t) : Int32) = r_1 := hw_1.symm
  subst hw_1
  refine lv_if_ne (tgt := 14) hx hb dX9_thing_5 (by decide) (fun c_2 => ?_) (fun c_2 => ?_)
  · skip
    obtain ⟨hj_t, et_t⟩ := tB_ix hN (by first | exact bI_n0 c_2 | exact bI_0.mp c_2)
    rw [et_t] at hl
    refine lv_iload_n hx hb dX9_thing_14 rfl (lv_at hl 2 rfl) ?_
    refine lv_iconst (v := 0) hx hb dX9_thing_15 (by decide) ?_
    refine lv_iconst (v := 4) hx hb dX9_thing_16 (by decide) ?_
    refine x_Si (wN := fun _ => (wM G am ho rn ln pl sd lt ro rf nb ++ [(am 1, .inl (G.2 0, 54, .inl (row r)))] ++ [(am 2, .inl (G.2 0, 54, .inl (row rm)))] ++ [(am 3, .inl (G.2 0, 54, .inl (row r2)))] ++ [(am 4, .inl (G.2 0, 54, .inl (row r4)))])) ⟨C0, hK, hP, hD, hS, hA⟩ ((m9_isIn l G w 0 4)) (va_cwS 3 hts (lw_S q1233 q1234 q95 q1235) rfl rfl rfl (by decide +kernel) ⟨Nat.le_of_ble_eq_true rfl, Nat.le_of_ble_eq_true rfl⟩) [] [0, 2, 4, 6, 8, 10, 12, 14, 16] rfl (fun _ => rfl) rfl rfl hl.1 rfl (Nat.le_of_ble_eq_true rfl) dX9_thing_17 ⟨(Nat.le_of_ble_eq_true rfl), (Nat.le_of_ble_eq_true rfl)⟩ (fun r_3 u_3 H locs hw_3 hP hD hS => ?_)
    have hw_3 : r_3 = bI (inR w 0 4) := hw_3.trans rfl
    have hw_3 : (bI (inR w 0 4) : Int32) = r_3 := hw_3.symm
    subst hw_3
    refine lv_if_eq (tgt := 34) hx hb dX9_thing_20 (by decide) (fun c_4 => ?_) (fun c_4 => ?_)
    · skip
      refine lv_iload_n hx hb dX9_thing_34 rfl (lv_at hl 2 rfl) ?_
      rcases th_57 (fun z => by have h9 := c_4; rw [z] at h9; exact absurd h9 (by decide)) with ⟨k, hk5, hk7, ek, hin7⟩ | ⟨hin7, eo⟩
      · skip
        rcases (show k = 5 ∨ k = 6 ∨ k = 7 by omega) with rfl | rfl | rfl
        · skip
          refine lv_tableIn (tgt := 60) hx hb dX9_thing_35 (by rw [ek]; decide) (by rw [ek]; decide) (by rw [ek]; rfl) (by decide) ?_
          refine lv_aload_n hx hb dX9_thing_60 rfl (lv_at hl 0 rfl) ?_
          refine va_get (D := G.1) (ci := 8) (v := .ref (am 1)) (C := RX9) (T := TX9) (N := 13) hx hb hts in_X9 hown hK.1 hP 0 rfl rfl 0 (by decide) (hts _ q1162) (fun _ h9 => h9) rfl dX9_thing_61 ?_
          refine lv_iload_n hx hb dX9_thing_64 rfl (lv_at hl 1 rfl) ?_
          refine lv_aload_n hx hb dX9_thing_65 rfl (lv_at hl 0 rfl) ?_
          refine va_get (D := G.1) (ci := 8) (v := .ref (am 1)) (C := RX9) (T := TX9) (N := 13) hx hb hts in_X9 hown hK.1 hP 0 rfl rfl 0 (by decide) (hts _ q1162) (fun _ h9 => h9) rfl dX9_thing_66 ?_
          refine lv_iconst (v := 1) hx hb dX9_thing_69 (by decide) ?_
          refine x_Si (wN := fun _ => (wM G am ho rn ln pl sd lt ro rf nb ++ [(am 1, .inl (G.2 0, 54, .inl (row r)))] ++ [(am 2, .inl (G.2 0, 54, .inl (row rm)))] ++ [(am 3, .inl (G.2 0, 54, .inl (row r2)))] ++ [(am 4, .inl (G.2 0, 54, .inl (row r4)))])) ⟨C0, hK, hP, hD, hS, hA⟩ ((m9_setOf l G (am 1) r hr 1)) (va_cwS 2 hts (lw_S q1281 q1282 q95 q1283) rfl rfl rfl (by decide +kernel) ⟨Nat.le_of_ble_eq_true rfl, Nat.le_of_ble_eq_true rfl⟩) [5] [0, 2, 4, 6, 8, 1, 12, 14, 16] rfl (fun _ => rfl) rfl rfl hl.1 rfl (Nat.le_of_ble_eq_true rfl) dX9_thing_70 ⟨(Nat.le_of_ble_eq_true rfl), (Nat.le_of_ble_eq_true rfl)⟩ (fun r_5 u_5 H locs hw_5 hP hD hS => ?_)
          have hw_5 : (pSet r 1 : Int32) = r_5 := hw_5.symm
          subst hw_5
          refine lv_iconst (v := 1) hx hb dX9_thing_73 (by decide) ?_
          refine lv_iload_n hx hb dX9_thing_74 rfl (lv_at hl 1 rfl) ?_
          refine x_ishl hx hb dX9_thing_75 (v := b1 (ix t)) rfl ?_
          refine lv_iconst (v := (-1)) hx hb dX9_thing_76 (by decide) ?_
          refine x_ixor hx hb dX9_thing_77 (v := (b1 (ix t)) ^^^ (-1)) rfl ?_
          refine x_iand hx hb dX9_thing_78 (v := (pSet r 1) &&& ((b1 (ix t)) ^^^ (-1))) rfl ?_
          refine lv_if_eq (tgt := 86) hx hb dX9_thing_79 (by decide) (fun c_6 => ?_) (fun c_6 => ?_)
          · skip
            refine lv_iconst (v := 0) hx hb dX9_thing_86 (by decide) ?_
            have eb : (0 : Int32) = bI (decide (pSet r 1 &&& (b1 (ix t) ^^^ -1) ≠ 0)) := bI_F (decide_eq_false (fun h => h c_6))
            rw [eb]
            refine x_Si (wN := fun _ => (wM G am ho rn ln pl sd lt ro rf nb ++ [(am 1, .inl (G.2 0, 54, .inl (row r)))] ++ [(am 2, .inl (G.2 0, 54, .inl (row rm)))] ++ [(am 3, .inl (G.2 0, 54, .inl (row r2)))] ++ [(am 4, .inl (G.2 0, 54, .inl (row r4)))])) ⟨C0, hK, hP, hD, hS, hA⟩ ((m9_habit l G (am 1) r hr (ix t) (decide (pSet r 1 &&& (b1 (ix t) ^^^ -1) ≠ 0)) (show (ix t) < mny r by omega))) (va_cwS 3 hts (lw_S q1284 q1285 q95 q1286) rfl rfl rfl (by decide +kernel) ⟨Nat.le_of_ble_eq_true rfl, Nat.le_of_ble_eq_true rfl⟩) [5] [0, 2, 4, 6, 8, 1, 12, 14, 16] rfl (fun _ => rfl) rfl rfl hl.1 rfl (Nat.le_of_ble_eq_true rfl) dX9_thing_87 ⟨(Nat.le_of_ble_eq_true rfl), (Nat.le_of_ble_eq_true rfl)⟩ (fun r_7 u_7 H locs hw_7 hP hD hS => ?_)
            have hw_7 : (pHabit ((r 0) (ix t)) ((r 1) (ix t)) (decide (pSet r 1 &&& (b1 (ix t) ^^^ -1) ≠ 0)) : Int32) = r_7 := hw_7.symm
            subst hw_7
            have hE : eS (tB r t) (-1) (eS (inR w 0 7) (-2) 0) = 0 := by rw [eS_t (show tB r t = true from (by first | exact bI_n0 c_2 | exact bI_0.mp c_2)), eS_t hin7]
            have hP : va_P G.1 vwCl (wM G am ho rn ln pl sd lt ro (sel (eS (tB r t) (-1) (eS (inR w 0 7) (-2) 0)) rf (rfU rf (eS (tB r t) (-1) (eS (inR w 0 7) (-2) 0)))) nb ++ [(am 1, .inl (G.2 0, 54, .inl (row r)))] ++ [(am 2, .inl (G.2 0, 54, .inl (row rm)))] ++ [(am 3, .inl (G.2 0, 54, .inl (row r2)))] ++ [(am 4, .inl (G.2 0, 54, .inl (row r4)))]) H := by rw [hE]; simp only [sel_0 rfl]; exact hP
            have hD : va_D A (wM G am ho rn ln pl sd lt ro (sel (eS (tB r t) (-1) (eS (inR w 0 7) (-2) 0)) rf (rfU rf (eS (tB r t) (-1) (eS (inR w 0 7) (-2) 0)))) nb ++ [(am 1, .inl (G.2 0, 54, .inl (row r)))] ++ [(am 2, .inl (G.2 0, 54, .inl (row rm)))] ++ [(am 3, .inl (G.2 0, 54, .inl (row r2)))] ++ [(am 4, .inl (G.2 0, 54, .inl (row r4)))]) := by rw [hE]; simp only [sel_0 rfl]; exact hD
            refine hret _ _ _ _ _ _ (pHabit ((r 0) (ix t)) ((r 1) (ix t)) (decide (pSet r 1 &&& (b1 (ix t) ^^^ -1) ≠ 0))) () dX9_thing_90 ?_ hP hD hS (Nat.le_of_ble_eq_true rfl) (Nat.le_of_ble_eq_true rfl)
            rw [hE, sel_0 rfl]
            exact pTh_5 ek
          · skip
            refine lv_iconst (v := 1) hx hb dX9_thing_82 (by decide) ?_
            refine lv_goto (tgt := 87) hx hb dX9_thing_83 (by decide) ?_
            have eb : (1 : Int32) = bI (decide (pSet r 1 &&& (b1 (ix t) ^^^ -1) ≠ 0)) := bI_T (decide_eq_true c_6)
            rw [eb]
            refine x_Si (wN := fun _ => (wM G am ho rn ln pl sd lt ro rf nb ++ [(am 1, .inl (G.2 0, 54, .inl (row r)))] ++ [(am 2, .inl (G.2 0, 54, .inl (row rm)))] ++ [(am 3, .inl (G.2 0, 54, .inl (row r2)))] ++ [(am 4, .inl (G.2 0, 54, .inl (row r4)))])) ⟨C0, hK, hP, hD, hS, hA⟩ ((m9_habit l G (am 1) r hr (ix t) (decide (pSet r 1 &&& (b1 (ix t) ^^^ -1) ≠ 0)) (show (ix t) < mny r by omega))) (va_cwS 3 hts (lw_S q1284 q1285 q95 q1286) rfl rfl rfl (by decide +kernel) ⟨Nat.le_of_ble_eq_true rfl, Nat.le_of_ble_eq_true rfl⟩) [5] [0, 2, 4, 6, 8, 1, 12, 14, 16] rfl (fun _ => rfl) rfl rfl hl.1 rfl (Nat.le_of_ble_eq_true rfl) dX9_thing_87 ⟨(Nat.le_of_ble_eq_true rfl), (Nat.le_of_ble_eq_true rfl)⟩ (fun r_8 u_8 H locs hw_8 hP hD hS => ?_)
            have hw_8 : (pHabit ((r 0) (ix t)) ((r 1) (ix t)) (decide (pSet r 1 &&& (b1 (ix t) ^^^ -1) ≠ 0)) : Int32) = r_8 := hw_8.symm
            subst hw_8
            have hE : eS (tB r t) (-1) (eS (inR w 0 7) (-2) 0) = 0 := by rw [eS_t (show tB r t = true from (by first | exact bI_n0 c_2 | exact bI_0.mp c_2)), eS_t hin7]
            have hP : va_P G.1 vwCl (wM G am ho rn ln pl sd lt ro (sel (eS (tB r t) (-1) (eS (inR w 0 7) (-2) 0)) rf (rfU rf (eS (tB r t) (-1) (eS (inR w 0 7) (-2) 0)))) nb ++ [(am 1, .inl (G.2 0, 54, .inl (row r)))] ++ [(am 2, .inl (G.2 0, 54, .inl (row rm)))] ++ [(am 3, .inl (G.2 0, 54, .inl (row r2)))] ++ [(am 4, .inl (G.2 0, 54, .inl (row r4)))]) H := by rw [hE]; simp only [sel_0 rfl]; exact hP
            have hD : va_D A (wM G am ho rn ln pl sd lt ro (sel (eS (tB r t) (-1) (eS (inR w 0 7) (-2) 0)) rf (rfU rf (eS (tB r t) (-1) (eS (inR w 0 7) (-2) 0)))) nb ++ [(am 1, .inl (G.2 0, 54, .inl (row r)))] ++ [(am 2, .inl (G.2 0, 54, .inl (row rm)))] ++ [(am 3, .inl (G.2 0, 54, .inl (row r2)))] ++ [(am 4, .inl (G.2 0, 54, .inl (row r4)))]) := by rw [hE]; simp only [sel_0 rfl]; exact hD
            refine hret _ _ _ _ _ _ (pHabit ((r 0) (ix t)) ((r 1) (ix t)) (decide (pSet r 1 &&& (b1 (ix t) ^^^ -1) ≠ 0))) () dX9_thing_90 ?_ hP hD hS (Nat.le_of_ble_eq_true rfl) (Nat.le_of_ble_eq_true rfl)
            rw [hE, sel_0 rfl]
            exact pTh_5 ek
        · skip
          refine lv_tableIn (tgt := 91) hx hb dX9_thing_35 (by rw [ek]; decide) (by rw [ek]; decide) (by rw [ek]; rfl) (by decide) ?_
          refine lv_aload_n hx hb dX9_thing_91 rfl (lv_at hl 0 rfl) ?_
          refine va_get (D := G.1) (ci := 8) (v := .ref (am 1)) (C := RX9) (T := TX9) (N := 13) hx hb hts in_X9 hown hK.1 hP 0 rfl rfl 0 (by decide) (hts _ q1162) (fun _ h9 => h9) rfl dX9_thing_92 ?_
          refine lv_iload_n hx hb dX9_thing_95 rfl (lv_at hl 1 rfl) ?_
          refine x_Si (wN := fun _ => (wM G am ho rn ln pl sd lt ro rf nb ++ [(am 1, .inl (G.2 0, 54, .inl (row r)))] ++ [(am 2, .inl (G.2 0, 54, .inl (row rm)))] ++ [(am 3, .inl (G.2 0, 54, .inl (row r2)))] ++ [(am 4, .inl (G.2 0, 54, .inl (row r4)))])) ⟨C0, hK, hP, hD, hS, hA⟩ ((m9_grip l G (am 1) r hr (ix t) (show (ix t) < mny r by omega))) (va_cwS 2 hts (lw_S q1263 q1264 q95 q1265) rfl rfl rfl (by decide +kernel) ⟨Nat.le_of_ble_eq_true rfl, Nat.le_of_ble_eq_true rfl⟩) [5] [0, 2, 4, 6, 8, 1, 12, 14, 16] rfl (fun _ => rfl) rfl rfl hl.1 rfl (Nat.le_of_ble_eq_true rfl) dX9_thing_96 ⟨(Nat.le_of_ble_eq_true rfl), (Nat.le_of_ble_eq_true rfl)⟩ (fun r_9 u_9 H locs hw_9 hP hD hS => ?_)
          have hw_9 : (pGrip ((r 0) (ix t)) ((r 1) (ix t)) : Int32) = r_9 := hw_9.symm
          subst hw_9
          have hE : eS (tB r t) (-1) (eS (inR w 0 7) (-2) 0) = 0 := by rw [eS_t (show tB r t = true from (by first | exact bI_n0 c_2 | exact bI_0.mp c_2)), eS_t hin7]
          have hP : va_P G.1 vwCl (wM G am ho rn ln pl sd lt ro (sel (eS (tB r t) (-1) (eS (inR w 0 7) (-2) 0)) rf (rfU rf (eS (tB r t) (-1) (eS (inR w 0 7) (-2) 0)))) nb ++ [(am 1, .inl (G.2 0, 54, .inl (row r)))] ++ [(am 2, .inl (G.2 0, 54, .inl (row rm)))] ++ [(am 3, .inl (G.2 0, 54, .inl (row r2)))] ++ [(am 4, .inl (G.2 0, 54, .inl (row r4)))]) H := by rw [hE]; simp only [sel_0 rfl]; exact hP
          have hD : va_D A (wM G am ho rn ln pl sd lt ro (sel (eS (tB r t) (-1) (eS (inR w 0 7) (-2) 0)) rf (rfU rf (eS (tB r t) (-1) (eS (inR w 0 7) (-2) 0)))) nb ++ [(am 1, .inl (G.2 0, 54, .inl (row r)))] ++ [(am 2, .inl (G.2 0, 54, .inl (row rm)))] ++ [(am 3, .inl (G.2 0, 54, .inl (row r2)))] ++ [(am 4, .inl (G.2 0, 54, .inl (row r4)))]) := by rw [hE]; simp only [sel_0 rfl]; exact hD
          refine hret _ _ _ _ _ _ (pGrip ((r 0) (ix t)) ((r 1) (ix t))) () dX9_thing_99 ?_ hP hD hS (Nat.le_of_ble_eq_true rfl) (Nat.le_of_ble_eq_true rfl)
          rw [hE, sel_0 rfl]
          rw [ek]
          rfl
        · skip
          refine lv_tableIn (tgt := 100) hx hb dX9_thing_35 (by rw [ek]; decide) (by rw [ek]; decide) (by rw [ek]; rfl) (by decide) ?_
          refine lv_aload_n hx hb dX9_thing_100 rfl (lv_at hl 0 rfl) ?_
          refine va_get (D := G.1) (ci := 8) (v := .ref (am 1)) (C := RX9) (T := TX9) (N := 13) hx hb hts in_X9 hown hK.1 hP 0 rfl rfl 0 (by decide) (hts _ q1162) (fun _ h9 => h9) rfl dX9_thing_101 ?_
          refine lv_iload_n hx hb dX9_thing_104 rfl (lv_at hl 1 rfl) ?_
          refine x_Si (wN := fun _ => (wM G am ho rn ln pl sd lt ro rf nb ++ [(am 1, .inl (G.2 0, 54, .inl (row r)))] ++ [(am 2, .inl (G.2 0, 54, .inl (row rm)))] ++ [(am 3, .inl (G.2 0, 54, .inl (row r2)))] ++ [(am 4, .inl (G.2 0, 54, .inl (row r4)))])) ⟨C0, hK, hP, hD, hS, hA⟩ ((m9_stands l G (am 1) r hr (ix t) (show (ix t) < 10 by omega))) (va_cwS 2 hts (lw_S q1251 q1252 q95 q1253) rfl rfl rfl (by decide +kernel) ⟨Nat.le_of_ble_eq_true rfl, Nat.le_of_ble_eq_true rfl⟩) [5] [0, 2, 4, 6, 8, 1, 12, 14, 16] rfl (fun _ => rfl) rfl rfl hl.1 rfl (Nat.le_of_ble_eq_true rfl) dX9_thing_105 ⟨(Nat.le_of_ble_eq_true rfl), (Nat.le_of_ble_eq_true rfl)⟩ (fun r_10 u_10 H locs hw_10 hP hD hS => ?_)
          have hw_10 : (bI (pSt r (ix t)) : Int32) = r_10 := hw_10.symm
          subst hw_10
          refine lv_if_eq (tgt := 126) hx hb dX9_thing_108 (by decide) (fun c_11 => ?_) (fun c_11 => ?_)
          · skip
            refine lv_iconst (v := 0) hx hb dX9_thing_126 (by decide) ?_
            have hE : eS (tB r t) (-1) (eS (inR w 0 7) (-2) 0) = 0 := by rw [eS_t (show tB r t = true from (by first | exact bI_n0 c_2 | exact bI_0.mp c_2)), eS_t hin7]
            have hP : va_P G.1 vwCl (wM G am ho rn ln pl sd lt ro (sel (eS (tB r t) (-1) (eS (inR w 0 7) (-2) 0)) rf (rfU rf (eS (tB r t) (-1) (eS (inR w 0 7) (-2) 0)))) nb ++ [(am 1, .inl (G.2 0, 54, .inl (row r)))] ++ [(am 2, .inl (G.2 0, 54, .inl (row rm)))] ++ [(am 3, .inl (G.2 0, 54, .inl (row r2)))] ++ [(am 4, .inl (G.2 0, 54, .inl (row r4)))]) H := by rw [hE]; simp only [sel_0 rfl]; exact hP
            have hD : va_D A (wM G am ho rn ln pl sd lt ro (sel (eS (tB r t) (-1) (eS (inR w 0 7) (-2) 0)) rf (rfU rf (eS (tB r t) (-1) (eS (inR w 0 7) (-2) 0)))) nb ++ [(am 1, .inl (G.2 0, 54, .inl (row r)))] ++ [(am 2, .inl (G.2 0, 54, .inl (row rm)))] ++ [(am 3, .inl (G.2 0, 54, .inl (row r2)))] ++ [(am 4, .inl (G.2 0, 54, .inl (row r4)))]) := by rw [hE]; simp only [sel_0 rfl]; exact hD
            refine hret _ _ _ _ _ _ 0 () dX9_thing_127 ?_ hP hD hS (Nat.le_of_ble_eq_true rfl) (Nat.le_of_ble_eq_true rfl)
            rw [hE, sel_0 rfl]
            rw [ek]
            show _ = bI (pHeld r (ix t))
            exact bI_F (by unfold pHeld; rw [show pSt r (ix t) = false from (by first | exact bI_n0 c_11 | exact bI_0.mp c_11)]; rfl)
          · skip
            refine lv_aload_n hx hb dX9_thing_111 rfl (lv_at hl 0 rfl) ?_
            refine va_get (D := G.1) (ci := 8) (v := .ref (am 1)) (C := RX9) (T := TX9) (N := 13) hx hb hts in_X9 hown hK.1 hP 0 rfl rfl 0 (by decide) (hts _ q1162) (fun _ h9 => h9) rfl dX9_thing_112 ?_
            refine lv_iload_n hx hb dX9_thing_115 rfl (lv_at hl 1 rfl) ?_
            refine x_Si (wN := fun _ => (wM G am ho rn ln pl sd lt ro rf nb ++ [(am 1, .inl (G.2 0, 54, .inl (row r)))] ++ [(am 2, .inl (G.2 0, 54, .inl (row rm)))] ++ [(am 3, .inl (G.2 0, 54, .inl (row r2)))] ++ [(am 4, .inl (G.2 0, 54, .inl (row r4)))])) ⟨C0, hK, hP, hD, hS, hA⟩ ((m9_isHeld l G (am 1) r hr (ix t) (show (ix t) < mny r by omega))) (va_cwS 2 hts (lw_S q1278 q1279 q95 q1280) rfl rfl rfl (by decide +kernel) ⟨Nat.le_of_ble_eq_true rfl, Nat.le_of_ble_eq_true rfl⟩) [5] [0, 2, 4, 6, 8, 1, 12, 14, 16] rfl (fun _ => rfl) rfl rfl hl.1 rfl (Nat.le_of_ble_eq_true rfl) dX9_thing_116 ⟨(Nat.le_of_ble_eq_true rfl), (Nat.le_of_ble_eq_true rfl)⟩ (fun r_12 u_12 H locs hw_12 hP hD hS => ?_)
            have hw_12 : (bI (pHl r (ix t)) : Int32) = r_12 := hw_12.symm
            subst hw_12
            refine lv_if_eq (tgt := 126) hx hb dX9_thing_119 (by decide) (fun c_13 => ?_) (fun c_13 => ?_)
            · skip
              refine lv_iconst (v := 0) hx hb dX9_thing_126 (by decide) ?_
              have hE : eS (tB r t) (-1) (eS (inR w 0 7) (-2) 0) = 0 := by rw [eS_t (show tB r t = true from (by first | exact bI_n0 c_2 | exact bI_0.mp c_2)), eS_t hin7]
              have hP : va_P G.1 vwCl (wM G am ho rn ln pl sd lt ro (sel (eS (tB r t) (-1) (eS (inR w 0 7) (-2) 0)) rf (rfU rf (eS (tB r t) (-1) (eS (inR w 0 7) (-2) 0)))) nb ++ [(am 1, .inl (G.2 0, 54, .inl (row r)))] ++ [(am 2, .inl (G.2 0, 54, .inl (row rm)))] ++ [(am 3, .inl (G.2 0, 54, .inl (row r2)))] ++ [(am 4, .inl (G.2 0, 54, .inl (row r4)))]) H := by rw [hE]; simp only [sel_0 rfl]; exact hP
              have hD : va_D A (wM G am ho rn ln pl sd lt ro (sel (eS (tB r t) (-1) (eS (inR w 0 7) (-2) 0)) rf (rfU rf (eS (tB r t) (-1) (eS (inR w 0 7) (-2) 0)))) nb ++ [(am 1, .inl (G.2 0, 54, .inl (row r)))] ++ [(am 2, .inl (G.2 0, 54, .inl (row rm)))] ++ [(am 3, .inl (G.2 0, 54, .inl (row r2)))] ++ [(am 4, .inl (G.2 0, 54, .inl (row r4)))]) := by rw [hE]; simp only [sel_0 rfl]; exact hD
              refine hret _ _ _ _ _ _ 0 () dX9_thing_127 ?_ hP hD hS (Nat.le_of_ble_eq_true rfl) (Nat.le_of_ble_eq_true rfl)
              rw [hE, sel_0 rfl]
              rw [ek]
              show _ = bI (pHeld r (ix t))
              exact bI_F (by unfold pHeld; rw [show pSt r (ix t) = true from (by first | exact bI_n0 c_11 | exact bI_0.mp c_11), show pHl r (ix t) = false from (by first | exact bI_n0 c_13 | exact bI_0.mp c_13)]; rfl)
            · skip
              refine lv_iconst (v := 1) hx hb dX9_thing_122 (by decide) ?_
              refine lv_goto (tgt := 127) hx hb dX9_thing_123 (by decide) ?_
              have hE : eS (tB r t) (-1) (eS (inR w 0 7) (-2) 0) = 0 := by rw [eS_t (show tB r t = true from (by first | exact bI_n0 c_2 | exact bI_0.mp c_2)), eS_t hin7]
              have hP : va_P G.1 vwCl (wM G am ho rn ln pl sd lt ro (sel (eS (tB r t) (-1) (eS (inR w 0 7) (-2) 0)) rf (rfU rf (eS (tB r t) (-1) (eS (inR w 0 7) (-2) 0)))) nb ++ [(am 1, .inl (G.2 0, 54, .inl (row r)))] ++ [(am 2, .inl (G.2 0, 54, .inl (row rm)))] ++ [(am 3, .inl (G.2 0, 54, .inl (row r2)))] ++ [(am 4, .inl (G.2 0, 54, .inl (row r4)))]) H := by rw [hE]; simp only [sel_0 rfl]; exact hP
              have hD : va_D A (wM G am ho rn ln pl sd lt ro (sel (eS (tB r t) (-1) (eS (inR w 0 7) (-2) 0)) rf (rfU rf (eS (tB r t) (-1) (eS (inR w 0 7) (-2) 0)))) nb ++ [(am 1, .inl (G.2 0, 54, .inl (row r)))] ++ [(am 2, .inl (G.2 0, 54, .inl (row rm)))] ++ [(am 3, .inl (G.2 0, 54, .inl (row r2)))] ++ [(am 4, .inl (G.2 0, 54, .inl (row r4)))]) := by rw [hE]; simp only [sel_0 rfl]; exact hD
              refine hret _ _ _ _ _ _ 1 () dX9_thing_127 ?_ hP hD hS (Nat.le_of_ble_eq_true rfl) (Nat.le_of_ble_eq_true rfl)
              rw [hE, sel_0 rfl]
              rw [ek]
              show _ = bI (pHeld r (ix t))
              exact bI_T (by unfold pHeld; rw [show pSt r (ix t) = true from (by first | exact bI_n0 c_11 | exact bI_0.mp c_11), show pHl r (ix t) = true from (by first | exact bI_n0 c_13 | exact bI_0.mp c_13)]; rfl)
      · skip
        refine lv_tableOut (tgt := 128) hx hb dX9_thing_35 eo (by decide) ?_
        refine lv_aload_n hx hb dX9_thing_128 rfl (lv_at hl 0 rfl) ?_
        refine lv_bipush (v := (-2)) hx hb dX9_thing_129 (by decide) ?_
        refine x_Vi (wN := fun _ => (wM G am ho rn ln pl sd lt ro (rfU rf (-2)) nb ++ [(am 1, .inl (G.2 0, 54, .inl (row r)))] ++ [(am 2, .inl (G.2 0, 54, .inl (row rm)))] ++ [(am 3, .inl (G.2 0, 54, .inl (row r2)))] ++ [(am 4, .inl (G.2 0, 54, .inl (row r4)))])) ⟨C0, hK, hP, hD, hS, hA⟩ 0 rfl (ci := 8) rfl rfl ((m9_no l G am ho rn ln pl sd lt ro rf nb (-2) noOk_k.2.1)) (cwV 1 hts (lw_V q1206 q1208 qs66 q95 q1209) rfl rfl rfl (by decide +kernel) ⟨Nat.le_of_ble_eq_true rfl, Nat.le_of_ble_eq_true rfl⟩) [0, 1, 2, 3, 4] [1, 3, 5, 7, 9, 10, 12, 14, 16] rfl (fun _ => rfl) rfl rfl hl.1 rfl (Nat.le_of_ble_eq_true rfl) dX9_thing_131 ⟨(Nat.le_of_ble_eq_true rfl), (Nat.le_of_ble_eq_true rfl)⟩ (fun r_14 u_14 H locs hw_14 hP hD hS => ?_)
        have hw_14 : ((-2) : Int32) = r_14 := hw_14.symm
        subst hw_14
        have hP : va_P G.1 vwCl (wM G am ho rn ln pl sd lt ro (rfU rf (-2)) nb ++ [(am 1, .inl (G.2 0, 54, .inl (row r)))] ++ [(am 2, .inl (G.2 0, 54, .inl (row rm)))] ++ [(am 3, .inl (G.2 0, 54, .inl (row r2)))] ++ [(am 4, .inl (G.2 0, 54, .inl (row r4)))]) H := hP
        have hD : va_D A (wM G am ho rn ln pl sd lt ro (rfU rf (-2)) nb ++ [(am 1, .inl (G.2 0, 54, .inl (row r)))] ++ [(am 2, .inl (G.2 0, 54, .inl (row rm)))] ++ [(am 3, .inl (G.2 0, 54, .inl (row r2)))] ++ [(am 4, .inl (G.2 0, 54, .inl (row r4)))]) := hD
        have hE : eS (tB r t) (-1) (eS (inR w 0 7) (-2) 0) = (-2) := by rw [eS_t (show tB r t = true from (by first | exact bI_n0 c_2 | exact bI_0.mp c_2)), eS_f hin7]
        have hne : ((-2) : Int32) ≠ 0 := (by decide)
        have hP : va_P G.1 vwCl (wM G am ho rn ln pl sd lt ro (sel (eS (tB r t) (-1) (eS (inR w 0 7) (-2) 0)) rf (rfU rf (eS (tB r t) (-1) (eS (inR w 0 7) (-2) 0)))) nb ++ [(am 1, .inl (G.2 0, 54, .inl (row r)))] ++ [(am 2, .inl (G.2 0, 54, .inl (row rm)))] ++ [(am 3, .inl (G.2 0, 54, .inl (row r2)))] ++ [(am 4, .inl (G.2 0, 54, .inl (row r4)))]) H := by rw [hE]; simp only [sel_n hne]; exact hP
        have hD : va_D A (wM G am ho rn ln pl sd lt ro (sel (eS (tB r t) (-1) (eS (inR w 0 7) (-2) 0)) rf (rfU rf (eS (tB r t) (-1) (eS (inR w 0 7) (-2) 0)))) nb ++ [(am 1, .inl (G.2 0, 54, .inl (row r)))] ++ [(am 2, .inl (G.2 0, 54, .inl (row rm)))] ++ [(am 3, .inl (G.2 0, 54, .inl (row r2)))] ++ [(am 4, .inl (G.2 0, 54, .inl (row r4)))]) := by rw [hE]; simp only [sel_n hne]; exact hD
        refine hret _ _ _ _ _ _ (-2) () dX9_thing_134 ?_ hP hD hS (Nat.le_of_ble_eq_true rfl) (Nat.le_of_ble_eq_true rfl)
        rw [hE, sel_n hne]
    · skip
      obtain ⟨hj_w, et_w⟩ := iR_ix (n := 4) (by omega) (by first | exact bI_n0 c_4 | exact bI_0.mp c_4)
      rw [et_w] at hl
      have hin7 : inR w 0 7 = true := by unfold inR; rw [et_w, nI_toInt (by omega)]; exact decide_eq_true (by omega)
      refine lv_aload_n hx hb dX9_thing_23 rfl (lv_at hl 0 rfl) ?_
      refine va_get (D := G.1) (ci := 8) (v := .ref (am 1)) (C := RX9) (T := TX9) (N := 13) hx hb hts in_X9 hown hK.1 hP 0 rfl rfl 0 (by decide) (hts _ q1162) (fun _ h9 => h9) rfl dX9_thing_24 ?_
      refine lv_iload_n hx hb dX9_thing_27 rfl (lv_at hl 1 rfl) ?_
      refine lv_iload_n hx hb dX9_thing_28 rfl (lv_at hl 2 rfl) ?_
      rcases (show ix w = 0 ∨ ix w = 1 ∨ ix w = 2 ∨ ix w = 3 ∨ ix w = 4 by omega) with q | q | q | q | q
      · skip
        rw [q] at et_w ⊢
        refine x_Si (wN := fun _ => (wM G am ho rn ln pl sd lt ro rf nb ++ [(am 1, .inl (G.2 0, 54, .inl (row r)))] ++ [(am 2, .inl (G.2 0, 54, .inl (row rm)))] ++ [(am 3, .inl (G.2 0, 54, .inl (row r2)))] ++ [(am 4, .inl (G.2 0, 54, .inl (row r4)))])) ⟨C0, hK, hP, hD, hS, hA⟩ ((m9_of l G (ix t) 0)) (va_cwS 2 hts (lw_S q1254 q1255 q95 q1256) rfl rfl rfl (by decide +kernel) ⟨Nat.le_of_ble_eq_true rfl, Nat.le_of_ble_eq_true rfl⟩) [] [0, 2, 4, 6, 8, 10, 12, 14, 16] rfl (fun _ => rfl) rfl rfl hl.1 rfl (Nat.le_of_ble_eq_true rfl) dX9_thing_29 ⟨(Nat.le_of_ble_eq_true rfl), (Nat.le_of_ble_eq_true rfl)⟩ (fun r_15 u_15 H locs hw_15 hP hD hS => ?_)
        have hw_15 : (nI (4 + 5 * (ix t) + 0) : Int32) = r_15 := hw_15.symm
        subst hw_15
        refine x_ialdn (k := (4 + 5 * (ix t) + 0)) hx hb hK.1 hP 5 0 rfl rfl (by omega) (by decide) (v := (r 0) (ix t)) (row_at _ (by decide)) dX9_thing_32 ?_
        have hE : eS (tB r t) (-1) (eS (inR w 0 7) (-2) 0) = 0 := by rw [eS_t (show tB r t = true from (by first | exact bI_n0 c_2 | exact bI_0.mp c_2)), eS_t hin7]
        have hP : va_P G.1 vwCl (wM G am ho rn ln pl sd lt ro (sel (eS (tB r t) (-1) (eS (inR w 0 7) (-2) 0)) rf (rfU rf (eS (tB r t) (-1) (eS (inR w 0 7) (-2) 0)))) nb ++ [(am 1, .inl (G.2 0, 54, .inl (row r)))] ++ [(am 2, .inl (G.2 0, 54, .inl (row rm)))] ++ [(am 3, .inl (G.2 0, 54, .inl (row r2)))] ++ [(am 4, .inl (G.2 0, 54, .inl (row r4)))]) H := by rw [hE]; simp only [sel_0 rfl]; exact hP
        have hD : va_D A (wM G am ho rn ln pl sd lt ro (sel (eS (tB r t) (-1) (eS (inR w 0 7) (-2) 0)) rf (rfU rf (eS (tB r t) (-1) (eS (inR w 0 7) (-2) 0)))) nb ++ [(am 1, .inl (G.2 0, 54, .inl (row r)))] ++ [(am 2, .inl (G.2 0, 54, .inl (row rm)))] ++ [(am 3, .inl (G.2 0, 54, .inl (row r2)))] ++ [(am 4, .inl (G.2 0, 54, .inl (row r4)))]) := by rw [hE]; simp only [sel_0 rfl]; exact hD
        refine hret _ _ _ _ _ _ ((r 0) (ix t)) () dX9_thing_33 ?_ hP hD hS (Nat.le_of_ble_eq_true rfl) (Nat.le_of_ble_eq_true rfl)
        rw [hE, sel_0 rfl]
        rw [et_w]
        rfl
      · skip
        rw [q] at et_w ⊢
        refine x_Si (wN := fun _ => (wM G am ho rn ln pl sd lt ro rf nb ++ [(am 1, .inl (G.2 0, 54, .inl (row r)))] ++ [(am 2, .inl (G.2 0, 54, .inl (row rm)))] ++ [(am 3, .inl (G.2 0, 54, .inl (row r2)))] ++ [(am 4, .inl (G.2 0, 54, .inl (row r4)))])) ⟨C0, hK, hP, hD, hS, hA⟩ ((m9_of l G (ix t) 1)) (va_cwS 2 hts (lw_S q1254 q1255 q95 q1256) rfl rfl rfl (by decide +kernel) ⟨Nat.le_of_ble_eq_true rfl, Nat.le_of_ble_eq_true rfl⟩) [] [0, 2, 4, 6, 8, 10, 12, 14, 16] rfl (fun _ => rfl) rfl rfl hl.1 rfl (Nat.le_of_ble_eq_true rfl) dX9_thing_29 ⟨(Nat.le_of_ble_eq_true rfl), (Nat.le_of_ble_eq_true rfl)⟩ (fun r_16 u_16 H locs hw_16 hP hD hS => ?_)
        have hw_16 : (nI (4 + 5 * (ix t) + 1) : Int32) = r_16 := hw_16.symm
        subst hw_16
        refine x_ialdn (k := (4 + 5 * (ix t) + 1)) hx hb hK.1 hP 5 0 rfl rfl (by omega) (by decide) (v := (r 1) (ix t)) (row_at _ (by decide)) dX9_thing_32 ?_
        have hE : eS (tB r t) (-1) (eS (inR w 0 7) (-2) 0) = 0 := by rw [eS_t (show tB r t = true from (by first | exact bI_n0 c_2 | exact bI_0.mp c_2)), eS_t hin7]
        have hP : va_P G.1 vwCl (wM G am ho rn ln pl sd lt ro (sel (eS (tB r t) (-1) (eS (inR w 0 7) (-2) 0)) rf (rfU rf (eS (tB r t) (-1) (eS (inR w 0 7) (-2) 0)))) nb ++ [(am 1, .inl (G.2 0, 54, .inl (row r)))] ++ [(am 2, .inl (G.2 0, 54, .inl (row rm)))] ++ [(am 3, .inl (G.2 0, 54, .inl (row r2)))] ++ [(am 4, .inl (G.2 0, 54, .inl (row r4)))]) H := by rw [hE]; simp only [sel_0 rfl]; exact hP
        have hD : va_D A (wM G am ho rn ln pl sd lt ro (sel (eS (tB r t) (-1) (eS (inR w 0 7) (-2) 0)) rf (rfU rf (eS (tB r t) (-1) (eS (inR w 0 7) (-2) 0)))) nb ++ [(am 1, .inl (G.2 0, 54, .inl (row r)))] ++ [(am 2, .inl (G.2 0, 54, .inl (row rm)))] ++ [(am 3, .inl (G.2 0, 54, .inl (row r2)))] ++ [(am 4, .inl (G.2 0, 54, .inl (row r4)))]) := by rw [hE]; simp only [sel_0 rfl]; exact hD
        refine hret _ _ _ _ _ _ ((r 1) (ix t)) () dX9_thing_33 ?_ hP hD hS (Nat.le_of_ble_eq_true rfl) (Nat.le_of_ble_eq_true rfl)
        rw [hE, sel_0 rfl]
        rw [et_w]
        rfl
      · skip
        rw [q] at et_w ⊢
        refine x_Si (wN := fun _ => (wM G am ho rn ln pl sd lt ro rf nb ++ [(am 1, .inl (G.2 0, 54, .inl (row r)))] ++ [(am 2, .inl (G.2 0, 54, .inl (row rm)))] ++ [(am 3, .inl (G.2 0, 54, .inl (row r2)))] ++ [(am 4, .inl (G.2 0, 54, .inl (row r4)))])) ⟨C0, hK, hP, hD, hS, hA⟩ ((m9_of l G (ix t) 2)) (va_cwS 2 hts (lw_S q1254 q1255 q95 q1256) rfl rfl rfl (by decide +kernel) ⟨Nat.le_of_ble_eq_true rfl, Nat.le_of_ble_eq_true rfl⟩) [] [0, 2, 4, 6, 8, 10, 12, 14, 16] rfl (fun _ => rfl) rfl rfl hl.1 rfl (Nat.le_of_ble_eq_true rfl) dX9_thing_29 ⟨(Nat.le_of_ble_eq_true rfl), (Nat.le_of_ble_eq_true rfl)⟩ (fun r_17 u_17 H locs hw_17 hP hD hS => ?_)
        have hw_17 : (nI (4 + 5 * (ix t) + 2) : Int32) = r_17 := hw_17.symm
        subst hw_17
        refine x_ialdn (k := (4 + 5 * (ix t) + 2)) hx hb hK.1 hP 5 0 rfl rfl (by omega) (by decide) (v := (r 2) (ix t)) (row_at _ (by decide)) dX9_thing_32 ?_
        have hE : eS (tB r t) (-1) (eS (inR w 0 7) (-2) 0) = 0 := by rw [eS_t (show tB r t = true from (by first | exact bI_n0 c_2 | exact bI_0.mp c_2)), eS_t hin7]
        have hP : va_P G.1 vwCl (wM G am ho rn ln pl sd lt ro (sel (eS (tB r t) (-1) (eS (inR w 0 7) (-2) 0)) rf (rfU rf (eS (tB r t) (-1) (eS (inR w 0 7) (-2) 0)))) nb ++ [(am 1, .inl (G.2 0, 54, .inl (row r)))] ++ [(am 2, .inl (G.2 0, 54, .inl (row rm)))] ++ [(am 3, .inl (G.2 0, 54, .inl (row r2)))] ++ [(am 4, .inl (G.2 0, 54, .inl (row r4)))]) H := by rw [hE]; simp only [sel_0 rfl]; exact hP
        have hD : va_D A (wM G am ho rn ln pl sd lt ro (sel (eS (tB r t) (-1) (eS (inR w 0 7) (-2) 0)) rf (rfU rf (eS (tB r t) (-1) (eS (inR w 0 7) (-2) 0)))) nb ++ [(am 1, .inl (G.2 0, 54, .inl (row r)))] ++ [(am 2, .inl (G.2 0, 54, .inl (row rm)))] ++ [(am 3, .inl (G.2 0, 54, .inl (row r2)))] ++ [(am 4, .inl (G.2 0, 54, .inl (row r4)))]) := by rw [hE]; simp only [sel_0 rfl]; exact hD
        refine hret _ _ _ _ _ _ ((r 2) (ix t)) () dX9_thing_33 ?_ hP hD hS (Nat.le_of_ble_eq_true rfl) (Nat.le_of_ble_eq_true rfl)
        rw [hE, sel_0 rfl]
        rw [et_w]
        rfl
      · skip
        rw [q] at et_w ⊢
        refine x_Si (wN := fun _ => (wM G am ho rn ln pl sd lt ro rf nb ++ [(am 1, .inl (G.2 0, 54, .inl (row r)))] ++ [(am 2, .inl (G.2 0, 54, .inl (row rm)))] ++ [(am 3, .inl (G.2 0, 54, .inl (row r2)))] ++ [(am 4, .inl (G.2 0, 54, .inl (row r4)))])) ⟨C0, hK, hP, hD, hS, hA⟩ ((m9_of l G (ix t) 3)) (va_cwS 2 hts (lw_S q1254 q1255 q95 q1256) rfl rfl rfl (by decide +kernel) ⟨Nat.le_of_ble_eq_true rfl, Nat.le_of_ble_eq_true rfl⟩) [] [0, 2, 4, 6, 8, 10, 12, 14, 16] rfl (fun _ => rfl) rfl rfl hl.1 rfl (Nat.le_of_ble_eq_true rfl) dX9_thing_29 ⟨(Nat.le_of_ble_eq_true rfl), (Nat.le_of_ble_eq_true rfl)⟩ (fun r_18 u_18 H locs hw_18 hP hD hS => ?_)
        have hw_18 : (nI (4 + 5 * (ix t) + 3) : Int32) = r_18 := hw_18.symm
        subst hw_18
        refine x_ialdn (k := (4 + 5 * (ix t) + 3)) hx hb hK.1 hP 5 0 rfl rfl (by omega) (by decide) (v := (r 3) (ix t)) (row_at _ (by decide)) dX9_thing_32 ?_
        have hE : eS (tB r t) (-1) (eS (inR w 0 7) (-2) 0) = 0 := by rw [eS_t (show tB r t = true from (by first | exact bI_n0 c_2 | exact bI_0.mp c_2)), eS_t hin7]
        have hP : va_P G.1 vwCl (wM G am ho rn ln pl sd lt ro (sel (eS (tB r t) (-1) (eS (inR w 0 7) (-2) 0)) rf (rfU rf (eS (tB r t) (-1) (eS (inR w 0 7) (-2) 0)))) nb ++ [(am 1, .inl (G.2 0, 54, .inl (row r)))] ++ [(am 2, .inl (G.2 0, 54, .inl (row rm)))] ++ [(am 3, .inl (G.2 0, 54, .inl (row r2)))] ++ [(am 4, .inl (G.2 0, 54, .inl (row r4)))]) H := by rw [hE]; simp only [sel_0 rfl]; exact hP
        have hD : va_D A (wM G am ho rn ln pl sd lt ro (sel (eS (tB r t) (-1) (eS (inR w 0 7) (-2) 0)) rf (rfU rf (eS (tB r t) (-1) (eS (inR w 0 7) (-2) 0)))) nb ++ [(am 1, .inl (G.2 0, 54, .inl (row r)))] ++ [(am 2, .inl (G.2 0, 54, .inl (row rm)))] ++ [(am 3, .inl (G.2 0, 54, .inl (row r2)))] ++ [(am 4, .inl (G.2 0, 54, .inl (row r4)))]) := by rw [hE]; simp only [sel_0 rfl]; exact hD
        refine hret _ _ _ _ _ _ ((r 3) (ix t)) () dX9_thing_33 ?_ hP hD hS (Nat.le_of_ble_eq_true rfl) (Nat.le_of_ble_eq_true rfl)
        rw [hE, sel_0 rfl]
        rw [et_w]
        rfl
      · skip
        rw [q] at et_w ⊢
        refine x_Si (wN := fun _ => (wM G am ho rn ln pl sd lt ro rf nb ++ [(am 1, .inl (G.2 0, 54, .inl (row r)))] ++ [(am 2, .inl (G.2 0, 54, .inl (row rm)))] ++ [(am 3, .inl (G.2 0, 54, .inl (row r2)))] ++ [(am 4, .inl (G.2 0, 54, .inl (row r4)))])) ⟨C0, hK, hP, hD, hS, hA⟩ ((m9_of l G (ix t) 4)) (va_cwS 2 hts (lw_S q1254 q1255 q95 q1256) rfl rfl rfl (by decide +kernel) ⟨Nat.le_of_ble_eq_true rfl, Nat.le_of_ble_eq_true rfl⟩) [] [0, 2, 4, 6, 8, 10, 12, 14, 16] rfl (fun _ => rfl) rfl rfl hl.1 rfl (Nat.le_of_ble_eq_true rfl) dX9_thing_29 ⟨(Nat.le_of_ble_eq_true rfl), (Nat.le_of_ble_eq_true rfl)⟩ (fun r_19 u_19 H locs hw_19 hP hD hS => ?_)
        have hw_19 : (nI (4 + 5 * (ix t) + 4) : Int32) = r_19 := hw_19.symm
        subst hw_19
        refine x_ialdn (k := (4 + 5 * (ix t) + 4)) hx hb hK.1 hP 5 0 rfl rfl (by omega) (by decide) (v := (r 4) (ix t)) (row_at _ (by decide)) dX9_thing_32 ?_
        have hE : eS (tB r t) (-1) (eS (inR w 0 7) (-2) 0) = 0 := by rw [eS_t (show tB r t = true from (by first | exact bI_n0 c_2 | exact bI_0.mp c_2)), eS_t hin7]
        have hP : va_P G.1 vwCl (wM G am ho rn ln pl sd lt ro (sel (eS (tB r t) (-1) (eS (inR w 0 7) (-2) 0)) rf (rfU rf (eS (tB r t) (-1) (eS (inR w 0 7) (-2) 0)))) nb ++ [(am 1, .inl (G.2 0, 54, .inl (row r)))] ++ [(am 2, .inl (G.2 0, 54, .inl (row rm)))] ++ [(am 3, .inl (G.2 0, 54, .inl (row r2)))] ++ [(am 4, .inl (G.2 0, 54, .inl (row r4)))]) H := by rw [hE]; simp only [sel_0 rfl]; exact hP
        have hD : va_D A (wM G am ho rn ln pl sd lt ro (sel (eS (tB r t) (-1) (eS (inR w 0 7) (-2) 0)) rf (rfU rf (eS (tB r t) (-1) (eS (inR w 0 7) (-2) 0)))) nb ++ [(am 1, .inl (G.2 0, 54, .inl (row r)))] ++ [(am 2, .inl (G.2 0, 54, .inl (row rm)))] ++ [(am 3, .inl (G.2 0, 54, .inl (row r2)))] ++ [(am 4, .inl (G.2 0, 54, .inl (row r4)))]) := by rw [hE]; simp only [sel_0 rfl]; exact hD
        refine hret _ _ _ _ _ _ ((r 4) (ix t)) () dX9_thing_33 ?_ hP hD hS (Nat.le_of_ble_eq_true rfl) (Nat.le_of_ble_eq_true rfl)
        rw [hE, sel_0 rfl]
        rw [et_w]
        rfl
  · skip
    refine lv_aload_n hx hb dX9_thing_8 rfl (lv_at hl 0 rfl) ?_
    refine lv_iconst (v := (-1)) hx hb dX9_thing_9 (by decide) ?_
    refine x_Vi (wN := fun _ => (wM G am ho rn ln pl sd lt ro (rfU rf (-1)) nb ++ [(am 1, .inl (G.2 0, 54, .inl (row r)))] ++ [(am 2, .inl (G.2 0, 54, .inl (row rm)))] ++ [(am 3, .inl (G.2 0, 54, .inl (row r2)))] ++ [(am 4, .inl (G.2 0, 54, .inl (row r4)))])) ⟨C0, hK, hP, hD, hS, hA⟩ 0 rfl (ci := 8) rfl rfl ((m9_no l G am ho rn ln pl sd lt ro rf nb (-1) noOk_k.1)) (cwV 1 hts (lw_V q1206 q1208 qs66 q95 q1209) rfl rfl rfl (by decide +kernel) ⟨Nat.le_of_ble_eq_true rfl, Nat.le_of_ble_eq_true rfl⟩) [0, 1, 2, 3, 4] [1, 3, 5, 7, 9, 10, 12, 14, 16] rfl (fun _ => rfl) rfl rfl hl.1 rfl (Nat.le_of_ble_eq_true rfl) dX9_thing_10 ⟨(Nat.le_of_ble_eq_true rfl), (Nat.le_of_ble_eq_true rfl)⟩ (fun r_20 u_20 H locs hw_20 hP hD hS => ?_)
    have hw_20 : ((-1) : Int32) = r_20 := hw_20.symm
    subst hw_20
    have hP : va_P G.1 vwCl (wM G am ho rn ln pl sd lt ro (rfU rf (-1)) nb ++ [(am 1, .inl (G.2 0, 54, .inl (row r)))] ++ [(am 2, .inl (G.2 0, 54, .inl (row rm)))] ++ [(am 3, .inl (G.2 0, 54, .inl (row r2)))] ++ [(am 4, .inl (G.2 0, 54, .inl (row r4)))]) H := hP
    have hD : va_D A (wM G am ho rn ln pl sd lt ro (rfU rf (-1)) nb ++ [(am 1, .inl (G.2 0, 54, .inl (row r)))] ++ [(am 2, .inl (G.2 0, 54, .inl (row rm)))] ++ [(am 3, .inl (G.2 0, 54, .inl (row r2)))] ++ [(am 4, .inl (G.2 0, 54, .inl (row r4)))]) := hD
    have hE : eS (tB r t) (-1) (eS (inR w 0 7) (-2) 0) = (-1) := by rw [eS_f (show tB r t = false from (by first | exact bI_n0 c_2 | exact bI_0.mp c_2))]
    have hne : ((-1) : Int32) ≠ 0 := (by decide)
    have hP : va_P G.1 vwCl (wM G am ho rn ln pl sd lt ro (sel (eS (tB r t) (-1) (eS (inR w 0 7) (-2) 0)) rf (rfU rf (eS (tB r t) (-1) (eS (inR w 0 7) (-2) 0)))) nb ++ [(am 1, .inl (G.2 0, 54, .inl (row r)))] ++ [(am 2, .inl (G.2 0, 54, .inl (row rm)))] ++ [(am 3, .inl (G.2 0, 54, .inl (row r2)))] ++ [(am 4, .inl (G.2 0, 54, .inl (row r4)))]) H := by rw [hE]; simp only [sel_n hne]; exact hP
    have hD : va_D A (wM G am ho rn ln pl sd lt ro (sel (eS (tB r t) (-1) (eS (inR w 0 7) (-2) 0)) rf (rfU rf (eS (tB r t) (-1) (eS (inR w 0 7) (-2) 0)))) nb ++ [(am 1, .inl (G.2 0, 54, .inl (row r)))] ++ [(am 2, .inl (G.2 0, 54, .inl (row rm)))] ++ [(am 3, .inl (G.2 0, 54, .inl (row r2)))] ++ [(am 4, .inl (G.2 0, 54, .inl (row r4)))]) := by rw [hE]; simp only [sel_n hne]; exact hD
    refine hret _ _ _ _ _ _ (-1) () dX9_thing_13 ?_ hP hD hS (Nat.le_of_ble_eq_true rfl) (Nat.le_of_ble_eq_true rfl)
    rw [hE, sel_n hne]
set_option maxHeartbeats 4000000 in
set_option maxRecDepth 100000 in
theorem m9_wrongPull (l : Launch) (G : xG) (am : Nat → Nat) (r rm r2 r4 : Rw) (ho rn ln pl sd : Int32) (lt ro rf nb : Nat → Int32) (hr : Ok r) (hp : r 5 3 = 0) (t sp : Int32) : xCi l G yX9_wrongPull cX9_wrongPull 4 (some .int) ({ frames := 2, cells := 0, slots := 0, locals := 43 } : Room) [.ref (am 0), .int t, .int sp] (wM G am ho rn ln pl sd lt ro rf nb ++ [(am 1, .inl (G.2 0, 54, .inl (row r)))] ++ [(am 2, .inl (G.2 0, 54, .inl (row rm)))] ++ [(am 3, .inl (G.2 0, 54, .inl (row r2)))] ++ [(am 4, .inl (G.2 0, 54, .inl (row r4)))]) (S := Unit) (fun v _ => v = eS (tB r t) (-1) (eW (wBy sp.toInt 0 9) (eS (pSt r (ix t)) (-3) 0))) (fun _ => (wM G am ho rn ln pl sd lt ro rf nb ++ [(am 1, .inl (G.2 0, 54, .inl (row r)))] ++ [(am 2, .inl (G.2 0, 54, .inl (row rm)))] ++ [(am 3, .inl (G.2 0, 54, .inl (row r2)))] ++ [(am 4, .inl (G.2 0, 54, .inl (row r4)))])) := by
  refine x_openi (by decide) (Nat.le_of_ble_eq_true rfl) (fun _ _ _ => rfl) ?_
  intro p e s m args below meth c A Q ls C0 hK hP hD hA hl hret
  obtain ⟨hx, hb, hml, hown, hts⟩ := id C0
  have hS : va_S A s.heap s.heap [] := va_S.rf
  have hP : va_P G.1 vwCl (wM G am ho rn ln pl sd lt ro rf nb ++ [(am 1, .inl (G.2 0, 54, .inl (row r)))] ++ [(am 2, .inl (G.2 0, 54, .inl (row rm)))] ++ [(am 3, .inl (G.2 0, 54, .inl (row r2)))] ++ [(am 4, .inl (G.2 0, 54, .inl (row r4)))]) s.heap := hP
  have hD : va_D A (wM G am ho rn ln pl sd lt ro rf nb ++ [(am 1, .inl (G.2 0, 54, .inl (row r)))] ++ [(am 2, .inl (G.2 0, 54, .inl (row rm)))] ++ [(am 3, .inl (G.2 0, 54, .inl (row r2)))] ++ [(am 4, .inl (G.2 0, 54, .inl (row r4)))]) := hD
  have hl : lv_has ls 4 [(0, .ref (am 0)), (1, .int t), (2, .int sp)] := hl
  have hr0 := hr.n
  have hN := hr.le
  refine lv_aload_n hx hb dX9_wrongPull_0 rfl (lv_at hl 0 rfl) ?_
  refine lv_iload_n hx hb dX9_wrongPull_1 rfl (lv_at hl 1 rfl) ?_
  refine x_Vi (wN := fun _ => (wM G am ho rn ln pl sd lt ro rf nb ++ [(am 1, .inl (G.2 0, 54, .inl (row r)))] ++ [(am 2, .inl (G.2 0, 54, .inl (row rm)))] ++ [(am 3, .inl (G.2 0, 54, .inl (row r2)))] ++ [(am 4, .inl (G.2 0, 54, .inl (row r4)))])) ⟨C0, hK, hP, hD, hS, hA⟩ 0 rfl (ci := 8) rfl rfl ((m9_isThing l G am r rm r2 r4 ho rn ln pl sd lt ro rf nb hr hp t)) (cwV 1 hts (lw_V q1247 q1249 qs73 q95 q1250) rfl rfl rfl (by decide +kernel) ⟨Nat.le_of_ble_eq_true rfl, Nat.le_of_ble_eq_true rfl⟩) [0, 1, 2, 3, 4, 5, 6, 7, 8] [1, 3, 5, 7, 9, 11, 13, 15, 17] rfl (fun _ => rfl) rfl rfl hl.1 rfl (Nat.le_of_ble_eq_true rfl) dX9_wrongPull_2 ⟨(Nat.le_of_ble_eq_true rfl), (Nat.le_of_ble_eq_true rfl)⟩ (fun r_1 u_1 H locs hw_1 hP hD hS => ?_)
  have hw_1 : (bI (tB r t) : Int32) = r_1 := hw_1.symm
  subst hw_1
  refine lv_if_eq (tgt := 17) hx hb dX9_wrongPull_5 (by decide) (fun c_2 => ?_) (fun c_2 => ?_)
  · skip
    refine lv_iconst (v := (-1)) hx hb dX9_wrongPull_17 (by decide) ?_
    refine lv_istore_n (lv' := [(3, .int (-1)), (0, .ref (am 0)), (1, .int t), (2, .int sp)]) hx hb dX9_wrongPull_18 rfl hl (by decide) rfl (fun ls hl => ?_)
    refine lv_iload_n hx hb dX9_wrongPull_19 rfl (lv_at hl 0 rfl) ?_
    refine lv_if_ne (tgt := 39) hx hb dX9_wrongPull_20 (by decide) (fun c_3 => ?_) (fun c_3 => ?_)
    · skip
      refine lv_iload_n hx hb dX9_wrongPull_39 rfl (lv_at hl 0 rfl) ?_
      refine hret _ _ _ _ _ _ (-1) () dX9_wrongPull_40 ?_ hP hD hS (Nat.le_of_ble_eq_true rfl) (Nat.le_of_ble_eq_true rfl)
      rw [eS_f (show tB r t = false from (by first | exact bI_n0 c_2 | exact bI_0.mp c_2))]
    · skip
      exact absurd c_3 (by decide)
  · skip
    obtain ⟨hj_t, et_t⟩ := tB_ix hN (by first | exact bI_n0 c_2 | exact bI_0.mp c_2)
    rw [et_t] at hl
    refine lv_iload_n hx hb dX9_wrongPull_8 rfl (lv_at hl 2 rfl) ?_
    refine lv_bipush (v := 9) hx hb dX9_wrongPull_9 (by decide) ?_
    refine x_Si (wN := fun _ => (wM G am ho rn ln pl sd lt ro rf nb ++ [(am 1, .inl (G.2 0, 54, .inl (row r)))] ++ [(am 2, .inl (G.2 0, 54, .inl (row rm)))] ++ [(am 3, .inl (G.2 0, 54, .inl (row r2)))] ++ [(am 4, .inl (G.2 0, 54, .inl (row r4)))])) ⟨C0, hK, hP, hD, hS, hA⟩ ((m9_wrongBy l G sp 9)) (va_cwS 2 hts (lw_S q1302 q1303 q95 q1304) rfl rfl rfl (by decide +kernel) ⟨Nat.le_of_ble_eq_true rfl, Nat.le_of_ble_eq_true rfl⟩) [] [0, 2, 4, 6, 8, 10, 12, 14, 16] rfl (fun _ => rfl) rfl rfl hl.1 rfl (Nat.le_of_ble_eq_true rfl) dX9_wrongPull_11 ⟨(Nat.le_of_ble_eq_true rfl), (Nat.le_of_ble_eq_true rfl)⟩ (fun r_4 u_4 H locs hw_4 hP hD hS => ?_)
    have hw_4 : r_4 = wBy sp.toInt 0 9 := hw_4.trans rfl
    have hw_4 : (wBy sp.toInt 0 9 : Int32) = r_4 := hw_4.symm
    subst hw_4
    refine lv_goto (tgt := 18) hx hb dX9_wrongPull_14 (by decide) ?_
    refine lv_istore_n (lv' := [(3, .int (wBy sp.toInt 0 9)), (0, .ref (am 0)), (1, .int (nI (ix t))), (2, .int sp)]) hx hb dX9_wrongPull_18 rfl hl (by decide) rfl (fun ls hl => ?_)
    refine lv_iload_n hx hb dX9_wrongPull_19 rfl (lv_at hl 0 rfl) ?_
    refine lv_if_ne (tgt := 39) hx hb dX9_wrongPull_20 (by decide) (fun c_5 => ?_) (fun c_5 => ?_)
    · skip
      refine lv_iload_n hx hb dX9_wrongPull_39 rfl (lv_at hl 0 rfl) ?_
      refine hret _ _ _ _ _ _ (wBy sp.toInt 0 9) () dX9_wrongPull_40 ?_ hP hD hS (Nat.le_of_ble_eq_true rfl) (Nat.le_of_ble_eq_true rfl)
      rw [eS_t (show tB r t = true from (by first | exact bI_n0 c_2 | exact bI_0.mp c_2)), eW_n c_5]
    · skip
      refine lv_aload_n hx hb dX9_wrongPull_23 rfl (lv_at hl 1 rfl) ?_
      refine va_get (D := G.1) (ci := 8) (v := .ref (am 1)) (C := RX9) (T := TX9) (N := 13) hx hb hts in_X9 hown hK.1 hP 0 rfl rfl 0 (by decide) (hts _ q1162) (fun _ h9 => h9) rfl dX9_wrongPull_24 ?_
      refine lv_iload_n hx hb dX9_wrongPull_27 rfl (lv_at hl 2 rfl) ?_
      refine x_Si (wN := fun _ => (wM G am ho rn ln pl sd lt ro rf nb ++ [(am 1, .inl (G.2 0, 54, .inl (row r)))] ++ [(am 2, .inl (G.2 0, 54, .inl (row rm)))] ++ [(am 3, .inl (G.2 0, 54, .inl (row r2)))] ++ [(am 4, .inl (G.2 0, 54, .inl (row r4)))])) ⟨C0, hK, hP, hD, hS, hA⟩ ((m9_stands l G (am 1) r hr (ix t) (show (ix t) < 10 by omega))) (va_cwS 2 hts (lw_S q1251 q1252 q95 q1253) rfl rfl rfl (by decide +kernel) ⟨Nat.le_of_ble_eq_true rfl, Nat.le_of_ble_eq_true rfl⟩) [5] [0, 2, 4, 6, 8, 1, 12, 14, 16] rfl (fun _ => rfl) rfl rfl hl.1 rfl (Nat.le_of_ble_eq_true rfl) dX9_wrongPull_28 ⟨(Nat.le_of_ble_eq_true rfl), (Nat.le_of_ble_eq_true rfl)⟩ (fun r_6 u_6 H locs hw_6 hP hD hS => ?_)
      have hw_6 : (bI (pSt r (ix t)) : Int32) = r_6 := hw_6.symm
      subst hw_6
      refine lv_if_ne (tgt := 39) hx hb dX9_wrongPull_31 (by decide) (fun c_7 => ?_) (fun c_7 => ?_)
      · skip
        refine lv_iload_n hx hb dX9_wrongPull_39 rfl (lv_at hl 0 rfl) ?_
        refine hret _ _ _ _ _ _ (wBy sp.toInt 0 9) () dX9_wrongPull_40 ?_ hP hD hS (Nat.le_of_ble_eq_true rfl) (Nat.le_of_ble_eq_true rfl)
        rw [eS_t (show tB r t = true from (by first | exact bI_n0 c_2 | exact bI_0.mp c_2)), eW_0 c_5, eS_t (show pSt r (ix t) = true from (by first | exact bI_n0 c_7 | exact bI_0.mp c_7))]
        exact c_5
      · skip
        refine lv_bipush (v := (-3)) hx hb dX9_wrongPull_34 (by decide) ?_
        refine lv_goto (tgt := 40) hx hb dX9_wrongPull_36 (by decide) ?_
        refine hret _ _ _ _ _ _ (-3) () dX9_wrongPull_40 ?_ hP hD hS (Nat.le_of_ble_eq_true rfl) (Nat.le_of_ble_eq_true rfl)
        rw [eS_t (show tB r t = true from (by first | exact bI_n0 c_2 | exact bI_0.mp c_2)), eW_0 c_5, eS_f (show pSt r (ix t) = false from (by first | exact bI_n0 c_7 | exact bI_0.mp c_7))]
theorem eS_z {b : Bool} {n k : Int32} (hn : n ≠ 0) (h : eS b n k = 0) : b = true ∧ k = 0 := by
  unfold eS at h
  split at h
  · rename_i q; exact ⟨q, h⟩
  · exact absurd h hn
theorem eW_z {n k : Int32} (h : eW n k = 0) : n = 0 ∧ k = 0 := by
  unfold eW at h
  split at h
  · rename_i q; exact ⟨q, h⟩
  · rename_i q; exact absurd h q
set_option maxHeartbeats 4000000 in
set_option maxRecDepth 100000 in
theorem n_pulls (l : Launch) (G : xG) (am : Nat → Nat) (r rm r2 r4 : Rw) (ho rn ln pl sd : Int32) (lt ro rf nb : Nat → Int32) (hr : Ok r) (hp : r 5 3 = 0) (t sp : Int32) : xCi l G yX9_pulls cX9_pulls 4 (some .int) ({ frames := 4, cells := 0, slots := 0, locals := 91 } : Room) [.ref (am 0), .int t, .int sp] (wM G am ho rn ln pl sd lt ro rf nb ++ [(am 1, .inl (G.2 0, 54, .inl (row r)))] ++ [(am 2, .inl (G.2 0, 54, .inl (row rm)))] ++ [(am 3, .inl (G.2 0, 54, .inl (row r2)))] ++ [(am 4, .inl (G.2 0, 54, .inl (row r4)))]) (S := Unit) (fun v _ => v = sel (eS (tB r t) (-1) (eW (wBy sp.toInt 0 9) (eS (pSt r (ix t)) (-3) 0))) (pPullN r (ix t) sp) (eS (tB r t) (-1) (eW (wBy sp.toInt 0 9) (eS (pSt r (ix t)) (-3) 0)))) (fun _ => (wM G am ho rn ln pl sd lt ro (sel (eS (tB r t) (-1) (eW (wBy sp.toInt 0 9) (eS (pSt r (ix t)) (-3) 0))) rf (rfU rf (eS (tB r t) (-1) (eW (wBy sp.toInt 0 9) (eS (pSt r (ix t)) (-3) 0))))) nb ++ [(am 1, .inl (G.2 0, 54, .inl (row (sel (eS (tB r t) (-1) (eW (wBy sp.toInt 0 9) (eS (pSt r (ix t)) (-3) 0))) (pPull r (ix t) sp) r))))] ++ [(am 2, .inl (G.2 0, 54, .inl (row rm)))] ++ [(am 3, .inl (G.2 0, 54, .inl (row r2)))] ++ [(am 4, .inl (G.2 0, 54, .inl (row r4)))])) := by
  refine x_openi (by decide) (Nat.le_of_ble_eq_true rfl) (fun _ _ _ => rfl) ?_
  intro p e s m args below meth c A Q ls C0 hK hP hD hA hl hret
  obtain ⟨hx, hb, hml, hown, hts⟩ := id C0
  have hS : va_S A s.heap s.heap [] := va_S.rf
  have hP : va_P G.1 vwCl (wM G am ho rn ln pl sd lt ro rf nb ++ [(am 1, .inl (G.2 0, 54, .inl (row r)))] ++ [(am 2, .inl (G.2 0, 54, .inl (row rm)))] ++ [(am 3, .inl (G.2 0, 54, .inl (row r2)))] ++ [(am 4, .inl (G.2 0, 54, .inl (row r4)))]) s.heap := hP
  have hD : va_D A (wM G am ho rn ln pl sd lt ro rf nb ++ [(am 1, .inl (G.2 0, 54, .inl (row r)))] ++ [(am 2, .inl (G.2 0, 54, .inl (row rm)))] ++ [(am 3, .inl (G.2 0, 54, .inl (row r2)))] ++ [(am 4, .inl (G.2 0, 54, .inl (row r4)))]) := hD
  have hl : lv_has ls 4 [(0, .ref (am 0)), (1, .int t), (2, .int sp)] := hl
  have hr0 := hr.n
  have hN := hr.le
  refine lv_aload_n hx hb dX9_pulls_0 rfl (lv_at hl 0 rfl) ?_
  refine lv_iload_n hx hb dX9_pulls_1 rfl (lv_at hl 1 rfl) ?_
  refine lv_iload_n hx hb dX9_pulls_2 rfl (lv_at hl 2 rfl) ?_
  refine x_Vi (wN := fun _ => (wM G am ho rn ln pl sd lt ro rf nb ++ [(am 1, .inl (G.2 0, 54, .inl (row r)))] ++ [(am 2, .inl (G.2 0, 54, .inl (row rm)))] ++ [(am 3, .inl (G.2 0, 54, .inl (row r2)))] ++ [(am 4, .inl (G.2 0, 54, .inl (row r4)))])) ⟨C0, hK, hP, hD, hS, hA⟩ 0 rfl (ci := 8) rfl rfl ((m9_wrongPull l G am r rm r2 r4 ho rn ln pl sd lt ro rf nb hr hp t sp)) (cwV 2 hts (lw_V q1298 q1300 qs74 q95 q1301) rfl rfl rfl (by decide +kernel) ⟨Nat.le_of_ble_eq_true rfl, Nat.le_of_ble_eq_true rfl⟩) [0, 1, 2, 3, 4, 5, 6, 7, 8] [1, 3, 5, 7, 9, 11, 13, 15, 17] rfl (fun _ => rfl) rfl rfl hl.1 rfl (Nat.le_of_ble_eq_true rfl) dX9_pulls_3 ⟨(Nat.le_of_ble_eq_true rfl), (Nat.le_of_ble_eq_true rfl)⟩ (fun r_1 u_1 H locs hw_1 hP hD hS => ?_)
  have hw_1 : (eS (tB r t) (-1) (eW (wBy sp.toInt 0 9) (eS (pSt r (ix t)) (-3) 0)) : Int32) = r_1 := hw_1.symm
  subst hw_1
  refine lv_istore_n (lv' := [(3, .int (eS (tB r t) (-1) (eW (wBy sp.toInt 0 9) (eS (pSt r (ix t)) (-3) 0)))), (0, .ref (am 0)), (1, .int t), (2, .int sp)]) hx hb dX9_pulls_6 rfl hl (by decide) rfl (fun ls hl => ?_)
  refine lv_iload_n hx hb dX9_pulls_7 rfl (lv_at hl 0 rfl) ?_
  refine lv_if_eq (tgt := 19) hx hb dX9_pulls_8 (by decide) (fun c_2 => ?_) (fun c_2 => ?_)
  · skip
    obtain ⟨hz1, hz2⟩ := eS_z (by decide) (show eS (tB r t) (-1) (eW (wBy sp.toInt 0 9) (eS (pSt r (ix t)) (-3) 0)) = 0 from c_2)
    obtain ⟨hz3, hz4⟩ := eW_z hz2
    obtain ⟨hz5, -⟩ := eS_z (by decide) hz4
    obtain ⟨hj_t, et_t⟩ := tB_ix hN hz1
    rw [et_t] at hl
    refine lv_aload_n hx hb dX9_pulls_19 rfl (lv_at hl 1 rfl) ?_
    refine va_get (D := G.1) (ci := 8) (v := .ref (am 1)) (C := RX9) (T := TX9) (N := 13) hx hb hts in_X9 hown hK.1 hP 0 rfl rfl 0 (by decide) (hts _ q1162) (fun _ h9 => h9) rfl dX9_pulls_20 ?_
    refine lv_iload_n hx hb dX9_pulls_23 rfl (lv_at hl 2 rfl) ?_
    refine lv_iload_n hx hb dX9_pulls_24 rfl (lv_at hl 3 rfl) ?_
    refine x_Si (wN := fun _ => (wM G am ho rn ln pl sd lt ro rf nb ++ [(am 1, .inl (G.2 0, 54, .inl (row (pPull r (ix t) sp))))] ++ [(am 2, .inl (G.2 0, 54, .inl (row rm)))] ++ [(am 3, .inl (G.2 0, 54, .inl (row r2)))] ++ [(am 4, .inl (G.2 0, 54, .inl (row r4)))])) ⟨C0, hK, hP, hD, hS, hA⟩ ((m9_pull l G (am 1) r hr (ix t) sp (by omega))) (va_cwS 3 hts (lw_S q1257 q1258 q95 q1259) rfl rfl rfl (by decide +kernel) ⟨Nat.le_of_ble_eq_true rfl, Nat.le_of_ble_eq_true rfl⟩) [5] [0, 2, 4, 6, 8, 1, 12, 14, 16] rfl (fun _ => rfl) rfl rfl hl.1 rfl (Nat.le_of_ble_eq_true rfl) dX9_pulls_25 ⟨(Nat.le_of_ble_eq_true rfl), (Nat.le_of_ble_eq_true rfl)⟩ (fun r_3 u_3 H locs hw_3 hP hD hS => ?_)
    have hw_3 : (pPullN r (ix t) sp : Int32) = r_3 := hw_3.symm
    subst hw_3
    have hP : va_P G.1 vwCl (wM G am ho rn ln pl sd lt ro rf nb ++ [(am 1, .inl (G.2 0, 54, .inl (row (pPull r (ix t) sp))))] ++ [(am 2, .inl (G.2 0, 54, .inl (row rm)))] ++ [(am 3, .inl (G.2 0, 54, .inl (row r2)))] ++ [(am 4, .inl (G.2 0, 54, .inl (row r4)))]) H := hP
    have hD : va_D A (wM G am ho rn ln pl sd lt ro rf nb ++ [(am 1, .inl (G.2 0, 54, .inl (row (pPull r (ix t) sp))))] ++ [(am 2, .inl (G.2 0, 54, .inl (row rm)))] ++ [(am 3, .inl (G.2 0, 54, .inl (row r2)))] ++ [(am 4, .inl (G.2 0, 54, .inl (row r4)))]) := hD
    have hE : eS (tB r t) (-1) (eW (wBy sp.toInt 0 9) (eS (pSt r (ix t)) (-3) 0)) = 0 := by rw [show _ = _ from c_2]
    have hP : va_P G.1 vwCl (wM G am ho rn ln pl sd lt ro (sel (eS (tB r t) (-1) (eW (wBy sp.toInt 0 9) (eS (pSt r (ix t)) (-3) 0))) rf (rfU rf (eS (tB r t) (-1) (eW (wBy sp.toInt 0 9) (eS (pSt r (ix t)) (-3) 0))))) nb ++ [(am 1, .inl (G.2 0, 54, .inl (row (sel (eS (tB r t) (-1) (eW (wBy sp.toInt 0 9) (eS (pSt r (ix t)) (-3) 0))) (pPull r (ix t) sp) r))))] ++ [(am 2, .inl (G.2 0, 54, .inl (row rm)))] ++ [(am 3, .inl (G.2 0, 54, .inl (row r2)))] ++ [(am 4, .inl (G.2 0, 54, .inl (row r4)))]) H := by rw [hE]; simp only [sel_0 rfl]; exact hP
    have hD : va_D A (wM G am ho rn ln pl sd lt ro (sel (eS (tB r t) (-1) (eW (wBy sp.toInt 0 9) (eS (pSt r (ix t)) (-3) 0))) rf (rfU rf (eS (tB r t) (-1) (eW (wBy sp.toInt 0 9) (eS (pSt r (ix t)) (-3) 0))))) nb ++ [(am 1, .inl (G.2 0, 54, .inl (row (sel (eS (tB r t) (-1) (eW (wBy sp.toInt 0 9) (eS (pSt r (ix t)) (-3) 0))) (pPull r (ix t) sp) r))))] ++ [(am 2, .inl (G.2 0, 54, .inl (row rm)))] ++ [(am 3, .inl (G.2 0, 54, .inl (row r2)))] ++ [(am 4, .inl (G.2 0, 54, .inl (row r4)))]) := by rw [hE]; simp only [sel_0 rfl]; exact hD
    refine hret _ _ _ _ _ _ (pPullN r (ix t) sp) () dX9_pulls_28 ?_ hP hD hS (Nat.le_of_ble_eq_true rfl) (Nat.le_of_ble_eq_true rfl)
    rw [hE, sel_0 rfl]
  · skip
    refine lv_aload_n hx hb dX9_pulls_11 rfl (lv_at hl 1 rfl) ?_
    refine lv_iload_n hx hb dX9_pulls_12 rfl (lv_at hl 0 rfl) ?_
    refine x_Vi (wN := fun _ => (wM G am ho rn ln pl sd lt ro (rfU rf (eS (tB r t) (-1) (eW (wBy sp.toInt 0 9) (eS (pSt r (ix t)) (-3) 0)))) nb ++ [(am 1, .inl (G.2 0, 54, .inl (row r)))] ++ [(am 2, .inl (G.2 0, 54, .inl (row rm)))] ++ [(am 3, .inl (G.2 0, 54, .inl (row r2)))] ++ [(am 4, .inl (G.2 0, 54, .inl (row r4)))])) ⟨C0, hK, hP, hD, hS, hA⟩ 0 rfl (ci := 8) rfl rfl ((m9_no l G am ho rn ln pl sd lt ro rf nb (eS (tB r t) (-1) (eW (wBy sp.toInt 0 9) (eS (pSt r (ix t)) (-3) 0))) (cOk.no (cOk_S noOk_k.1 (cOk_W (cOk_S noOk_k.2.2.1 cOk_0))) c_2))) (cwV 1 hts (lw_V q1206 q1208 qs66 q95 q1209) rfl rfl rfl (by decide +kernel) ⟨Nat.le_of_ble_eq_true rfl, Nat.le_of_ble_eq_true rfl⟩) [0, 1, 2, 3, 4] [1, 3, 5, 7, 9, 10, 12, 14, 16] rfl (fun _ => rfl) rfl rfl hl.1 rfl (Nat.le_of_ble_eq_true rfl) dX9_pulls_13 ⟨(Nat.le_of_ble_eq_true rfl), (Nat.le_of_ble_eq_true rfl)⟩ (fun r_4 u_4 H locs hw_4 hP hD hS => ?_)
    have hw_4 : (eS (tB r t) (-1) (eW (wBy sp.toInt 0 9) (eS (pSt r (ix t)) (-3) 0)) : Int32) = r_4 := hw_4.symm
    subst hw_4
    have hP : va_P G.1 vwCl (wM G am ho rn ln pl sd lt ro (rfU rf (eS (tB r t) (-1) (eW (wBy sp.toInt 0 9) (eS (pSt r (ix t)) (-3) 0)))) nb ++ [(am 1, .inl (G.2 0, 54, .inl (row r)))] ++ [(am 2, .inl (G.2 0, 54, .inl (row rm)))] ++ [(am 3, .inl (G.2 0, 54, .inl (row r2)))] ++ [(am 4, .inl (G.2 0, 54, .inl (row r4)))]) H := hP
    have hD : va_D A (wM G am ho rn ln pl sd lt ro (rfU rf (eS (tB r t) (-1) (eW (wBy sp.toInt 0 9) (eS (pSt r (ix t)) (-3) 0)))) nb ++ [(am 1, .inl (G.2 0, 54, .inl (row r)))] ++ [(am 2, .inl (G.2 0, 54, .inl (row rm)))] ++ [(am 3, .inl (G.2 0, 54, .inl (row r2)))] ++ [(am 4, .inl (G.2 0, 54, .inl (row r4)))]) := hD
    refine lv_goto (tgt := 28) hx hb dX9_pulls_16 (by decide) ?_
    have hE : eS (tB r t) (-1) (eW (wBy sp.toInt 0 9) (eS (pSt r (ix t)) (-3) 0)) = eS (tB r t) (-1) (eW (wBy sp.toInt 0 9) (eS (pSt r (ix t)) (-3) 0)) := rfl
    have hne : (eS (tB r t) (-1) (eW (wBy sp.toInt 0 9) (eS (pSt r (ix t)) (-3) 0)) : Int32) ≠ 0 := c_2
    have hP : va_P G.1 vwCl (wM G am ho rn ln pl sd lt ro (sel (eS (tB r t) (-1) (eW (wBy sp.toInt 0 9) (eS (pSt r (ix t)) (-3) 0))) rf (rfU rf (eS (tB r t) (-1) (eW (wBy sp.toInt 0 9) (eS (pSt r (ix t)) (-3) 0))))) nb ++ [(am 1, .inl (G.2 0, 54, .inl (row (sel (eS (tB r t) (-1) (eW (wBy sp.toInt 0 9) (eS (pSt r (ix t)) (-3) 0))) (pPull r (ix t) sp) r))))] ++ [(am 2, .inl (G.2 0, 54, .inl (row rm)))] ++ [(am 3, .inl (G.2 0, 54, .inl (row r2)))] ++ [(am 4, .inl (G.2 0, 54, .inl (row r4)))]) H := by rw [hE]; simp only [sel_n hne]; exact hP
    have hD : va_D A (wM G am ho rn ln pl sd lt ro (sel (eS (tB r t) (-1) (eW (wBy sp.toInt 0 9) (eS (pSt r (ix t)) (-3) 0))) rf (rfU rf (eS (tB r t) (-1) (eW (wBy sp.toInt 0 9) (eS (pSt r (ix t)) (-3) 0))))) nb ++ [(am 1, .inl (G.2 0, 54, .inl (row (sel (eS (tB r t) (-1) (eW (wBy sp.toInt 0 9) (eS (pSt r (ix t)) (-3) 0))) (pPull r (ix t) sp) r))))] ++ [(am 2, .inl (G.2 0, 54, .inl (row rm)))] ++ [(am 3, .inl (G.2 0, 54, .inl (row r2)))] ++ [(am 4, .inl (G.2 0, 54, .inl (row r4)))]) := by rw [hE]; simp only [sel_n hne]; exact hD
    refine hret _ _ _ _ _ _ (eS (tB r t) (-1) (eW (wBy sp.toInt 0 9) (eS (pSt r (ix t)) (-3) 0))) () dX9_pulls_28 ?_ hP hD hS (Nat.le_of_ble_eq_true rfl) (Nat.le_of_ble_eq_true rfl)
    rw [hE, sel_n hne]
theorem on9_ge {r : Rw} (hr : Ok r) {t : Nat} (ht : t < mny r) (h : 0 ≤ r 2 t) : ∃ j, j < t ∧ r 2 t = nI j := (hr.on ht).resolve_left (fun z => by rw [z] at h; exact absurd h (by decide))
theorem on9_lt {r : Rw} (hr : Ok r) {t : Nat} (ht : t < mny r) (h : ¬ 0 ≤ r 2 t) : r 2 t = -9 := (hr.on ht).resolve_right (fun z => by
  obtain ⟨j, hj, e⟩ := z
  have hN := hr.le
  rw [e] at h
  exact h (nI_pos' (by omega)))
theorem on9_n {r : Rw} (hr : Ok r) {t : Nat} (ht : t < mny r) (h : 0 ≤ r 2 t) : ¬ r 2 t = -9 := by
  obtain ⟨j, hj, e⟩ := on9_ge hr ht h
  have hN := hr.le
  rw [e]
  exact m9_ne (by omega)
theorem wBy_lo {x : Int32} {lo hi : Int} {y : Int32} (hy : y.toInt = lo) (h : ¬ y ≤ x) : wBy x.toInt lo hi = -4 := by
  rw [Int32.le_iff_toInt_le] at h
  unfold wBy
  rw [if_pos (by omega)]
theorem wBy_hi {x : Int32} {lo hi : Int} {y z : Int32} (hy : y.toInt = lo) (hz : z.toInt = hi) (h : y ≤ x) (h2 : ¬ x ≤ z) : wBy x.toInt lo hi = -6 := by
  rw [Int32.le_iff_toInt_le] at h h2
  unfold wBy
  rw [if_neg (by omega), if_pos (by omega)]
theorem wBy_ok {x : Int32} {lo hi : Int} {y z : Int32} (hy : y.toInt = lo) (hz : z.toInt = hi) (h : y ≤ x) (h2 : x ≤ z) : wBy x.toInt lo hi = 0 := by
  rw [Int32.le_iff_toInt_le] at h h2
  unfold wBy
  rw [if_neg (by omega), if_neg (by omega)]
theorem pSt_up (r : Rw) (t : Nat) : pSt (pSetUp r t) t = true := by
  show decide (upd (r 3) t 0 t = 0) = true
  rw [pk_us]
  rfl
set_option maxHeartbeats 4000000 in
set_option maxRecDepth 100000 in
theorem n_floor (l : Launch) (G : xG) (am : Nat → Nat) (r rm r2 r4 : Rw) (ho rn ln pl sd : Int32) (lt ro rf nb : Nat → Int32) (hr : Ok r) (hp : r 5 3 = 0) (sp : Int32) : xCi l G yX9_floor cX9_floor 3 (some .int) ({ frames := 4, cells := 0, slots := 0, locals := 91 } : Room) [.ref (am 0), .int sp] (wM G am ho rn ln pl sd lt ro rf nb ++ [(am 1, .inl (G.2 0, 54, .inl (row r)))] ++ [(am 2, .inl (G.2 0, 54, .inl (row rm)))] ++ [(am 3, .inl (G.2 0, 54, .inl (row r2)))] ++ [(am 4, .inl (G.2 0, 54, .inl (row r4)))]) (S := Unit) (fun v _ => v = sel (eW (wBy sp.toInt 0 9) (eS (bB r) (-3) 0)) (pPullFN r sp) (eW (wBy sp.toInt 0 9) (eS (bB r) (-3) 0))) (fun _ => (wM G am ho rn ln pl sd lt ro (sel (eW (wBy sp.toInt 0 9) (eS (bB r) (-3) 0)) rf (rfU rf (eW (wBy sp.toInt 0 9) (eS (bB r) (-3) 0)))) nb ++ [(am 1, .inl (G.2 0, 54, .inl (row (sel (eW (wBy sp.toInt 0 9) (eS (bB r) (-3) 0)) (pPullF r sp) r))))] ++ [(am 2, .inl (G.2 0, 54, .inl (row rm)))] ++ [(am 3, .inl (G.2 0, 54, .inl (row r2)))] ++ [(am 4, .inl (G.2 0, 54, .inl (row r4)))])) := by
  refine x_openi (by decide) (Nat.le_of_ble_eq_true rfl) (fun _ _ _ => rfl) ?_
  intro p e s m args below meth c A Q ls C0 hK hP hD hA hl hret
  obtain ⟨hx, hb, hml, hown, hts⟩ := id C0
  have hS : va_S A s.heap s.heap [] := va_S.rf
  have hP : va_P G.1 vwCl (wM G am ho rn ln pl sd lt ro rf nb ++ [(am 1, .inl (G.2 0, 54, .inl (row r)))] ++ [(am 2, .inl (G.2 0, 54, .inl (row rm)))] ++ [(am 3, .inl (G.2 0, 54, .inl (row r2)))] ++ [(am 4, .inl (G.2 0, 54, .inl (row r4)))]) s.heap := hP
  have hD : va_D A (wM G am ho rn ln pl sd lt ro rf nb ++ [(am 1, .inl (G.2 0, 54, .inl (row r)))] ++ [(am 2, .inl (G.2 0, 54, .inl (row rm)))] ++ [(am 3, .inl (G.2 0, 54, .inl (row r2)))] ++ [(am 4, .inl (G.2 0, 54, .inl (row r4)))]) := hD
  have hl : lv_has ls 3 [(0, .ref (am 0)), (1, .int sp)] := hl
  have hr0 := hr.n
  have hN := hr.le
  refine lv_iload_n hx hb dX9_floor_0 rfl (lv_at hl 1 rfl) ?_
  refine lv_bipush (v := 9) hx hb dX9_floor_1 (by decide) ?_
  refine x_Si (wN := fun _ => (wM G am ho rn ln pl sd lt ro rf nb ++ [(am 1, .inl (G.2 0, 54, .inl (row r)))] ++ [(am 2, .inl (G.2 0, 54, .inl (row rm)))] ++ [(am 3, .inl (G.2 0, 54, .inl (row r2)))] ++ [(am 4, .inl (G.2 0, 54, .inl (row r4)))])) ⟨C0, hK, hP, hD, hS, hA⟩ ((m9_wrongBy l G sp 9)) (va_cwS 2 hts (lw_S q1302 q1303 q95 q1304) rfl rfl rfl (by decide +kernel) ⟨Nat.le_of_ble_eq_true rfl, Nat.le_of_ble_eq_true rfl⟩) [] [0, 2, 4, 6, 8, 10, 12, 14, 16] rfl (fun _ => rfl) rfl rfl hl.1 rfl (Nat.le_of_ble_eq_true rfl) dX9_floor_3 ⟨(Nat.le_of_ble_eq_true rfl), (Nat.le_of_ble_eq_true rfl)⟩ (fun r_1 u_1 H locs hw_1 hP hD hS => ?_)
  have hw_1 : r_1 = wBy sp.toInt 0 9 := hw_1.trans rfl
  have hw_1 : (wBy sp.toInt 0 9 : Int32) = r_1 := hw_1.symm
  subst hw_1
  refine lv_istore_n (lv' := [(2, .int (wBy sp.toInt 0 9)), (0, .ref (am 0)), (1, .int sp)]) hx hb dX9_floor_6 rfl hl (by decide) rfl (fun ls hl => ?_)
  refine lv_iload_n hx hb dX9_floor_7 rfl (lv_at hl 0 rfl) ?_
  refine lv_if_ne (tgt := 23) hx hb dX9_floor_8 (by decide) (fun c_2 => ?_) (fun c_2 => ?_)
  · skip
    refine lv_iload_n hx hb dX9_floor_23 rfl (lv_at hl 0 rfl) ?_
    refine lv_if_eq (tgt := 35) hx hb dX9_floor_24 (by decide) (fun c_3 => ?_) (fun c_3 => ?_)
    · skip
      exact absurd c_3 c_2
    · skip
      refine lv_aload_n hx hb dX9_floor_27 rfl (lv_at hl 1 rfl) ?_
      refine lv_iload_n hx hb dX9_floor_28 rfl (lv_at hl 0 rfl) ?_
      refine x_Vi (wN := fun _ => (wM G am ho rn ln pl sd lt ro (rfU rf (wBy sp.toInt 0 9)) nb ++ [(am 1, .inl (G.2 0, 54, .inl (row r)))] ++ [(am 2, .inl (G.2 0, 54, .inl (row rm)))] ++ [(am 3, .inl (G.2 0, 54, .inl (row r2)))] ++ [(am 4, .inl (G.2 0, 54, .inl (row r4)))])) ⟨C0, hK, hP, hD, hS, hA⟩ 0 rfl (ci := 8) rfl rfl ((m9_no l G am ho rn ln pl sd lt ro rf nb (wBy sp.toInt 0 9) (cOk.no cOk_WW c_3))) (cwV 1 hts (lw_V q1206 q1208 qs66 q95 q1209) rfl rfl rfl (by decide +kernel) ⟨Nat.le_of_ble_eq_true rfl, Nat.le_of_ble_eq_true rfl⟩) [0, 1, 2, 3, 4] [1, 3, 5, 7, 9, 10, 12, 14, 16] rfl (fun _ => rfl) rfl rfl hl.1 rfl (Nat.le_of_ble_eq_true rfl) dX9_floor_29 ⟨(Nat.le_of_ble_eq_true rfl), (Nat.le_of_ble_eq_true rfl)⟩ (fun r_4 u_4 H locs hw_4 hP hD hS => ?_)
      have hw_4 : (wBy sp.toInt 0 9 : Int32) = r_4 := hw_4.symm
      subst hw_4
      have hP : va_P G.1 vwCl (wM G am ho rn ln pl sd lt ro (rfU rf (wBy sp.toInt 0 9)) nb ++ [(am 1, .inl (G.2 0, 54, .inl (row r)))] ++ [(am 2, .inl (G.2 0, 54, .inl (row rm)))] ++ [(am 3, .inl (G.2 0, 54, .inl (row r2)))] ++ [(am 4, .inl (G.2 0, 54, .inl (row r4)))]) H := hP
      have hD : va_D A (wM G am ho rn ln pl sd lt ro (rfU rf (wBy sp.toInt 0 9)) nb ++ [(am 1, .inl (G.2 0, 54, .inl (row r)))] ++ [(am 2, .inl (G.2 0, 54, .inl (row rm)))] ++ [(am 3, .inl (G.2 0, 54, .inl (row r2)))] ++ [(am 4, .inl (G.2 0, 54, .inl (row r4)))]) := hD
      refine lv_goto (tgt := 45) hx hb dX9_floor_32 (by decide) ?_
      have hE : eW (wBy sp.toInt 0 9) (eS (bB r) (-3) 0) = wBy sp.toInt 0 9 := by rw [eW_n c_2]
      have hne : (wBy sp.toInt 0 9 : Int32) ≠ 0 := c_3
      have hP : va_P G.1 vwCl (wM G am ho rn ln pl sd lt ro (sel (eW (wBy sp.toInt 0 9) (eS (bB r) (-3) 0)) rf (rfU rf (eW (wBy sp.toInt 0 9) (eS (bB r) (-3) 0)))) nb ++ [(am 1, .inl (G.2 0, 54, .inl (row (sel (eW (wBy sp.toInt 0 9) (eS (bB r) (-3) 0)) (pPullF r sp) r))))] ++ [(am 2, .inl (G.2 0, 54, .inl (row rm)))] ++ [(am 3, .inl (G.2 0, 54, .inl (row r2)))] ++ [(am 4, .inl (G.2 0, 54, .inl (row r4)))]) H := by rw [hE]; simp only [sel_n hne]; exact hP
      have hD : va_D A (wM G am ho rn ln pl sd lt ro (sel (eW (wBy sp.toInt 0 9) (eS (bB r) (-3) 0)) rf (rfU rf (eW (wBy sp.toInt 0 9) (eS (bB r) (-3) 0)))) nb ++ [(am 1, .inl (G.2 0, 54, .inl (row (sel (eW (wBy sp.toInt 0 9) (eS (bB r) (-3) 0)) (pPullF r sp) r))))] ++ [(am 2, .inl (G.2 0, 54, .inl (row rm)))] ++ [(am 3, .inl (G.2 0, 54, .inl (row r2)))] ++ [(am 4, .inl (G.2 0, 54, .inl (row r4)))]) := by rw [hE]; simp only [sel_n hne]; exact hD
      refine hret _ _ _ _ _ _ (wBy sp.toInt 0 9) () dX9_floor_45 ?_ hP hD hS (Nat.le_of_ble_eq_true rfl) (Nat.le_of_ble_eq_true rfl)
      rw [hE, sel_n hne]
  · skip
    refine lv_aload_n hx hb dX9_floor_11 rfl (lv_at hl 1 rfl) ?_
    refine va_get (D := G.1) (ci := 8) (v := .ref (am 1)) (C := RX9) (T := TX9) (N := 13) hx hb hts in_X9 hown hK.1 hP 0 rfl rfl 0 (by decide) (hts _ q1162) (fun _ h9 => h9) rfl dX9_floor_12 ?_
    refine lv_iconst (v := 2) hx hb dX9_floor_15 (by decide) ?_
    refine x_ialdn (k := 2) hx hb hK.1 hP 5 0 rfl rfl (by decide) (by decide) (v := r 5 2) rfl dX9_floor_16 ?_
    refine lv_if_ne (tgt := 23) hx hb dX9_floor_17 (by decide) (fun c_5 => ?_) (fun c_5 => ?_)
    · skip
      refine lv_iload_n hx hb dX9_floor_23 rfl (lv_at hl 0 rfl) ?_
      refine lv_if_eq (tgt := 35) hx hb dX9_floor_24 (by decide) (fun c_6 => ?_) (fun c_6 => ?_)
      · skip
        refine lv_aload_n hx hb dX9_floor_35 rfl (lv_at hl 1 rfl) ?_
        refine va_get (D := G.1) (ci := 8) (v := .ref (am 1)) (C := RX9) (T := TX9) (N := 13) hx hb hts in_X9 hown hK.1 hP 0 rfl rfl 0 (by decide) (hts _ q1162) (fun _ h9 => h9) rfl dX9_floor_36 ?_
        refine lv_bipush (v := (-9)) hx hb dX9_floor_39 (by decide) ?_
        refine lv_iload_n hx hb dX9_floor_41 rfl (lv_at hl 2 rfl) ?_
        refine x_Si (wN := fun _ => (wM G am ho rn ln pl sd lt ro rf nb ++ [(am 1, .inl (G.2 0, 54, .inl (row (pPullF r sp))))] ++ [(am 2, .inl (G.2 0, 54, .inl (row rm)))] ++ [(am 3, .inl (G.2 0, 54, .inl (row r2)))] ++ [(am 4, .inl (G.2 0, 54, .inl (row r4)))])) ⟨C0, hK, hP, hD, hS, hA⟩ ((m9_pullF l G (am 1) r hr sp)) (va_cwS 3 hts (lw_S q1257 q1258 q95 q1259) rfl rfl rfl (by decide +kernel) ⟨Nat.le_of_ble_eq_true rfl, Nat.le_of_ble_eq_true rfl⟩) [5] [0, 2, 4, 6, 8, 1, 12, 14, 16] rfl (fun _ => rfl) rfl rfl hl.1 rfl (Nat.le_of_ble_eq_true rfl) dX9_floor_42 ⟨(Nat.le_of_ble_eq_true rfl), (Nat.le_of_ble_eq_true rfl)⟩ (fun r_7 u_7 H locs hw_7 hP hD hS => ?_)
        have hw_7 : (pPullFN r sp : Int32) = r_7 := hw_7.symm
        subst hw_7
        have hP : va_P G.1 vwCl (wM G am ho rn ln pl sd lt ro rf nb ++ [(am 1, .inl (G.2 0, 54, .inl (row (pPullF r sp))))] ++ [(am 2, .inl (G.2 0, 54, .inl (row rm)))] ++ [(am 3, .inl (G.2 0, 54, .inl (row r2)))] ++ [(am 4, .inl (G.2 0, 54, .inl (row r4)))]) H := hP
        have hD : va_D A (wM G am ho rn ln pl sd lt ro rf nb ++ [(am 1, .inl (G.2 0, 54, .inl (row (pPullF r sp))))] ++ [(am 2, .inl (G.2 0, 54, .inl (row rm)))] ++ [(am 3, .inl (G.2 0, 54, .inl (row r2)))] ++ [(am 4, .inl (G.2 0, 54, .inl (row r4)))]) := hD
        have hE : eW (wBy sp.toInt 0 9) (eS (bB r) (-3) 0) = 0 := by rw [eW_0 c_2, eS_t (bB_t hr c_5)]
        have hP : va_P G.1 vwCl (wM G am ho rn ln pl sd lt ro (sel (eW (wBy sp.toInt 0 9) (eS (bB r) (-3) 0)) rf (rfU rf (eW (wBy sp.toInt 0 9) (eS (bB r) (-3) 0)))) nb ++ [(am 1, .inl (G.2 0, 54, .inl (row (sel (eW (wBy sp.toInt 0 9) (eS (bB r) (-3) 0)) (pPullF r sp) r))))] ++ [(am 2, .inl (G.2 0, 54, .inl (row rm)))] ++ [(am 3, .inl (G.2 0, 54, .inl (row r2)))] ++ [(am 4, .inl (G.2 0, 54, .inl (row r4)))]) H := by rw [hE]; simp only [sel_0 rfl]; exact hP
        have hD : va_D A (wM G am ho rn ln pl sd lt ro (sel (eW (wBy sp.toInt 0 9) (eS (bB r) (-3) 0)) rf (rfU rf (eW (wBy sp.toInt 0 9) (eS (bB r) (-3) 0)))) nb ++ [(am 1, .inl (G.2 0, 54, .inl (row (sel (eW (wBy sp.toInt 0 9) (eS (bB r) (-3) 0)) (pPullF r sp) r))))] ++ [(am 2, .inl (G.2 0, 54, .inl (row rm)))] ++ [(am 3, .inl (G.2 0, 54, .inl (row r2)))] ++ [(am 4, .inl (G.2 0, 54, .inl (row r4)))]) := by rw [hE]; simp only [sel_0 rfl]; exact hD
        refine hret _ _ _ _ _ _ (pPullFN r sp) () dX9_floor_45 ?_ hP hD hS (Nat.le_of_ble_eq_true rfl) (Nat.le_of_ble_eq_true rfl)
        rw [hE, sel_0 rfl]
      · skip
        exact absurd c_2 c_6
    · skip
      refine lv_bipush (v := (-3)) hx hb dX9_floor_20 (by decide) ?_
      refine lv_istore_n (lv' := [(2, .int (-3)), (0, .ref (am 0)), (1, .int sp)]) hx hb dX9_floor_22 rfl hl (by decide) rfl (fun ls hl => ?_)
      refine lv_iload_n hx hb dX9_floor_23 rfl (lv_at hl 0 rfl) ?_
      refine lv_if_eq (tgt := 35) hx hb dX9_floor_24 (by decide) (fun c_8 => ?_) (fun c_8 => ?_)
      · skip
        exact absurd c_8 (by decide)
      · skip
        refine lv_aload_n hx hb dX9_floor_27 rfl (lv_at hl 1 rfl) ?_
        refine lv_iload_n hx hb dX9_floor_28 rfl (lv_at hl 0 rfl) ?_
        refine x_Vi (wN := fun _ => (wM G am ho rn ln pl sd lt ro (rfU rf (-3)) nb ++ [(am 1, .inl (G.2 0, 54, .inl (row r)))] ++ [(am 2, .inl (G.2 0, 54, .inl (row rm)))] ++ [(am 3, .inl (G.2 0, 54, .inl (row r2)))] ++ [(am 4, .inl (G.2 0, 54, .inl (row r4)))])) ⟨C0, hK, hP, hD, hS, hA⟩ 0 rfl (ci := 8) rfl rfl ((m9_no l G am ho rn ln pl sd lt ro rf nb (-3) noOk_k.2.2.1)) (cwV 1 hts (lw_V q1206 q1208 qs66 q95 q1209) rfl rfl rfl (by decide +kernel) ⟨Nat.le_of_ble_eq_true rfl, Nat.le_of_ble_eq_true rfl⟩) [0, 1, 2, 3, 4] [1, 3, 5, 7, 9, 10, 12, 14, 16] rfl (fun _ => rfl) rfl rfl hl.1 rfl (Nat.le_of_ble_eq_true rfl) dX9_floor_29 ⟨(Nat.le_of_ble_eq_true rfl), (Nat.le_of_ble_eq_true rfl)⟩ (fun r_9 u_9 H locs hw_9 hP hD hS => ?_)
        have hw_9 : ((-3) : Int32) = r_9 := hw_9.symm
        subst hw_9
        have hP : va_P G.1 vwCl (wM G am ho rn ln pl sd lt ro (rfU rf (-3)) nb ++ [(am 1, .inl (G.2 0, 54, .inl (row r)))] ++ [(am 2, .inl (G.2 0, 54, .inl (row rm)))] ++ [(am 3, .inl (G.2 0, 54, .inl (row r2)))] ++ [(am 4, .inl (G.2 0, 54, .inl (row r4)))]) H := hP
        have hD : va_D A (wM G am ho rn ln pl sd lt ro (rfU rf (-3)) nb ++ [(am 1, .inl (G.2 0, 54, .inl (row r)))] ++ [(am 2, .inl (G.2 0, 54, .inl (row rm)))] ++ [(am 3, .inl (G.2 0, 54, .inl (row r2)))] ++ [(am 4, .inl (G.2 0, 54, .inl (row r4)))]) := hD
        refine lv_goto (tgt := 45) hx hb dX9_floor_32 (by decide) ?_
        have hE : eW (wBy sp.toInt 0 9) (eS (bB r) (-3) 0) = (-3) := by rw [eW_0 c_2, eS_f (bB_f c_5)]
        have hne : ((-3) : Int32) ≠ 0 := (by decide)
        have hP : va_P G.1 vwCl (wM G am ho rn ln pl sd lt ro (sel (eW (wBy sp.toInt 0 9) (eS (bB r) (-3) 0)) rf (rfU rf (eW (wBy sp.toInt 0 9) (eS (bB r) (-3) 0)))) nb ++ [(am 1, .inl (G.2 0, 54, .inl (row (sel (eW (wBy sp.toInt 0 9) (eS (bB r) (-3) 0)) (pPullF r sp) r))))] ++ [(am 2, .inl (G.2 0, 54, .inl (row rm)))] ++ [(am 3, .inl (G.2 0, 54, .inl (row r2)))] ++ [(am 4, .inl (G.2 0, 54, .inl (row r4)))]) H := by rw [hE]; simp only [sel_n hne]; exact hP
        have hD : va_D A (wM G am ho rn ln pl sd lt ro (sel (eW (wBy sp.toInt 0 9) (eS (bB r) (-3) 0)) rf (rfU rf (eW (wBy sp.toInt 0 9) (eS (bB r) (-3) 0)))) nb ++ [(am 1, .inl (G.2 0, 54, .inl (row (sel (eW (wBy sp.toInt 0 9) (eS (bB r) (-3) 0)) (pPullF r sp) r))))] ++ [(am 2, .inl (G.2 0, 54, .inl (row rm)))] ++ [(am 3, .inl (G.2 0, 54, .inl (row r2)))] ++ [(am 4, .inl (G.2 0, 54, .inl (row r4)))]) := by rw [hE]; simp only [sel_n hne]; exact hD
        refine hret _ _ _ _ _ _ (-3) () dX9_floor_45 ?_ hP hD hS (Nat.le_of_ble_eq_true rfl) (Nat.le_of_ble_eq_true rfl)
        rw [hE, sel_n hne]
set_option maxHeartbeats 4000000 in
set_option maxRecDepth 100000 in
theorem n_lays (l : Launch) (G : xG) (am : Nat → Nat) (r rm r2 r4 : Rw) (ho rn ln pl sd : Int32) (lt ro rf nb : Nat → Int32) (hr : Ok r) (hp : r 5 3 = 0) : xCi l G yX9_lays cX9_lays 3 (some .int) ({ frames := 2, cells := 0, slots := 0, locals := 42 } : Room) [.ref (am 0)] (wM G am ho rn ln pl sd lt ro rf nb ++ [(am 1, .inl (G.2 0, 54, .inl (row r)))] ++ [(am 2, .inl (G.2 0, 54, .inl (row rm)))] ++ [(am 3, .inl (G.2 0, 54, .inl (row r2)))] ++ [(am 4, .inl (G.2 0, 54, .inl (row r4)))]) (S := Unit) (fun v _ => v = sel (eS (!bB r) (-3) 0) (nI (cn (pLyP (pLay r)) (mny r))) (eS (!bB r) (-3) 0)) (fun _ => (wM G am ho rn ln pl sd lt ro (sel (eS (!bB r) (-3) 0) rf (rfU rf (eS (!bB r) (-3) 0))) nb ++ [(am 1, .inl (G.2 0, 54, .inl (row (sel (eS (!bB r) (-3) 0) (pLay r) r))))] ++ [(am 2, .inl (G.2 0, 54, .inl (row rm)))] ++ [(am 3, .inl (G.2 0, 54, .inl (row r2)))] ++ [(am 4, .inl (G.2 0, 54, .inl (row r4)))])) := by
  refine x_openi (by decide) (Nat.le_of_ble_eq_true rfl) (fun _ _ _ => rfl) ?_
  intro p e s m args below meth c A Q ls C0 hK hP hD hA hl hret
  obtain ⟨hx, hb, hml, hown, hts⟩ := id C0
  have hS : va_S A s.heap s.heap [] := va_S.rf
  have hP : va_P G.1 vwCl (wM G am ho rn ln pl sd lt ro rf nb ++ [(am 1, .inl (G.2 0, 54, .inl (row r)))] ++ [(am 2, .inl (G.2 0, 54, .inl (row rm)))] ++ [(am 3, .inl (G.2 0, 54, .inl (row r2)))] ++ [(am 4, .inl (G.2 0, 54, .inl (row r4)))]) s.heap := hP
  have hD : va_D A (wM G am ho rn ln pl sd lt ro rf nb ++ [(am 1, .inl (G.2 0, 54, .inl (row r)))] ++ [(am 2, .inl (G.2 0, 54, .inl (row rm)))] ++ [(am 3, .inl (G.2 0, 54, .inl (row r2)))] ++ [(am 4, .inl (G.2 0, 54, .inl (row r4)))]) := hD
  have hl : lv_has ls 3 [(0, .ref (am 0))] := hl
  have hr0 := hr.n
  have hN := hr.le
  refine lv_aload_n hx hb dX9_lays_0 rfl (lv_at hl 0 rfl) ?_
  refine va_get (D := G.1) (ci := 8) (v := .ref (am 1)) (C := RX9) (T := TX9) (N := 13) hx hb hts in_X9 hown hK.1 hP 0 rfl rfl 0 (by decide) (hts _ q1162) (fun _ h9 => h9) rfl dX9_lays_1 ?_
  refine lv_iconst (v := 2) hx hb dX9_lays_4 (by decide) ?_
  refine x_ialdn (k := 2) hx hb hK.1 hP 5 0 rfl rfl (by decide) (by decide) (v := r 5 2) rfl dX9_lays_5 ?_
  refine lv_iconst (v := 1) hx hb dX9_lays_6 (by decide) ?_
  refine lv_icmp_ne (tgt := 17) hx hb dX9_lays_7 (by decide) (fun c_1 => ?_) (fun c_1 => ?_)
  · skip
    refine lv_aload_n hx hb dX9_lays_17 rfl (lv_at hl 0 rfl) ?_
    refine va_get (D := G.1) (ci := 8) (v := .ref (am 1)) (C := RX9) (T := TX9) (N := 13) hx hb hts in_X9 hown hK.1 hP 0 rfl rfl 0 (by decide) (hts _ q1162) (fun _ h9 => h9) rfl dX9_lays_18 ?_
    refine lv_iconst (v := 2) hx hb dX9_lays_21 (by decide) ?_
    refine lv_iconst (v := 1) hx hb dX9_lays_22 (by decide) ?_
    refine x_iastn (k := 2) hx hb hK.1 hP hD hS 5 0 rfl rfl (by decide) (by decide) (g := row (sf r 5 (upd (r 5) 2 1))) (row_uph _ (by decide) _) dX9_lays_23 (fun H locs hP hD hS => ?_)
    have hP : va_P G.1 vwCl (wM G am ho rn ln pl sd lt ro rf nb ++ [(am 1, .inl (G.2 0, 54, .inl (row (sf r 5 (upd (r 5) 2 1)))))] ++ [(am 2, .inl (G.2 0, 54, .inl (row rm)))] ++ [(am 3, .inl (G.2 0, 54, .inl (row r2)))] ++ [(am 4, .inl (G.2 0, 54, .inl (row r4)))]) H := hP
    have hD : va_D A (wM G am ho rn ln pl sd lt ro rf nb ++ [(am 1, .inl (G.2 0, 54, .inl (row (sf r 5 (upd (r 5) 2 1)))))] ++ [(am 2, .inl (G.2 0, 54, .inl (row rm)))] ++ [(am 3, .inl (G.2 0, 54, .inl (row r2)))] ++ [(am 4, .inl (G.2 0, 54, .inl (row r4)))]) := hD
    have hP : va_P G.1 vwCl (wM G am ho rn ln pl sd lt ro rf nb ++ [(am 1, .inl (G.2 0, 54, .inl (row (pLay r))))] ++ [(am 2, .inl (G.2 0, 54, .inl (row rm)))] ++ [(am 3, .inl (G.2 0, 54, .inl (row r2)))] ++ [(am 4, .inl (G.2 0, 54, .inl (row r4)))]) H := hP
    have hD : va_D A (wM G am ho rn ln pl sd lt ro rf nb ++ [(am 1, .inl (G.2 0, 54, .inl (row (pLay r))))] ++ [(am 2, .inl (G.2 0, 54, .inl (row rm)))] ++ [(am 3, .inl (G.2 0, 54, .inl (row r2)))] ++ [(am 4, .inl (G.2 0, 54, .inl (row r4)))]) := hD
    refine lv_iconst (v := 0) hx hb dX9_lays_24 (by decide) ?_
    refine lv_istore_n (lv' := [(1, .int 0), (0, .ref (am 0))]) hx hb dX9_lays_25 rfl hl (by decide) rfl (fun ls hl => ?_)
    refine lv_iconst (v := 0) hx hb dX9_lays_26 (by decide) ?_
    refine lv_istore_n (lv' := [(2, .int 0), (1, .int 0), (0, .ref (am 0))]) hx hb dX9_lays_27 rfl hl (by decide) rfl (fun ls hl => ?_)
    have loop_28 : ∀ (n : Nat) (i : Nat), (i ≤ mny r) → (mny r < i + n) → ∀ (H : Heap) (locs : List Loc) (ls : Array Slot), va_P G.1 vwCl (wM G am ho rn ln pl sd lt ro rf nb ++ [(am 1, .inl (G.2 0, 54, .inl (row (pLay r))))] ++ [(am 2, .inl (G.2 0, 54, .inl (row rm)))] ++ [(am 3, .inl (G.2 0, 54, .inl (row r2)))] ++ [(am 4, .inl (G.2 0, 54, .inl (row r4)))]) H → va_D A (wM G am ho rn ln pl sd lt ro rf nb ++ [(am 1, .inl (G.2 0, 54, .inl (row (pLay r))))] ++ [(am 2, .inl (G.2 0, 54, .inl (row rm)))] ++ [(am 3, .inl (G.2 0, 54, .inl (row r2)))] ++ [(am 4, .inl (G.2 0, 54, .inl (row r4)))]) → va_S A s.heap H locs → lv_has ls 3 [(2, .int (nI i)), (1, .int (nI (cn (pLyP (pLay r)) i))), (0, .ref (am 0))] → W p l e ({ frames := 2, cells := 0, slots := 0, locals := 42 } : Room) s m args below meth c H locs 0 0 Q (F0 m 28 ls []) := by
      intro n
      induction n with
      | zero => intro i hi28_0 hi28_1; exact absurd hi28_1 (by omega)
      | succ n ih_28 =>
        intro i hi28_0 hi28_1 H locs ls hP hD hS hl
        refine lv_iload_n hx hb dX9_lays_28 rfl (lv_at hl 0 rfl) ?_
        refine lv_aload_n hx hb dX9_lays_29 rfl (lv_at hl 2 rfl) ?_
        refine va_get (D := G.1) (ci := 8) (v := .ref (am 1)) (C := RX9) (T := TX9) (N := 13) hx hb hts in_X9 hown hK.1 hP 0 rfl rfl 0 (by decide) (hts _ q1162) (fun _ h9 => h9) rfl dX9_lays_30 ?_
        refine lv_iconst (v := 0) hx hb dX9_lays_33 (by decide) ?_
        refine x_ialdn (k := 0) hx hb hK.1 hP 5 0 rfl rfl (by decide) (by decide) (v := nI (mny r)) (hr0) dX9_lays_34 ?_
        refine lv_icmp_ge (tgt := 76) hx hb dX9_lays_35 (by decide) (fun c_2 => ?_) (fun c_2 => ?_)
        · skip
          have g_2 := (nI_leI (by omega) (by omega)).mp c_2
          refine lv_iload_n hx hb dX9_lays_76 rfl (lv_at hl 1 rfl) ?_
          have hE : eS (!bB r) (-3) 0 = 0 := by rw [eS_t (show (!bB r) = true by unfold bB; rw [decide_eq_false c_1]; rfl)]
          have hP : va_P G.1 vwCl (wM G am ho rn ln pl sd lt ro (sel (eS (!bB r) (-3) 0) rf (rfU rf (eS (!bB r) (-3) 0))) nb ++ [(am 1, .inl (G.2 0, 54, .inl (row (sel (eS (!bB r) (-3) 0) (pLay r) r))))] ++ [(am 2, .inl (G.2 0, 54, .inl (row rm)))] ++ [(am 3, .inl (G.2 0, 54, .inl (row r2)))] ++ [(am 4, .inl (G.2 0, 54, .inl (row r4)))]) H := by rw [hE]; simp only [sel_0 rfl]; exact hP
          have hD : va_D A (wM G am ho rn ln pl sd lt ro (sel (eS (!bB r) (-3) 0) rf (rfU rf (eS (!bB r) (-3) 0))) nb ++ [(am 1, .inl (G.2 0, 54, .inl (row (sel (eS (!bB r) (-3) 0) (pLay r) r))))] ++ [(am 2, .inl (G.2 0, 54, .inl (row rm)))] ++ [(am 3, .inl (G.2 0, 54, .inl (row r2)))] ++ [(am 4, .inl (G.2 0, 54, .inl (row r4)))]) := by rw [hE]; simp only [sel_0 rfl]; exact hD
          refine hret _ _ _ _ _ _ (nI (cn (pLyP (pLay r)) i)) () dX9_lays_77 ?_ hP hD hS (Nat.le_of_ble_eq_true rfl) (Nat.le_of_ble_eq_true rfl)
          rw [hE, sel_0 rfl]
          rw [show i = mny r by omega]
        · skip
          have g_2 := mt (nI_leI (by omega) (by omega)).mpr c_2
          refine lv_iload_n hx hb dX9_lays_38 rfl (lv_at hl 1 rfl) ?_
          refine lv_aload_n hx hb dX9_lays_39 rfl (lv_at hl 2 rfl) ?_
          refine va_get (D := G.1) (ci := 8) (v := .ref (am 1)) (C := RX9) (T := TX9) (N := 13) hx hb hts in_X9 hown hK.1 hP 0 rfl rfl 0 (by decide) (hts _ q1162) (fun _ h9 => h9) rfl dX9_lays_40 ?_
          refine lv_iload_n hx hb dX9_lays_43 rfl (lv_at hl 0 rfl) ?_
          refine x_Si (wN := fun _ => (wM G am ho rn ln pl sd lt ro rf nb ++ [(am 1, .inl (G.2 0, 54, .inl (row (pLay r))))] ++ [(am 2, .inl (G.2 0, 54, .inl (row rm)))] ++ [(am 3, .inl (G.2 0, 54, .inl (row r2)))] ++ [(am 4, .inl (G.2 0, 54, .inl (row r4)))])) ⟨C0, hK, hP, hD, hS, hA⟩ ((m9_stands l G (am 1) (pLay r) (Ok.lay hr) i (by omega))) (va_cwS 2 hts (lw_S q1251 q1252 q95 q1253) rfl rfl rfl (by decide +kernel) ⟨Nat.le_of_ble_eq_true rfl, Nat.le_of_ble_eq_true rfl⟩) [5] [0, 2, 4, 6, 8, 1, 12, 14, 16] rfl (fun _ => rfl) rfl rfl hl.1 rfl (Nat.le_of_ble_eq_true rfl) dX9_lays_44 ⟨(Nat.le_of_ble_eq_true rfl), (Nat.le_of_ble_eq_true rfl)⟩ (fun r_3 u_3 H locs hw_3 hP hD hS => ?_)
          have hw_3 : (bI (pSt (pLay r) i) : Int32) = r_3 := hw_3.symm
          subst hw_3
          refine lv_if_eq (tgt := 67) hx hb dX9_lays_47 (by decide) (fun c_4 => ?_) (fun c_4 => ?_)
          · skip
            refine lv_iconst (v := 0) hx hb dX9_lays_67 (by decide) ?_
            refine x_iadd hx hb dX9_lays_68 (v := nI (cn (pLyP (pLay r)) (i + 1))) (cnI_f (by unfold pLyP; rw [show pSt (pLay r) i = false from (by first | exact bI_n0 c_4 | exact bI_0.mp c_4)]; rfl)) ?_
            refine lv_istore_n (lv' := [(1, .int (nI (cn (pLyP (pLay r)) (i + 1)))), (2, .int (nI i)), (0, .ref (am 0))]) hx hb dX9_lays_69 rfl hl (by decide) rfl (fun ls hl => ?_)
            refine lv_iinc (v := nI (i + 1)) (lv' := [(2, .int (nI (i + 1))), (1, .int (nI (cn (pLyP (pLay r)) (i + 1)))), (0, .ref (am 0))]) hx hb dX9_lays_70 hl (k := 1) rfl (x_inc1 _) (by decide) rfl (fun ls hl => ?_)
            refine lv_goto (tgt := 28) hx hb dX9_lays_73 (by decide) ?_
            exact ih_28 (i + 1) (by omega) (by omega) _ _ _ hP hD hS (lv_sub hl [0, 1, 2] rfl)
          · skip
            refine lv_aload_n hx hb dX9_lays_50 rfl (lv_at hl 2 rfl) ?_
            refine va_get (D := G.1) (ci := 8) (v := .ref (am 1)) (C := RX9) (T := TX9) (N := 13) hx hb hts in_X9 hown hK.1 hP 0 rfl rfl 0 (by decide) (hts _ q1162) (fun _ h9 => h9) rfl dX9_lays_51 ?_
            refine lv_iload_n hx hb dX9_lays_54 rfl (lv_at hl 0 rfl) ?_
            refine lv_iconst (v := 2) hx hb dX9_lays_55 (by decide) ?_
            refine x_Si (wN := fun _ => (wM G am ho rn ln pl sd lt ro rf nb ++ [(am 1, .inl (G.2 0, 54, .inl (row (pLay r))))] ++ [(am 2, .inl (G.2 0, 54, .inl (row rm)))] ++ [(am 3, .inl (G.2 0, 54, .inl (row r2)))] ++ [(am 4, .inl (G.2 0, 54, .inl (row r4)))])) ⟨C0, hK, hP, hD, hS, hA⟩ ((m9_of l G i 2)) (va_cwS 2 hts (lw_S q1254 q1255 q95 q1256) rfl rfl rfl (by decide +kernel) ⟨Nat.le_of_ble_eq_true rfl, Nat.le_of_ble_eq_true rfl⟩) [] [0, 2, 4, 6, 8, 10, 12, 14, 16] rfl (fun _ => rfl) rfl rfl hl.1 rfl (Nat.le_of_ble_eq_true rfl) dX9_lays_56 ⟨(Nat.le_of_ble_eq_true rfl), (Nat.le_of_ble_eq_true rfl)⟩ (fun r_5 u_5 H locs hw_5 hP hD hS => ?_)
            have hw_5 : (nI (4 + 5 * i + 2) : Int32) = r_5 := hw_5.symm
            subst hw_5
            refine x_ialdn (k := (4 + 5 * i + 2)) hx hb hK.1 hP 5 0 rfl rfl (by omega) (by decide) (v := ((pLay r) 2) i) (row_at _ (by decide)) dX9_lays_59 ?_
            refine lv_if_ge (tgt := 67) hx hb dX9_lays_60 (by decide) (fun c_6 => ?_) (fun c_6 => ?_)
            · skip
              refine lv_iconst (v := 0) hx hb dX9_lays_67 (by decide) ?_
              refine x_iadd hx hb dX9_lays_68 (v := nI (cn (pLyP (pLay r)) (i + 1))) (cnI_f (by unfold pLyP; rw [decide_eq_false (show ¬ pLay r 2 i = -9 from on9_n hr (by omega) c_6)]; simp)) ?_
              refine lv_istore_n (lv' := [(1, .int (nI (cn (pLyP (pLay r)) (i + 1)))), (2, .int (nI i)), (0, .ref (am 0))]) hx hb dX9_lays_69 rfl hl (by decide) rfl (fun ls hl => ?_)
              refine lv_iinc (v := nI (i + 1)) (lv' := [(2, .int (nI (i + 1))), (1, .int (nI (cn (pLyP (pLay r)) (i + 1)))), (0, .ref (am 0))]) hx hb dX9_lays_70 hl (k := 1) rfl (x_inc1 _) (by decide) rfl (fun ls hl => ?_)
              refine lv_goto (tgt := 28) hx hb dX9_lays_73 (by decide) ?_
              exact ih_28 (i + 1) (by omega) (by omega) _ _ _ hP hD hS (lv_sub hl [0, 1, 2] rfl)
            · skip
              refine lv_iconst (v := 1) hx hb dX9_lays_63 (by decide) ?_
              refine lv_goto (tgt := 68) hx hb dX9_lays_64 (by decide) ?_
              refine x_iadd hx hb dX9_lays_68 (v := nI (cn (pLyP (pLay r)) (i + 1))) (cnI_t (by unfold pLyP; rw [show pSt (pLay r) i = true from (by first | exact bI_n0 c_4 | exact bI_0.mp c_4), decide_eq_true (show pLay r 2 i = -9 from on9_lt hr (by omega) c_6)]; rfl)) ?_
              refine lv_istore_n (lv' := [(1, .int (nI (cn (pLyP (pLay r)) (i + 1)))), (2, .int (nI i)), (0, .ref (am 0))]) hx hb dX9_lays_69 rfl hl (by decide) rfl (fun ls hl => ?_)
              refine lv_iinc (v := nI (i + 1)) (lv' := [(2, .int (nI (i + 1))), (1, .int (nI (cn (pLyP (pLay r)) (i + 1)))), (0, .ref (am 0))]) hx hb dX9_lays_70 hl (k := 1) rfl (x_inc1 _) (by decide) rfl (fun ls hl => ?_)
              refine lv_goto (tgt := 28) hx hb dX9_lays_73 (by decide) ?_
              exact ih_28 (i + 1) (by omega) (by omega) _ _ _ hP hD hS (lv_sub hl [0, 1, 2] rfl)
    exact loop_28 (mny r + 1) 0 (by omega) (by omega) _ _ _ hP hD hS (lv_sub hl [0, 1, 2] rfl)
  · skip
    refine lv_aload_n hx hb dX9_lays_10 rfl (lv_at hl 0 rfl) ?_
    refine lv_bipush (v := (-3)) hx hb dX9_lays_11 (by decide) ?_
    refine x_Vi (wN := fun _ => (wM G am ho rn ln pl sd lt ro (rfU rf (-3)) nb ++ [(am 1, .inl (G.2 0, 54, .inl (row r)))] ++ [(am 2, .inl (G.2 0, 54, .inl (row rm)))] ++ [(am 3, .inl (G.2 0, 54, .inl (row r2)))] ++ [(am 4, .inl (G.2 0, 54, .inl (row r4)))])) ⟨C0, hK, hP, hD, hS, hA⟩ 0 rfl (ci := 8) rfl rfl ((m9_no l G am ho rn ln pl sd lt ro rf nb (-3) noOk_k.2.2.1)) (cwV 1 hts (lw_V q1206 q1208 qs66 q95 q1209) rfl rfl rfl (by decide +kernel) ⟨Nat.le_of_ble_eq_true rfl, Nat.le_of_ble_eq_true rfl⟩) [0, 1, 2, 3, 4] [1, 3, 5, 7, 9, 10, 12, 14, 16] rfl (fun _ => rfl) rfl rfl hl.1 rfl (Nat.le_of_ble_eq_true rfl) dX9_lays_13 ⟨(Nat.le_of_ble_eq_true rfl), (Nat.le_of_ble_eq_true rfl)⟩ (fun r_7 u_7 H locs hw_7 hP hD hS => ?_)
    have hw_7 : ((-3) : Int32) = r_7 := hw_7.symm
    subst hw_7
    have hP : va_P G.1 vwCl (wM G am ho rn ln pl sd lt ro (rfU rf (-3)) nb ++ [(am 1, .inl (G.2 0, 54, .inl (row r)))] ++ [(am 2, .inl (G.2 0, 54, .inl (row rm)))] ++ [(am 3, .inl (G.2 0, 54, .inl (row r2)))] ++ [(am 4, .inl (G.2 0, 54, .inl (row r4)))]) H := hP
    have hD : va_D A (wM G am ho rn ln pl sd lt ro (rfU rf (-3)) nb ++ [(am 1, .inl (G.2 0, 54, .inl (row r)))] ++ [(am 2, .inl (G.2 0, 54, .inl (row rm)))] ++ [(am 3, .inl (G.2 0, 54, .inl (row r2)))] ++ [(am 4, .inl (G.2 0, 54, .inl (row r4)))]) := hD
    have hE : eS (!bB r) (-3) 0 = (-3) := by rw [eS_f (show (!bB r) = false by unfold bB; rw [decide_eq_true (show r 5 2 = 1 from c_1)]; rfl)]
    have hne : ((-3) : Int32) ≠ 0 := (by decide)
    have hP : va_P G.1 vwCl (wM G am ho rn ln pl sd lt ro (sel (eS (!bB r) (-3) 0) rf (rfU rf (eS (!bB r) (-3) 0))) nb ++ [(am 1, .inl (G.2 0, 54, .inl (row (sel (eS (!bB r) (-3) 0) (pLay r) r))))] ++ [(am 2, .inl (G.2 0, 54, .inl (row rm)))] ++ [(am 3, .inl (G.2 0, 54, .inl (row r2)))] ++ [(am 4, .inl (G.2 0, 54, .inl (row r4)))]) H := by rw [hE]; simp only [sel_n hne]; exact hP
    have hD : va_D A (wM G am ho rn ln pl sd lt ro (sel (eS (!bB r) (-3) 0) rf (rfU rf (eS (!bB r) (-3) 0))) nb ++ [(am 1, .inl (G.2 0, 54, .inl (row (sel (eS (!bB r) (-3) 0) (pLay r) r))))] ++ [(am 2, .inl (G.2 0, 54, .inl (row rm)))] ++ [(am 3, .inl (G.2 0, 54, .inl (row r2)))] ++ [(am 4, .inl (G.2 0, 54, .inl (row r4)))]) := by rw [hE]; simp only [sel_n hne]; exact hD
    refine hret _ _ _ _ _ _ (-3) () dX9_lays_16 ?_ hP hD hS (Nat.le_of_ble_eq_true rfl) (Nat.le_of_ble_eq_true rfl)
    rw [hE, sel_n hne]
set_option maxHeartbeats 4000000 in
set_option maxRecDepth 100000 in
theorem n_setsUp (l : Launch) (G : xG) (am : Nat → Nat) (r rm r2 r4 : Rw) (ho rn ln pl sd : Int32) (lt ro rf nb : Nat → Int32) (hr : Ok r) (hp : r 5 3 = 0) (t : Int32) : xCi l G yX9_setsUp cX9_setsUp 2 (some .int) ({ frames := 3, cells := 0, slots := 0, locals := 64 } : Room) [.ref (am 0), .int t] (wM G am ho rn ln pl sd lt ro rf nb ++ [(am 1, .inl (G.2 0, 54, .inl (row r)))] ++ [(am 2, .inl (G.2 0, 54, .inl (row rm)))] ++ [(am 3, .inl (G.2 0, 54, .inl (row r2)))] ++ [(am 4, .inl (G.2 0, 54, .inl (row r4)))]) (S := Unit) (fun v _ => v = sel (eS (tB r t) (-1) (eS (pHow r 1 (ix t)) (-3) 0)) (bI (pHeld (pSetUp r (ix t)) (ix t))) (eS (tB r t) (-1) (eS (pHow r 1 (ix t)) (-3) 0))) (fun _ => (wM G am ho rn ln pl sd lt ro (sel (eS (tB r t) (-1) (eS (pHow r 1 (ix t)) (-3) 0)) rf (rfU rf (eS (tB r t) (-1) (eS (pHow r 1 (ix t)) (-3) 0)))) nb ++ [(am 1, .inl (G.2 0, 54, .inl (row (sel (eS (tB r t) (-1) (eS (pHow r 1 (ix t)) (-3) 0)) (pSetUp r (ix t)) r))))] ++ [(am 2, .inl (G.2 0, 54, .inl (row rm)))] ++ [(am 3, .inl (G.2 0, 54, .inl (row r2)))] ++ [(am 4, .inl (G.2 0, 54, .inl (row r4)))])) := by
  refine x_openi (by decide) (Nat.le_of_ble_eq_true rfl) (fun _ _ _ => rfl) ?_
  intro p e s m args below meth c A Q ls C0 hK hP hD hA hl hret
  obtain ⟨hx, hb, hml, hown, hts⟩ := id C0
  have hS : va_S A s.heap s.heap [] := va_S.rf
  have hP : va_P G.1 vwCl (wM G am ho rn ln pl sd lt ro rf nb ++ [(am 1, .inl (G.2 0, 54, .inl (row r)))] ++ [(am 2, .inl (G.2 0, 54, .inl (row rm)))] ++ [(am 3, .inl (G.2 0, 54, .inl (row r2)))] ++ [(am 4, .inl (G.2 0, 54, .inl (row r4)))]) s.heap := hP
  have hD : va_D A (wM G am ho rn ln pl sd lt ro rf nb ++ [(am 1, .inl (G.2 0, 54, .inl (row r)))] ++ [(am 2, .inl (G.2 0, 54, .inl (row rm)))] ++ [(am 3, .inl (G.2 0, 54, .inl (row r2)))] ++ [(am 4, .inl (G.2 0, 54, .inl (row r4)))]) := hD
  have hl : lv_has ls 2 [(0, .ref (am 0)), (1, .int t)] := hl
  have hr0 := hr.n
  have hN := hr.le
  refine lv_aload_n hx hb dX9_setsUp_0 rfl (lv_at hl 0 rfl) ?_
  refine lv_iload_n hx hb dX9_setsUp_1 rfl (lv_at hl 1 rfl) ?_
  refine x_Vi (wN := fun _ => (wM G am ho rn ln pl sd lt ro rf nb ++ [(am 1, .inl (G.2 0, 54, .inl (row r)))] ++ [(am 2, .inl (G.2 0, 54, .inl (row rm)))] ++ [(am 3, .inl (G.2 0, 54, .inl (row r2)))] ++ [(am 4, .inl (G.2 0, 54, .inl (row r4)))])) ⟨C0, hK, hP, hD, hS, hA⟩ 0 rfl (ci := 8) rfl rfl ((m9_isThing l G am r rm r2 r4 ho rn ln pl sd lt ro rf nb hr hp t)) (cwV 1 hts (lw_V q1247 q1249 qs73 q95 q1250) rfl rfl rfl (by decide +kernel) ⟨Nat.le_of_ble_eq_true rfl, Nat.le_of_ble_eq_true rfl⟩) [0, 1, 2, 3, 4, 5, 6, 7, 8] [1, 3, 5, 7, 9, 11, 13, 15, 17] rfl (fun _ => rfl) rfl rfl hl.1 rfl (Nat.le_of_ble_eq_true rfl) dX9_setsUp_2 ⟨(Nat.le_of_ble_eq_true rfl), (Nat.le_of_ble_eq_true rfl)⟩ (fun r_1 u_1 H locs hw_1 hP hD hS => ?_)
  have hw_1 : (bI (tB r t) : Int32) = r_1 := hw_1.symm
  subst hw_1
  refine lv_if_ne (tgt := 14) hx hb dX9_setsUp_5 (by decide) (fun c_2 => ?_) (fun c_2 => ?_)
  · skip
    obtain ⟨hj_t, et_t⟩ := tB_ix hN (by first | exact bI_n0 c_2 | exact bI_0.mp c_2)
    rw [et_t] at hl
    refine lv_aload_n hx hb dX9_setsUp_14 rfl (lv_at hl 0 rfl) ?_
    refine va_get (D := G.1) (ci := 8) (v := .ref (am 1)) (C := RX9) (T := TX9) (N := 13) hx hb hts in_X9 hown hK.1 hP 0 rfl rfl 0 (by decide) (hts _ q1162) (fun _ h9 => h9) rfl dX9_setsUp_15 ?_
    refine lv_iload_n hx hb dX9_setsUp_18 rfl (lv_at hl 1 rfl) ?_
    refine lv_iconst (v := 3) hx hb dX9_setsUp_19 (by decide) ?_
    refine x_Si (wN := fun _ => (wM G am ho rn ln pl sd lt ro rf nb ++ [(am 1, .inl (G.2 0, 54, .inl (row r)))] ++ [(am 2, .inl (G.2 0, 54, .inl (row rm)))] ++ [(am 3, .inl (G.2 0, 54, .inl (row r2)))] ++ [(am 4, .inl (G.2 0, 54, .inl (row r4)))])) ⟨C0, hK, hP, hD, hS, hA⟩ ((m9_of l G (ix t) 3)) (va_cwS 2 hts (lw_S q1254 q1255 q95 q1256) rfl rfl rfl (by decide +kernel) ⟨Nat.le_of_ble_eq_true rfl, Nat.le_of_ble_eq_true rfl⟩) [] [0, 2, 4, 6, 8, 10, 12, 14, 16] rfl (fun _ => rfl) rfl rfl hl.1 rfl (Nat.le_of_ble_eq_true rfl) dX9_setsUp_20 ⟨(Nat.le_of_ble_eq_true rfl), (Nat.le_of_ble_eq_true rfl)⟩ (fun r_3 u_3 H locs hw_3 hP hD hS => ?_)
    have hw_3 : (nI (4 + 5 * (ix t) + 3) : Int32) = r_3 := hw_3.symm
    subst hw_3
    refine x_ialdn (k := (4 + 5 * (ix t) + 3)) hx hb hK.1 hP 5 0 rfl rfl (by omega) (by decide) (v := (r 3) (ix t)) (row_at _ (by decide)) dX9_setsUp_23 ?_
    refine lv_iconst (v := 1) hx hb dX9_setsUp_24 (by decide) ?_
    refine lv_icmp_eq (tgt := 35) hx hb dX9_setsUp_25 (by decide) (fun c_4 => ?_) (fun c_4 => ?_)
    · skip
      refine lv_aload_n hx hb dX9_setsUp_35 rfl (lv_at hl 0 rfl) ?_
      refine va_get (D := G.1) (ci := 8) (v := .ref (am 1)) (C := RX9) (T := TX9) (N := 13) hx hb hts in_X9 hown hK.1 hP 0 rfl rfl 0 (by decide) (hts _ q1162) (fun _ h9 => h9) rfl dX9_setsUp_36 ?_
      refine lv_iload_n hx hb dX9_setsUp_39 rfl (lv_at hl 1 rfl) ?_
      refine lv_iconst (v := 3) hx hb dX9_setsUp_40 (by decide) ?_
      refine x_Si (wN := fun _ => (wM G am ho rn ln pl sd lt ro rf nb ++ [(am 1, .inl (G.2 0, 54, .inl (row r)))] ++ [(am 2, .inl (G.2 0, 54, .inl (row rm)))] ++ [(am 3, .inl (G.2 0, 54, .inl (row r2)))] ++ [(am 4, .inl (G.2 0, 54, .inl (row r4)))])) ⟨C0, hK, hP, hD, hS, hA⟩ ((m9_of l G (ix t) 3)) (va_cwS 2 hts (lw_S q1254 q1255 q95 q1256) rfl rfl rfl (by decide +kernel) ⟨Nat.le_of_ble_eq_true rfl, Nat.le_of_ble_eq_true rfl⟩) [] [0, 2, 4, 6, 8, 10, 12, 14, 16] rfl (fun _ => rfl) rfl rfl hl.1 rfl (Nat.le_of_ble_eq_true rfl) dX9_setsUp_41 ⟨(Nat.le_of_ble_eq_true rfl), (Nat.le_of_ble_eq_true rfl)⟩ (fun r_5 u_5 H locs hw_5 hP hD hS => ?_)
      have hw_5 : (nI (4 + 5 * (ix t) + 3) : Int32) = r_5 := hw_5.symm
      subst hw_5
      refine lv_iconst (v := 0) hx hb dX9_setsUp_44 (by decide) ?_
      refine x_iastn (k := (4 + 5 * (ix t) + 3)) hx hb hK.1 hP hD hS 5 0 rfl rfl (by omega) (by decide) (g := row (sf r 3 (upd (r 3) (ix t) 0))) (row_up _ (by decide) _) dX9_setsUp_45 (fun H locs hP hD hS => ?_)
      have hP : va_P G.1 vwCl (wM G am ho rn ln pl sd lt ro rf nb ++ [(am 1, .inl (G.2 0, 54, .inl (row (sf r 3 (upd (r 3) (ix t) 0)))))] ++ [(am 2, .inl (G.2 0, 54, .inl (row rm)))] ++ [(am 3, .inl (G.2 0, 54, .inl (row r2)))] ++ [(am 4, .inl (G.2 0, 54, .inl (row r4)))]) H := hP
      have hD : va_D A (wM G am ho rn ln pl sd lt ro rf nb ++ [(am 1, .inl (G.2 0, 54, .inl (row (sf r 3 (upd (r 3) (ix t) 0)))))] ++ [(am 2, .inl (G.2 0, 54, .inl (row rm)))] ++ [(am 3, .inl (G.2 0, 54, .inl (row r2)))] ++ [(am 4, .inl (G.2 0, 54, .inl (row r4)))]) := hD
      refine lv_aload_n hx hb dX9_setsUp_46 rfl (lv_at hl 0 rfl) ?_
      refine va_get (D := G.1) (ci := 8) (v := .ref (am 1)) (C := RX9) (T := TX9) (N := 13) hx hb hts in_X9 hown hK.1 hP 0 rfl rfl 0 (by decide) (hts _ q1162) (fun _ h9 => h9) rfl dX9_setsUp_47 ?_
      refine lv_iload_n hx hb dX9_setsUp_50 rfl (lv_at hl 1 rfl) ?_
      refine lv_iconst (v := 4) hx hb dX9_setsUp_51 (by decide) ?_
      refine x_Si (wN := fun _ => (wM G am ho rn ln pl sd lt ro rf nb ++ [(am 1, .inl (G.2 0, 54, .inl (row (sf r 3 (upd (r 3) (ix t) 0)))))] ++ [(am 2, .inl (G.2 0, 54, .inl (row rm)))] ++ [(am 3, .inl (G.2 0, 54, .inl (row r2)))] ++ [(am 4, .inl (G.2 0, 54, .inl (row r4)))])) ⟨C0, hK, hP, hD, hS, hA⟩ ((m9_of l G (ix t) 4)) (va_cwS 2 hts (lw_S q1254 q1255 q95 q1256) rfl rfl rfl (by decide +kernel) ⟨Nat.le_of_ble_eq_true rfl, Nat.le_of_ble_eq_true rfl⟩) [] [0, 2, 4, 6, 8, 10, 12, 14, 16] rfl (fun _ => rfl) rfl rfl hl.1 rfl (Nat.le_of_ble_eq_true rfl) dX9_setsUp_52 ⟨(Nat.le_of_ble_eq_true rfl), (Nat.le_of_ble_eq_true rfl)⟩ (fun r_6 u_6 H locs hw_6 hP hD hS => ?_)
      have hw_6 : (nI (4 + 5 * (ix t) + 4) : Int32) = r_6 := hw_6.symm
      subst hw_6
      refine lv_iconst (v := 0) hx hb dX9_setsUp_55 (by decide) ?_
      refine x_iastn (k := (4 + 5 * (ix t) + 4)) hx hb hK.1 hP hD hS 5 0 rfl rfl (by omega) (by decide) (g := row (sf (sf r 3 (upd (r 3) (ix t) 0)) 4 (upd (r 4) (ix t) 0))) (row_up _ (by decide) _) dX9_setsUp_56 (fun H locs hP hD hS => ?_)
      have hP : va_P G.1 vwCl (wM G am ho rn ln pl sd lt ro rf nb ++ [(am 1, .inl (G.2 0, 54, .inl (row (sf (sf r 3 (upd (r 3) (ix t) 0)) 4 (upd (r 4) (ix t) 0)))))] ++ [(am 2, .inl (G.2 0, 54, .inl (row rm)))] ++ [(am 3, .inl (G.2 0, 54, .inl (row r2)))] ++ [(am 4, .inl (G.2 0, 54, .inl (row r4)))]) H := hP
      have hD : va_D A (wM G am ho rn ln pl sd lt ro rf nb ++ [(am 1, .inl (G.2 0, 54, .inl (row (sf (sf r 3 (upd (r 3) (ix t) 0)) 4 (upd (r 4) (ix t) 0)))))] ++ [(am 2, .inl (G.2 0, 54, .inl (row rm)))] ++ [(am 3, .inl (G.2 0, 54, .inl (row r2)))] ++ [(am 4, .inl (G.2 0, 54, .inl (row r4)))]) := hD
      refine lv_aload_n hx hb dX9_setsUp_57 rfl (lv_at hl 0 rfl) ?_
      refine va_get (D := G.1) (ci := 8) (v := .ref (am 1)) (C := RX9) (T := TX9) (N := 13) hx hb hts in_X9 hown hK.1 hP 0 rfl rfl 0 (by decide) (hts _ q1162) (fun _ h9 => h9) rfl dX9_setsUp_58 ?_
      refine lv_iload_n hx hb dX9_setsUp_61 rfl (lv_at hl 1 rfl) ?_
      refine x_Si (wN := fun _ => (wM G am ho rn ln pl sd lt ro rf nb ++ [(am 1, .inl (G.2 0, 54, .inl (row (sf (sf r 3 (upd (r 3) (ix t) 0)) 4 (upd (r 4) (ix t) 0)))))] ++ [(am 2, .inl (G.2 0, 54, .inl (row rm)))] ++ [(am 3, .inl (G.2 0, 54, .inl (row r2)))] ++ [(am 4, .inl (G.2 0, 54, .inl (row r4)))])) ⟨C0, hK, hP, hD, hS, hA⟩ ((m9_isHeld l G (am 1) (sf (sf r 3 (upd (r 3) (ix t) 0)) 4 (upd (r 4) (ix t) 0)) hr (ix t) (show ix t < mny r by omega))) (va_cwS 2 hts (lw_S q1278 q1279 q95 q1280) rfl rfl rfl (by decide +kernel) ⟨Nat.le_of_ble_eq_true rfl, Nat.le_of_ble_eq_true rfl⟩) [5] [0, 2, 4, 6, 8, 1, 12, 14, 16] rfl (fun _ => rfl) rfl rfl hl.1 rfl (Nat.le_of_ble_eq_true rfl) dX9_setsUp_62 ⟨(Nat.le_of_ble_eq_true rfl), (Nat.le_of_ble_eq_true rfl)⟩ (fun r_7 u_7 H locs hw_7 hP hD hS => ?_)
      have hw_7 : (bI (pHl (sf (sf r 3 (upd (r 3) (ix t) 0)) 4 (upd (r 4) (ix t) 0)) (ix t)) : Int32) = r_7 := hw_7.symm
      subst hw_7
      refine lv_if_eq (tgt := 72) hx hb dX9_setsUp_65 (by decide) (fun c_8 => ?_) (fun c_8 => ?_)
      · skip
        refine lv_iconst (v := 0) hx hb dX9_setsUp_72 (by decide) ?_
        have hE : eS (tB r t) (-1) (eS (pHow r 1 (ix t)) (-3) 0) = 0 := by rw [eS_t (show tB r t = true from (by have h9 := c_2; simpa [bI_0] using h9)), eS_t (show pHow r 1 (ix t) = true from decide_eq_true c_4)]
        have hP : va_P G.1 vwCl (wM G am ho rn ln pl sd lt ro (sel (eS (tB r t) (-1) (eS (pHow r 1 (ix t)) (-3) 0)) rf (rfU rf (eS (tB r t) (-1) (eS (pHow r 1 (ix t)) (-3) 0)))) nb ++ [(am 1, .inl (G.2 0, 54, .inl (row (sel (eS (tB r t) (-1) (eS (pHow r 1 (ix t)) (-3) 0)) (pSetUp r (ix t)) r))))] ++ [(am 2, .inl (G.2 0, 54, .inl (row rm)))] ++ [(am 3, .inl (G.2 0, 54, .inl (row r2)))] ++ [(am 4, .inl (G.2 0, 54, .inl (row r4)))]) H := by rw [hE]; simp only [sel_0 rfl]; exact hP
        have hD : va_D A (wM G am ho rn ln pl sd lt ro (sel (eS (tB r t) (-1) (eS (pHow r 1 (ix t)) (-3) 0)) rf (rfU rf (eS (tB r t) (-1) (eS (pHow r 1 (ix t)) (-3) 0)))) nb ++ [(am 1, .inl (G.2 0, 54, .inl (row (sel (eS (tB r t) (-1) (eS (pHow r 1 (ix t)) (-3) 0)) (pSetUp r (ix t)) r))))] ++ [(am 2, .inl (G.2 0, 54, .inl (row rm)))] ++ [(am 3, .inl (G.2 0, 54, .inl (row r2)))] ++ [(am 4, .inl (G.2 0, 54, .inl (row r4)))]) := by rw [hE]; simp only [sel_0 rfl]; exact hD
        refine hret _ _ _ _ _ _ 0 () dX9_setsUp_73 ?_ hP hD hS (Nat.le_of_ble_eq_true rfl) (Nat.le_of_ble_eq_true rfl)
        rw [hE, sel_0 rfl]
        exact bI_F (by show (pSt (pSetUp r (ix t)) (ix t) && pHl (pSetUp r (ix t)) (ix t)) = false; rw [pSt_up, show pHl (pSetUp r (ix t)) (ix t) = false from (by first | exact bI_n0 c_8 | exact bI_0.mp c_8)]; rfl)
      · skip
        refine lv_iconst (v := 1) hx hb dX9_setsUp_68 (by decide) ?_
        refine lv_goto (tgt := 73) hx hb dX9_setsUp_69 (by decide) ?_
        have hE : eS (tB r t) (-1) (eS (pHow r 1 (ix t)) (-3) 0) = 0 := by rw [eS_t (show tB r t = true from (by have h9 := c_2; simpa [bI_0] using h9)), eS_t (show pHow r 1 (ix t) = true from decide_eq_true c_4)]
        have hP : va_P G.1 vwCl (wM G am ho rn ln pl sd lt ro (sel (eS (tB r t) (-1) (eS (pHow r 1 (ix t)) (-3) 0)) rf (rfU rf (eS (tB r t) (-1) (eS (pHow r 1 (ix t)) (-3) 0)))) nb ++ [(am 1, .inl (G.2 0, 54, .inl (row (sel (eS (tB r t) (-1) (eS (pHow r 1 (ix t)) (-3) 0)) (pSetUp r (ix t)) r))))] ++ [(am 2, .inl (G.2 0, 54, .inl (row rm)))] ++ [(am 3, .inl (G.2 0, 54, .inl (row r2)))] ++ [(am 4, .inl (G.2 0, 54, .inl (row r4)))]) H := by rw [hE]; simp only [sel_0 rfl]; exact hP
        have hD : va_D A (wM G am ho rn ln pl sd lt ro (sel (eS (tB r t) (-1) (eS (pHow r 1 (ix t)) (-3) 0)) rf (rfU rf (eS (tB r t) (-1) (eS (pHow r 1 (ix t)) (-3) 0)))) nb ++ [(am 1, .inl (G.2 0, 54, .inl (row (sel (eS (tB r t) (-1) (eS (pHow r 1 (ix t)) (-3) 0)) (pSetUp r (ix t)) r))))] ++ [(am 2, .inl (G.2 0, 54, .inl (row rm)))] ++ [(am 3, .inl (G.2 0, 54, .inl (row r2)))] ++ [(am 4, .inl (G.2 0, 54, .inl (row r4)))]) := by rw [hE]; simp only [sel_0 rfl]; exact hD
        refine hret _ _ _ _ _ _ 1 () dX9_setsUp_73 ?_ hP hD hS (Nat.le_of_ble_eq_true rfl) (Nat.le_of_ble_eq_true rfl)
        rw [hE, sel_0 rfl]
        exact bI_T (by show (pSt (pSetUp r (ix t)) (ix t) && pHl (pSetUp r (ix t)) (ix t)) = true; rw [pSt_up, show pHl (pSetUp r (ix t)) (ix t) = true from (by first | exact bI_n0 c_8 | exact bI_0.mp c_8)]; rfl)
    · skip
      refine lv_aload_n hx hb dX9_setsUp_28 rfl (lv_at hl 0 rfl) ?_
      refine lv_bipush (v := (-3)) hx hb dX9_setsUp_29 (by decide) ?_
      refine x_Vi (wN := fun _ => (wM G am ho rn ln pl sd lt ro (rfU rf (-3)) nb ++ [(am 1, .inl (G.2 0, 54, .inl (row r)))] ++ [(am 2, .inl (G.2 0, 54, .inl (row rm)))] ++ [(am 3, .inl (G.2 0, 54, .inl (row r2)))] ++ [(am 4, .inl (G.2 0, 54, .inl (row r4)))])) ⟨C0, hK, hP, hD, hS, hA⟩ 0 rfl (ci := 8) rfl rfl ((m9_no l G am ho rn ln pl sd lt ro rf nb (-3) noOk_k.2.2.1)) (cwV 1 hts (lw_V q1206 q1208 qs66 q95 q1209) rfl rfl rfl (by decide +kernel) ⟨Nat.le_of_ble_eq_true rfl, Nat.le_of_ble_eq_true rfl⟩) [0, 1, 2, 3, 4] [1, 3, 5, 7, 9, 10, 12, 14, 16] rfl (fun _ => rfl) rfl rfl hl.1 rfl (Nat.le_of_ble_eq_true rfl) dX9_setsUp_31 ⟨(Nat.le_of_ble_eq_true rfl), (Nat.le_of_ble_eq_true rfl)⟩ (fun r_9 u_9 H locs hw_9 hP hD hS => ?_)
      have hw_9 : ((-3) : Int32) = r_9 := hw_9.symm
      subst hw_9
      have hP : va_P G.1 vwCl (wM G am ho rn ln pl sd lt ro (rfU rf (-3)) nb ++ [(am 1, .inl (G.2 0, 54, .inl (row r)))] ++ [(am 2, .inl (G.2 0, 54, .inl (row rm)))] ++ [(am 3, .inl (G.2 0, 54, .inl (row r2)))] ++ [(am 4, .inl (G.2 0, 54, .inl (row r4)))]) H := hP
      have hD : va_D A (wM G am ho rn ln pl sd lt ro (rfU rf (-3)) nb ++ [(am 1, .inl (G.2 0, 54, .inl (row r)))] ++ [(am 2, .inl (G.2 0, 54, .inl (row rm)))] ++ [(am 3, .inl (G.2 0, 54, .inl (row r2)))] ++ [(am 4, .inl (G.2 0, 54, .inl (row r4)))]) := hD
      have hE : eS (tB r t) (-1) (eS (pHow r 1 (ix t)) (-3) 0) = (-3) := by rw [eS_t (show tB r t = true from (by have h9 := c_2; simpa [bI_0] using h9)), eS_f (show pHow r 1 (ix t) = false from decide_eq_false c_4)]
      have hne : ((-3) : Int32) ≠ 0 := (by decide)
      have hP : va_P G.1 vwCl (wM G am ho rn ln pl sd lt ro (sel (eS (tB r t) (-1) (eS (pHow r 1 (ix t)) (-3) 0)) rf (rfU rf (eS (tB r t) (-1) (eS (pHow r 1 (ix t)) (-3) 0)))) nb ++ [(am 1, .inl (G.2 0, 54, .inl (row (sel (eS (tB r t) (-1) (eS (pHow r 1 (ix t)) (-3) 0)) (pSetUp r (ix t)) r))))] ++ [(am 2, .inl (G.2 0, 54, .inl (row rm)))] ++ [(am 3, .inl (G.2 0, 54, .inl (row r2)))] ++ [(am 4, .inl (G.2 0, 54, .inl (row r4)))]) H := by rw [hE]; simp only [sel_n hne]; exact hP
      have hD : va_D A (wM G am ho rn ln pl sd lt ro (sel (eS (tB r t) (-1) (eS (pHow r 1 (ix t)) (-3) 0)) rf (rfU rf (eS (tB r t) (-1) (eS (pHow r 1 (ix t)) (-3) 0)))) nb ++ [(am 1, .inl (G.2 0, 54, .inl (row (sel (eS (tB r t) (-1) (eS (pHow r 1 (ix t)) (-3) 0)) (pSetUp r (ix t)) r))))] ++ [(am 2, .inl (G.2 0, 54, .inl (row rm)))] ++ [(am 3, .inl (G.2 0, 54, .inl (row r2)))] ++ [(am 4, .inl (G.2 0, 54, .inl (row r4)))]) := by rw [hE]; simp only [sel_n hne]; exact hD
      refine hret _ _ _ _ _ _ (-3) () dX9_setsUp_34 ?_ hP hD hS (Nat.le_of_ble_eq_true rfl) (Nat.le_of_ble_eq_true rfl)
      rw [hE, sel_n hne]
  · skip
    refine lv_aload_n hx hb dX9_setsUp_8 rfl (lv_at hl 0 rfl) ?_
    refine lv_iconst (v := (-1)) hx hb dX9_setsUp_9 (by decide) ?_
    refine x_Vi (wN := fun _ => (wM G am ho rn ln pl sd lt ro (rfU rf (-1)) nb ++ [(am 1, .inl (G.2 0, 54, .inl (row r)))] ++ [(am 2, .inl (G.2 0, 54, .inl (row rm)))] ++ [(am 3, .inl (G.2 0, 54, .inl (row r2)))] ++ [(am 4, .inl (G.2 0, 54, .inl (row r4)))])) ⟨C0, hK, hP, hD, hS, hA⟩ 0 rfl (ci := 8) rfl rfl ((m9_no l G am ho rn ln pl sd lt ro rf nb (-1) noOk_k.1)) (cwV 1 hts (lw_V q1206 q1208 qs66 q95 q1209) rfl rfl rfl (by decide +kernel) ⟨Nat.le_of_ble_eq_true rfl, Nat.le_of_ble_eq_true rfl⟩) [0, 1, 2, 3, 4] [1, 3, 5, 7, 9, 10, 12, 14, 16] rfl (fun _ => rfl) rfl rfl hl.1 rfl (Nat.le_of_ble_eq_true rfl) dX9_setsUp_10 ⟨(Nat.le_of_ble_eq_true rfl), (Nat.le_of_ble_eq_true rfl)⟩ (fun r_10 u_10 H locs hw_10 hP hD hS => ?_)
    have hw_10 : ((-1) : Int32) = r_10 := hw_10.symm
    subst hw_10
    have hP : va_P G.1 vwCl (wM G am ho rn ln pl sd lt ro (rfU rf (-1)) nb ++ [(am 1, .inl (G.2 0, 54, .inl (row r)))] ++ [(am 2, .inl (G.2 0, 54, .inl (row rm)))] ++ [(am 3, .inl (G.2 0, 54, .inl (row r2)))] ++ [(am 4, .inl (G.2 0, 54, .inl (row r4)))]) H := hP
    have hD : va_D A (wM G am ho rn ln pl sd lt ro (rfU rf (-1)) nb ++ [(am 1, .inl (G.2 0, 54, .inl (row r)))] ++ [(am 2, .inl (G.2 0, 54, .inl (row rm)))] ++ [(am 3, .inl (G.2 0, 54, .inl (row r2)))] ++ [(am 4, .inl (G.2 0, 54, .inl (row r4)))]) := hD
    have hE : eS (tB r t) (-1) (eS (pHow r 1 (ix t)) (-3) 0) = (-1) := by rw [eS_f (show tB r t = false from (by have h9 := c_2; simpa [bI_0] using h9))]
    have hne : ((-1) : Int32) ≠ 0 := (by decide)
    have hP : va_P G.1 vwCl (wM G am ho rn ln pl sd lt ro (sel (eS (tB r t) (-1) (eS (pHow r 1 (ix t)) (-3) 0)) rf (rfU rf (eS (tB r t) (-1) (eS (pHow r 1 (ix t)) (-3) 0)))) nb ++ [(am 1, .inl (G.2 0, 54, .inl (row (sel (eS (tB r t) (-1) (eS (pHow r 1 (ix t)) (-3) 0)) (pSetUp r (ix t)) r))))] ++ [(am 2, .inl (G.2 0, 54, .inl (row rm)))] ++ [(am 3, .inl (G.2 0, 54, .inl (row r2)))] ++ [(am 4, .inl (G.2 0, 54, .inl (row r4)))]) H := by rw [hE]; simp only [sel_n hne]; exact hP
    have hD : va_D A (wM G am ho rn ln pl sd lt ro (sel (eS (tB r t) (-1) (eS (pHow r 1 (ix t)) (-3) 0)) rf (rfU rf (eS (tB r t) (-1) (eS (pHow r 1 (ix t)) (-3) 0)))) nb ++ [(am 1, .inl (G.2 0, 54, .inl (row (sel (eS (tB r t) (-1) (eS (pHow r 1 (ix t)) (-3) 0)) (pSetUp r (ix t)) r))))] ++ [(am 2, .inl (G.2 0, 54, .inl (row rm)))] ++ [(am 3, .inl (G.2 0, 54, .inl (row r2)))] ++ [(am 4, .inl (G.2 0, 54, .inl (row r4)))]) := by rw [hE]; simp only [sel_n hne]; exact hD
    refine hret _ _ _ _ _ _ (-1) () dX9_setsUp_13 ?_ hP hD hS (Nat.le_of_ble_eq_true rfl) (Nat.le_of_ble_eq_true rfl)
    rw [hE, sel_n hne]
set_option maxHeartbeats 4000000 in
set_option maxRecDepth 100000 in
theorem n_turn (l : Launch) (G : xG) (am : Nat → Nat) (r rm r2 r4 : Rw) (ho rn ln pl sd : Int32) (lt ro rf nb : Nat → Int32) (hr : Ok r) (hp : r 5 3 = 0) (t kc fc : Int32) : xCi l G yX9_turn cX9_turn 6 (some .int) ({ frames := 2, cells := 0, slots := 0, locals := 43 } : Room) [.ref (am 0), .int t, .int kc, .int fc] (wM G am ho rn ln pl sd lt ro rf nb ++ [(am 1, .inl (G.2 0, 54, .inl (row r)))] ++ [(am 2, .inl (G.2 0, 54, .inl (row rm)))] ++ [(am 3, .inl (G.2 0, 54, .inl (row r2)))] ++ [(am 4, .inl (G.2 0, 54, .inl (row r4)))]) (S := Unit) (fun v _ => v = sel (eS (tB r t) (-1) (eS (inR kc 0 5) (-2) (eW (wBy fc.toInt 0 9) 0))) (10 * r 0 (ix t) + r 1 (ix t)) (eS (tB r t) (-1) (eS (inR kc 0 5) (-2) (eW (wBy fc.toInt 0 9) 0)))) (fun _ => (wM G am ho rn ln pl sd lt ro (sel (eS (tB r t) (-1) (eS (inR kc 0 5) (-2) (eW (wBy fc.toInt 0 9) 0))) rf (rfU rf (eS (tB r t) (-1) (eS (inR kc 0 5) (-2) (eW (wBy fc.toInt 0 9) 0))))) nb ++ [(am 1, .inl (G.2 0, 54, .inl (row (sel (eS (tB r t) (-1) (eS (inR kc 0 5) (-2) (eW (wBy fc.toInt 0 9) 0))) (pTurn r (ix t) (ix kc) (ix fc)) r))))] ++ [(am 2, .inl (G.2 0, 54, .inl (row rm)))] ++ [(am 3, .inl (G.2 0, 54, .inl (row r2)))] ++ [(am 4, .inl (G.2 0, 54, .inl (row r4)))])) := by
  refine x_openi (by decide) (Nat.le_of_ble_eq_true rfl) (fun _ _ _ => rfl) ?_
  intro p e s m args below meth c A Q ls C0 hK hP hD hA hl hret
  obtain ⟨hx, hb, hml, hown, hts⟩ := id C0
  have hS : va_S A s.heap s.heap [] := va_S.rf
  have hP : va_P G.1 vwCl (wM G am ho rn ln pl sd lt ro rf nb ++ [(am 1, .inl (G.2 0, 54, .inl (row r)))] ++ [(am 2, .inl (G.2 0, 54, .inl (row rm)))] ++ [(am 3, .inl (G.2 0, 54, .inl (row r2)))] ++ [(am 4, .inl (G.2 0, 54, .inl (row r4)))]) s.heap := hP
  have hD : va_D A (wM G am ho rn ln pl sd lt ro rf nb ++ [(am 1, .inl (G.2 0, 54, .inl (row r)))] ++ [(am 2, .inl (G.2 0, 54, .inl (row rm)))] ++ [(am 3, .inl (G.2 0, 54, .inl (row r2)))] ++ [(am 4, .inl (G.2 0, 54, .inl (row r4)))]) := hD
  have hl : lv_has ls 6 [(0, .ref (am 0)), (1, .int t), (2, .int kc), (3, .int fc)] := hl
  have hr0 := hr.n
  have hN := hr.le
  refine lv_aload_n hx hb dX9_turn_0 rfl (lv_at hl 0 rfl) ?_
  refine lv_iload_n hx hb dX9_turn_1 rfl (lv_at hl 1 rfl) ?_
  refine x_Vi (wN := fun _ => (wM G am ho rn ln pl sd lt ro rf nb ++ [(am 1, .inl (G.2 0, 54, .inl (row r)))] ++ [(am 2, .inl (G.2 0, 54, .inl (row rm)))] ++ [(am 3, .inl (G.2 0, 54, .inl (row r2)))] ++ [(am 4, .inl (G.2 0, 54, .inl (row r4)))])) ⟨C0, hK, hP, hD, hS, hA⟩ 0 rfl (ci := 8) rfl rfl ((m9_isThing l G am r rm r2 r4 ho rn ln pl sd lt ro rf nb hr hp t)) (cwV 1 hts (lw_V q1247 q1249 qs73 q95 q1250) rfl rfl rfl (by decide +kernel) ⟨Nat.le_of_ble_eq_true rfl, Nat.le_of_ble_eq_true rfl⟩) [0, 1, 2, 3, 4, 5, 6, 7, 8] [1, 3, 5, 7, 9, 11, 13, 15, 17] rfl (fun _ => rfl) rfl rfl hl.1 rfl (Nat.le_of_ble_eq_true rfl) dX9_turn_2 ⟨(Nat.le_of_ble_eq_true rfl), (Nat.le_of_ble_eq_true rfl)⟩ (fun r_1 u_1 H locs hw_1 hP hD hS => ?_)
  have hw_1 : (bI (tB r t) : Int32) = r_1 := hw_1.symm
  subst hw_1
  refine lv_if_ne (tgt := 12) hx hb dX9_turn_5 (by decide) (fun c_2 => ?_) (fun c_2 => ?_)
  · skip
    obtain ⟨hj_t, et_t⟩ := tB_ix hN (by first | exact bI_n0 c_2 | exact bI_0.mp c_2)
    rw [et_t] at hl
    refine lv_iload_n hx hb dX9_turn_12 rfl (lv_at hl 2 rfl) ?_
    refine lv_iconst (v := 0) hx hb dX9_turn_13 (by decide) ?_
    refine lv_iconst (v := 5) hx hb dX9_turn_14 (by decide) ?_
    refine x_Si (wN := fun _ => (wM G am ho rn ln pl sd lt ro rf nb ++ [(am 1, .inl (G.2 0, 54, .inl (row r)))] ++ [(am 2, .inl (G.2 0, 54, .inl (row rm)))] ++ [(am 3, .inl (G.2 0, 54, .inl (row r2)))] ++ [(am 4, .inl (G.2 0, 54, .inl (row r4)))])) ⟨C0, hK, hP, hD, hS, hA⟩ ((m9_isIn l G kc 0 5)) (va_cwS 3 hts (lw_S q1233 q1234 q95 q1235) rfl rfl rfl (by decide +kernel) ⟨Nat.le_of_ble_eq_true rfl, Nat.le_of_ble_eq_true rfl⟩) [] [0, 2, 4, 6, 8, 10, 12, 14, 16] rfl (fun _ => rfl) rfl rfl hl.1 rfl (Nat.le_of_ble_eq_true rfl) dX9_turn_15 ⟨(Nat.le_of_ble_eq_true rfl), (Nat.le_of_ble_eq_true rfl)⟩ (fun r_3 u_3 H locs hw_3 hP hD hS => ?_)
    have hw_3 : r_3 = bI (inR kc 0 5) := hw_3.trans rfl
    have hw_3 : (bI (inR kc 0 5) : Int32) = r_3 := hw_3.symm
    subst hw_3
    refine lv_if_ne (tgt := 26) hx hb dX9_turn_18 (by decide) (fun c_4 => ?_) (fun c_4 => ?_)
    · skip
      obtain ⟨hj_kc, et_kc⟩ := iR_ix (n := 5) (by omega) (by first | exact bI_n0 c_4 | exact bI_0.mp c_4)
      rw [et_kc] at hl
      refine lv_iload_n hx hb dX9_turn_26 rfl (lv_at hl 3 rfl) ?_
      refine lv_bipush (v := 9) hx hb dX9_turn_27 (by decide) ?_
      refine x_Si (wN := fun _ => (wM G am ho rn ln pl sd lt ro rf nb ++ [(am 1, .inl (G.2 0, 54, .inl (row r)))] ++ [(am 2, .inl (G.2 0, 54, .inl (row rm)))] ++ [(am 3, .inl (G.2 0, 54, .inl (row r2)))] ++ [(am 4, .inl (G.2 0, 54, .inl (row r4)))])) ⟨C0, hK, hP, hD, hS, hA⟩ ((m9_wrongBy l G fc 9)) (va_cwS 2 hts (lw_S q1302 q1303 q95 q1304) rfl rfl rfl (by decide +kernel) ⟨Nat.le_of_ble_eq_true rfl, Nat.le_of_ble_eq_true rfl⟩) [] [0, 2, 4, 6, 8, 10, 12, 14, 16] rfl (fun _ => rfl) rfl rfl hl.1 rfl (Nat.le_of_ble_eq_true rfl) dX9_turn_29 ⟨(Nat.le_of_ble_eq_true rfl), (Nat.le_of_ble_eq_true rfl)⟩ (fun r_5 u_5 H locs hw_5 hP hD hS => ?_)
      have hw_5 : r_5 = wBy fc.toInt 0 9 := hw_5.trans rfl
      have hw_5 : (wBy fc.toInt 0 9 : Int32) = r_5 := hw_5.symm
      subst hw_5
      refine lv_istore (lv' := [(4, .int (wBy fc.toInt 0 9)), (0, .ref (am 0)), (1, .int (nI (ix t))), (2, .int (nI (ix kc))), (3, .int fc)]) hx hb dX9_turn_32 hl (by decide) rfl (fun ls hl => ?_)
      refine lv_iload hx hb dX9_turn_34 (lv_at hl 0 rfl) ?_
      refine lv_if_eq (tgt := 46) hx hb dX9_turn_36 (by decide) (fun c_6 => ?_) (fun c_6 => ?_)
      · skip
        obtain ⟨hj_fc, et_fc⟩ := wB_ix (n := 9) (by omega) (show wBy fc.toInt 0 9 = 0 from c_6)
        rw [et_fc] at hl
        refine lv_bipush (v := 10) hx hb dX9_turn_46 (by decide) ?_
        refine lv_aload_n hx hb dX9_turn_48 rfl (lv_at hl 1 rfl) ?_
        refine va_get (D := G.1) (ci := 8) (v := .ref (am 1)) (C := RX9) (T := TX9) (N := 13) hx hb hts in_X9 hown hK.1 hP 0 rfl rfl 0 (by decide) (hts _ q1162) (fun _ h9 => h9) rfl dX9_turn_49 ?_
        refine lv_iload_n hx hb dX9_turn_52 rfl (lv_at hl 2 rfl) ?_
        refine lv_iconst (v := 0) hx hb dX9_turn_53 (by decide) ?_
        refine x_Si (wN := fun _ => (wM G am ho rn ln pl sd lt ro rf nb ++ [(am 1, .inl (G.2 0, 54, .inl (row r)))] ++ [(am 2, .inl (G.2 0, 54, .inl (row rm)))] ++ [(am 3, .inl (G.2 0, 54, .inl (row r2)))] ++ [(am 4, .inl (G.2 0, 54, .inl (row r4)))])) ⟨C0, hK, hP, hD, hS, hA⟩ ((m9_of l G (ix t) 0)) (va_cwS 2 hts (lw_S q1254 q1255 q95 q1256) rfl rfl rfl (by decide +kernel) ⟨Nat.le_of_ble_eq_true rfl, Nat.le_of_ble_eq_true rfl⟩) [] [0, 2, 4, 6, 8, 10, 12, 14, 16] rfl (fun _ => rfl) rfl rfl hl.1 rfl (Nat.le_of_ble_eq_true rfl) dX9_turn_54 ⟨(Nat.le_of_ble_eq_true rfl), (Nat.le_of_ble_eq_true rfl)⟩ (fun r_7 u_7 H locs hw_7 hP hD hS => ?_)
        have hw_7 : (nI (4 + 5 * (ix t) + 0) : Int32) = r_7 := hw_7.symm
        subst hw_7
        refine x_ialdn (k := (4 + 5 * (ix t) + 0)) hx hb hK.1 hP 5 0 rfl rfl (by omega) (by decide) (v := (r 0) (ix t)) (row_at _ (by decide)) dX9_turn_57 ?_
        refine x_imul hx hb dX9_turn_58 (v := 10 * ((r 0) (ix t))) rfl ?_
        refine lv_aload_n hx hb dX9_turn_59 rfl (lv_at hl 1 rfl) ?_
        refine va_get (D := G.1) (ci := 8) (v := .ref (am 1)) (C := RX9) (T := TX9) (N := 13) hx hb hts in_X9 hown hK.1 hP 0 rfl rfl 0 (by decide) (hts _ q1162) (fun _ h9 => h9) rfl dX9_turn_60 ?_
        refine lv_iload_n hx hb dX9_turn_63 rfl (lv_at hl 2 rfl) ?_
        refine lv_iconst (v := 1) hx hb dX9_turn_64 (by decide) ?_
        refine x_Si (wN := fun _ => (wM G am ho rn ln pl sd lt ro rf nb ++ [(am 1, .inl (G.2 0, 54, .inl (row r)))] ++ [(am 2, .inl (G.2 0, 54, .inl (row rm)))] ++ [(am 3, .inl (G.2 0, 54, .inl (row r2)))] ++ [(am 4, .inl (G.2 0, 54, .inl (row r4)))])) ⟨C0, hK, hP, hD, hS, hA⟩ ((m9_of l G (ix t) 1)) (va_cwS 2 hts (lw_S q1254 q1255 q95 q1256) rfl rfl rfl (by decide +kernel) ⟨Nat.le_of_ble_eq_true rfl, Nat.le_of_ble_eq_true rfl⟩) [] [0, 2, 4, 6, 8, 10, 12, 14, 16] rfl (fun _ => rfl) rfl rfl hl.1 rfl (Nat.le_of_ble_eq_true rfl) dX9_turn_65 ⟨(Nat.le_of_ble_eq_true rfl), (Nat.le_of_ble_eq_true rfl)⟩ (fun r_8 u_8 H locs hw_8 hP hD hS => ?_)
        have hw_8 : (nI (4 + 5 * (ix t) + 1) : Int32) = r_8 := hw_8.symm
        subst hw_8
        refine x_ialdn (k := (4 + 5 * (ix t) + 1)) hx hb hK.1 hP 5 0 rfl rfl (by omega) (by decide) (v := (r 1) (ix t)) (row_at _ (by decide)) dX9_turn_68 ?_
        refine x_iadd hx hb dX9_turn_69 (v := (10 * ((r 0) (ix t))) + ((r 1) (ix t))) rfl ?_
        refine lv_istore (lv' := [(5, .int ((10 * ((r 0) (ix t))) + ((r 1) (ix t)))), (4, .int (wBy (nI (ix fc)).toInt 0 9)), (0, .ref (am 0)), (1, .int (nI (ix t))), (2, .int (nI (ix kc))), (3, .int (nI (ix fc)))]) hx hb dX9_turn_70 hl (by decide) rfl (fun ls hl => ?_)
        refine lv_aload_n hx hb dX9_turn_72 rfl (lv_at hl 2 rfl) ?_
        refine va_get (D := G.1) (ci := 8) (v := .ref (am 1)) (C := RX9) (T := TX9) (N := 13) hx hb hts in_X9 hown hK.1 hP 0 rfl rfl 0 (by decide) (hts _ q1162) (fun _ h9 => h9) rfl dX9_turn_73 ?_
        refine lv_iload_n hx hb dX9_turn_76 rfl (lv_at hl 3 rfl) ?_
        refine lv_iconst (v := 0) hx hb dX9_turn_77 (by decide) ?_
        refine x_Si (wN := fun _ => (wM G am ho rn ln pl sd lt ro rf nb ++ [(am 1, .inl (G.2 0, 54, .inl (row r)))] ++ [(am 2, .inl (G.2 0, 54, .inl (row rm)))] ++ [(am 3, .inl (G.2 0, 54, .inl (row r2)))] ++ [(am 4, .inl (G.2 0, 54, .inl (row r4)))])) ⟨C0, hK, hP, hD, hS, hA⟩ ((m9_of l G (ix t) 0)) (va_cwS 2 hts (lw_S q1254 q1255 q95 q1256) rfl rfl rfl (by decide +kernel) ⟨Nat.le_of_ble_eq_true rfl, Nat.le_of_ble_eq_true rfl⟩) [] [0, 2, 4, 6, 8, 10, 12, 14, 16] rfl (fun _ => rfl) rfl rfl hl.1 rfl (Nat.le_of_ble_eq_true rfl) dX9_turn_78 ⟨(Nat.le_of_ble_eq_true rfl), (Nat.le_of_ble_eq_true rfl)⟩ (fun r_9 u_9 H locs hw_9 hP hD hS => ?_)
        have hw_9 : (nI (4 + 5 * (ix t) + 0) : Int32) = r_9 := hw_9.symm
        subst hw_9
        refine lv_iload_n hx hb dX9_turn_81 rfl (lv_at hl 4 rfl) ?_
        refine x_iastn (k := (4 + 5 * (ix t) + 0)) hx hb hK.1 hP hD hS 5 0 rfl rfl (by omega) (by decide) (g := row (sf r 0 (upd (r 0) (ix t) (nI (ix kc))))) (row_up _ (by decide) _) dX9_turn_82 (fun H locs hP hD hS => ?_)
        have hP : va_P G.1 vwCl (wM G am ho rn ln pl sd lt ro rf nb ++ [(am 1, .inl (G.2 0, 54, .inl (row (sf r 0 (upd (r 0) (ix t) (nI (ix kc)))))))] ++ [(am 2, .inl (G.2 0, 54, .inl (row rm)))] ++ [(am 3, .inl (G.2 0, 54, .inl (row r2)))] ++ [(am 4, .inl (G.2 0, 54, .inl (row r4)))]) H := hP
        have hD : va_D A (wM G am ho rn ln pl sd lt ro rf nb ++ [(am 1, .inl (G.2 0, 54, .inl (row (sf r 0 (upd (r 0) (ix t) (nI (ix kc)))))))] ++ [(am 2, .inl (G.2 0, 54, .inl (row rm)))] ++ [(am 3, .inl (G.2 0, 54, .inl (row r2)))] ++ [(am 4, .inl (G.2 0, 54, .inl (row r4)))]) := hD
        refine lv_aload_n hx hb dX9_turn_83 rfl (lv_at hl 2 rfl) ?_
        refine va_get (D := G.1) (ci := 8) (v := .ref (am 1)) (C := RX9) (T := TX9) (N := 13) hx hb hts in_X9 hown hK.1 hP 0 rfl rfl 0 (by decide) (hts _ q1162) (fun _ h9 => h9) rfl dX9_turn_84 ?_
        refine lv_iload_n hx hb dX9_turn_87 rfl (lv_at hl 3 rfl) ?_
        refine lv_iconst (v := 1) hx hb dX9_turn_88 (by decide) ?_
        refine x_Si (wN := fun _ => (wM G am ho rn ln pl sd lt ro rf nb ++ [(am 1, .inl (G.2 0, 54, .inl (row (sf r 0 (upd (r 0) (ix t) (nI (ix kc)))))))] ++ [(am 2, .inl (G.2 0, 54, .inl (row rm)))] ++ [(am 3, .inl (G.2 0, 54, .inl (row r2)))] ++ [(am 4, .inl (G.2 0, 54, .inl (row r4)))])) ⟨C0, hK, hP, hD, hS, hA⟩ ((m9_of l G (ix t) 1)) (va_cwS 2 hts (lw_S q1254 q1255 q95 q1256) rfl rfl rfl (by decide +kernel) ⟨Nat.le_of_ble_eq_true rfl, Nat.le_of_ble_eq_true rfl⟩) [] [0, 2, 4, 6, 8, 10, 12, 14, 16] rfl (fun _ => rfl) rfl rfl hl.1 rfl (Nat.le_of_ble_eq_true rfl) dX9_turn_89 ⟨(Nat.le_of_ble_eq_true rfl), (Nat.le_of_ble_eq_true rfl)⟩ (fun r_10 u_10 H locs hw_10 hP hD hS => ?_)
        have hw_10 : (nI (4 + 5 * (ix t) + 1) : Int32) = r_10 := hw_10.symm
        subst hw_10
        refine lv_iload_n hx hb dX9_turn_92 rfl (lv_at hl 5 rfl) ?_
        refine x_iastn (k := (4 + 5 * (ix t) + 1)) hx hb hK.1 hP hD hS 5 0 rfl rfl (by omega) (by decide) (g := row (sf (sf r 0 (upd (r 0) (ix t) (nI (ix kc)))) 1 (upd (r 1) (ix t) (nI (ix fc))))) (row_up _ (by decide) _) dX9_turn_93 (fun H locs hP hD hS => ?_)
        have hP : va_P G.1 vwCl (wM G am ho rn ln pl sd lt ro rf nb ++ [(am 1, .inl (G.2 0, 54, .inl (row (sf (sf r 0 (upd (r 0) (ix t) (nI (ix kc)))) 1 (upd (r 1) (ix t) (nI (ix fc)))))))] ++ [(am 2, .inl (G.2 0, 54, .inl (row rm)))] ++ [(am 3, .inl (G.2 0, 54, .inl (row r2)))] ++ [(am 4, .inl (G.2 0, 54, .inl (row r4)))]) H := hP
        have hD : va_D A (wM G am ho rn ln pl sd lt ro rf nb ++ [(am 1, .inl (G.2 0, 54, .inl (row (sf (sf r 0 (upd (r 0) (ix t) (nI (ix kc)))) 1 (upd (r 1) (ix t) (nI (ix fc)))))))] ++ [(am 2, .inl (G.2 0, 54, .inl (row rm)))] ++ [(am 3, .inl (G.2 0, 54, .inl (row r2)))] ++ [(am 4, .inl (G.2 0, 54, .inl (row r4)))]) := hD
        refine lv_iload hx hb dX9_turn_94 (lv_at hl 0 rfl) ?_
        have hE : eS (tB r t) (-1) (eS (inR kc 0 5) (-2) (eW (wBy fc.toInt 0 9) 0)) = 0 := by rw [eS_t (show tB r t = true from (by have h9 := c_2; simpa [bI_0] using h9)), eS_t (show inR kc 0 5 = true from (by have h9 := c_4; simpa [bI_0] using h9)), eW_0 c_6]
        have hP : va_P G.1 vwCl (wM G am ho rn ln pl sd lt ro (sel (eS (tB r t) (-1) (eS (inR kc 0 5) (-2) (eW (wBy fc.toInt 0 9) 0))) rf (rfU rf (eS (tB r t) (-1) (eS (inR kc 0 5) (-2) (eW (wBy fc.toInt 0 9) 0))))) nb ++ [(am 1, .inl (G.2 0, 54, .inl (row (sel (eS (tB r t) (-1) (eS (inR kc 0 5) (-2) (eW (wBy fc.toInt 0 9) 0))) (pTurn r (ix t) (ix kc) (ix fc)) r))))] ++ [(am 2, .inl (G.2 0, 54, .inl (row rm)))] ++ [(am 3, .inl (G.2 0, 54, .inl (row r2)))] ++ [(am 4, .inl (G.2 0, 54, .inl (row r4)))]) H := by rw [hE]; simp only [sel_0 rfl]; exact hP
        have hD : va_D A (wM G am ho rn ln pl sd lt ro (sel (eS (tB r t) (-1) (eS (inR kc 0 5) (-2) (eW (wBy fc.toInt 0 9) 0))) rf (rfU rf (eS (tB r t) (-1) (eS (inR kc 0 5) (-2) (eW (wBy fc.toInt 0 9) 0))))) nb ++ [(am 1, .inl (G.2 0, 54, .inl (row (sel (eS (tB r t) (-1) (eS (inR kc 0 5) (-2) (eW (wBy fc.toInt 0 9) 0))) (pTurn r (ix t) (ix kc) (ix fc)) r))))] ++ [(am 2, .inl (G.2 0, 54, .inl (row rm)))] ++ [(am 3, .inl (G.2 0, 54, .inl (row r2)))] ++ [(am 4, .inl (G.2 0, 54, .inl (row r4)))]) := by rw [hE]; simp only [sel_0 rfl]; exact hD
        refine hret _ _ _ _ _ _ ((10 * ((r 0) (ix t))) + ((r 1) (ix t))) () dX9_turn_96 ?_ hP hD hS (Nat.le_of_ble_eq_true rfl) (Nat.le_of_ble_eq_true rfl)
        rw [hE, sel_0 rfl]
      · skip
        refine lv_aload_n hx hb dX9_turn_39 rfl (lv_at hl 1 rfl) ?_
        refine lv_iload hx hb dX9_turn_40 (lv_at hl 0 rfl) ?_
        refine x_Vi (wN := fun _ => (wM G am ho rn ln pl sd lt ro (rfU rf (wBy fc.toInt 0 9)) nb ++ [(am 1, .inl (G.2 0, 54, .inl (row r)))] ++ [(am 2, .inl (G.2 0, 54, .inl (row rm)))] ++ [(am 3, .inl (G.2 0, 54, .inl (row r2)))] ++ [(am 4, .inl (G.2 0, 54, .inl (row r4)))])) ⟨C0, hK, hP, hD, hS, hA⟩ 0 rfl (ci := 8) rfl rfl ((m9_no l G am ho rn ln pl sd lt ro rf nb (wBy fc.toInt 0 9) (cOk.no cOk_WW c_6))) (cwV 1 hts (lw_V q1206 q1208 qs66 q95 q1209) rfl rfl rfl (by decide +kernel) ⟨Nat.le_of_ble_eq_true rfl, Nat.le_of_ble_eq_true rfl⟩) [0, 1, 2, 3, 4] [1, 3, 5, 7, 9, 10, 12, 14, 16] rfl (fun _ => rfl) rfl rfl hl.1 rfl (Nat.le_of_ble_eq_true rfl) dX9_turn_42 ⟨(Nat.le_of_ble_eq_true rfl), (Nat.le_of_ble_eq_true rfl)⟩ (fun r_11 u_11 H locs hw_11 hP hD hS => ?_)
        have hw_11 : (wBy fc.toInt 0 9 : Int32) = r_11 := hw_11.symm
        subst hw_11
        have hP : va_P G.1 vwCl (wM G am ho rn ln pl sd lt ro (rfU rf (wBy fc.toInt 0 9)) nb ++ [(am 1, .inl (G.2 0, 54, .inl (row r)))] ++ [(am 2, .inl (G.2 0, 54, .inl (row rm)))] ++ [(am 3, .inl (G.2 0, 54, .inl (row r2)))] ++ [(am 4, .inl (G.2 0, 54, .inl (row r4)))]) H := hP
        have hD : va_D A (wM G am ho rn ln pl sd lt ro (rfU rf (wBy fc.toInt 0 9)) nb ++ [(am 1, .inl (G.2 0, 54, .inl (row r)))] ++ [(am 2, .inl (G.2 0, 54, .inl (row rm)))] ++ [(am 3, .inl (G.2 0, 54, .inl (row r2)))] ++ [(am 4, .inl (G.2 0, 54, .inl (row r4)))]) := hD
        have hE : eS (tB r t) (-1) (eS (inR kc 0 5) (-2) (eW (wBy fc.toInt 0 9) 0)) = wBy fc.toInt 0 9 := by rw [eS_t (show tB r t = true from (by have h9 := c_2; simpa [bI_0] using h9)), eS_t (show inR kc 0 5 = true from (by have h9 := c_4; simpa [bI_0] using h9)), eW_n c_6]
        have hne : (wBy fc.toInt 0 9 : Int32) ≠ 0 := c_6
        have hP : va_P G.1 vwCl (wM G am ho rn ln pl sd lt ro (sel (eS (tB r t) (-1) (eS (inR kc 0 5) (-2) (eW (wBy fc.toInt 0 9) 0))) rf (rfU rf (eS (tB r t) (-1) (eS (inR kc 0 5) (-2) (eW (wBy fc.toInt 0 9) 0))))) nb ++ [(am 1, .inl (G.2 0, 54, .inl (row (sel (eS (tB r t) (-1) (eS (inR kc 0 5) (-2) (eW (wBy fc.toInt 0 9) 0))) (pTurn r (ix t) (ix kc) (ix fc)) r))))] ++ [(am 2, .inl (G.2 0, 54, .inl (row rm)))] ++ [(am 3, .inl (G.2 0, 54, .inl (row r2)))] ++ [(am 4, .inl (G.2 0, 54, .inl (row r4)))]) H := by rw [hE]; simp only [sel_n hne]; exact hP
        have hD : va_D A (wM G am ho rn ln pl sd lt ro (sel (eS (tB r t) (-1) (eS (inR kc 0 5) (-2) (eW (wBy fc.toInt 0 9) 0))) rf (rfU rf (eS (tB r t) (-1) (eS (inR kc 0 5) (-2) (eW (wBy fc.toInt 0 9) 0))))) nb ++ [(am 1, .inl (G.2 0, 54, .inl (row (sel (eS (tB r t) (-1) (eS (inR kc 0 5) (-2) (eW (wBy fc.toInt 0 9) 0))) (pTurn r (ix t) (ix kc) (ix fc)) r))))] ++ [(am 2, .inl (G.2 0, 54, .inl (row rm)))] ++ [(am 3, .inl (G.2 0, 54, .inl (row r2)))] ++ [(am 4, .inl (G.2 0, 54, .inl (row r4)))]) := by rw [hE]; simp only [sel_n hne]; exact hD
        refine hret _ _ _ _ _ _ (wBy fc.toInt 0 9) () dX9_turn_45 ?_ hP hD hS (Nat.le_of_ble_eq_true rfl) (Nat.le_of_ble_eq_true rfl)
        rw [hE, sel_n hne]
    · skip
      refine lv_bipush (v := (-2)) hx hb dX9_turn_21 (by decide) ?_
      refine lv_goto (tgt := 32) hx hb dX9_turn_23 (by decide) ?_
      refine lv_istore (lv' := [(4, .int (-2)), (0, .ref (am 0)), (1, .int (nI (ix t))), (2, .int kc), (3, .int fc)]) hx hb dX9_turn_32 hl (by decide) rfl (fun ls hl => ?_)
      refine lv_iload hx hb dX9_turn_34 (lv_at hl 0 rfl) ?_
      refine lv_if_eq (tgt := 46) hx hb dX9_turn_36 (by decide) (fun c_12 => ?_) (fun c_12 => ?_)
      · skip
        exact absurd c_12 (by decide)
      · skip
        refine lv_aload_n hx hb dX9_turn_39 rfl (lv_at hl 1 rfl) ?_
        refine lv_iload hx hb dX9_turn_40 (lv_at hl 0 rfl) ?_
        refine x_Vi (wN := fun _ => (wM G am ho rn ln pl sd lt ro (rfU rf (-2)) nb ++ [(am 1, .inl (G.2 0, 54, .inl (row r)))] ++ [(am 2, .inl (G.2 0, 54, .inl (row rm)))] ++ [(am 3, .inl (G.2 0, 54, .inl (row r2)))] ++ [(am 4, .inl (G.2 0, 54, .inl (row r4)))])) ⟨C0, hK, hP, hD, hS, hA⟩ 0 rfl (ci := 8) rfl rfl ((m9_no l G am ho rn ln pl sd lt ro rf nb (-2) noOk_k.2.1)) (cwV 1 hts (lw_V q1206 q1208 qs66 q95 q1209) rfl rfl rfl (by decide +kernel) ⟨Nat.le_of_ble_eq_true rfl, Nat.le_of_ble_eq_true rfl⟩) [0, 1, 2, 3, 4] [1, 3, 5, 7, 9, 10, 12, 14, 16] rfl (fun _ => rfl) rfl rfl hl.1 rfl (Nat.le_of_ble_eq_true rfl) dX9_turn_42 ⟨(Nat.le_of_ble_eq_true rfl), (Nat.le_of_ble_eq_true rfl)⟩ (fun r_13 u_13 H locs hw_13 hP hD hS => ?_)
        have hw_13 : ((-2) : Int32) = r_13 := hw_13.symm
        subst hw_13
        have hP : va_P G.1 vwCl (wM G am ho rn ln pl sd lt ro (rfU rf (-2)) nb ++ [(am 1, .inl (G.2 0, 54, .inl (row r)))] ++ [(am 2, .inl (G.2 0, 54, .inl (row rm)))] ++ [(am 3, .inl (G.2 0, 54, .inl (row r2)))] ++ [(am 4, .inl (G.2 0, 54, .inl (row r4)))]) H := hP
        have hD : va_D A (wM G am ho rn ln pl sd lt ro (rfU rf (-2)) nb ++ [(am 1, .inl (G.2 0, 54, .inl (row r)))] ++ [(am 2, .inl (G.2 0, 54, .inl (row rm)))] ++ [(am 3, .inl (G.2 0, 54, .inl (row r2)))] ++ [(am 4, .inl (G.2 0, 54, .inl (row r4)))]) := hD
        have hE : eS (tB r t) (-1) (eS (inR kc 0 5) (-2) (eW (wBy fc.toInt 0 9) 0)) = (-2) := by rw [eS_t (show tB r t = true from (by have h9 := c_2; simpa [bI_0] using h9)), eS_f (show inR kc 0 5 = false from (by have h9 := c_4; simpa [bI_0] using h9))]
        have hne : ((-2) : Int32) ≠ 0 := (by decide)
        have hP : va_P G.1 vwCl (wM G am ho rn ln pl sd lt ro (sel (eS (tB r t) (-1) (eS (inR kc 0 5) (-2) (eW (wBy fc.toInt 0 9) 0))) rf (rfU rf (eS (tB r t) (-1) (eS (inR kc 0 5) (-2) (eW (wBy fc.toInt 0 9) 0))))) nb ++ [(am 1, .inl (G.2 0, 54, .inl (row (sel (eS (tB r t) (-1) (eS (inR kc 0 5) (-2) (eW (wBy fc.toInt 0 9) 0))) (pTurn r (ix t) (ix kc) (ix fc)) r))))] ++ [(am 2, .inl (G.2 0, 54, .inl (row rm)))] ++ [(am 3, .inl (G.2 0, 54, .inl (row r2)))] ++ [(am 4, .inl (G.2 0, 54, .inl (row r4)))]) H := by rw [hE]; simp only [sel_n hne]; exact hP
        have hD : va_D A (wM G am ho rn ln pl sd lt ro (sel (eS (tB r t) (-1) (eS (inR kc 0 5) (-2) (eW (wBy fc.toInt 0 9) 0))) rf (rfU rf (eS (tB r t) (-1) (eS (inR kc 0 5) (-2) (eW (wBy fc.toInt 0 9) 0))))) nb ++ [(am 1, .inl (G.2 0, 54, .inl (row (sel (eS (tB r t) (-1) (eS (inR kc 0 5) (-2) (eW (wBy fc.toInt 0 9) 0))) (pTurn r (ix t) (ix kc) (ix fc)) r))))] ++ [(am 2, .inl (G.2 0, 54, .inl (row rm)))] ++ [(am 3, .inl (G.2 0, 54, .inl (row r2)))] ++ [(am 4, .inl (G.2 0, 54, .inl (row r4)))]) := by rw [hE]; simp only [sel_n hne]; exact hD
        refine hret _ _ _ _ _ _ (-2) () dX9_turn_45 ?_ hP hD hS (Nat.le_of_ble_eq_true rfl) (Nat.le_of_ble_eq_true rfl)
        rw [hE, sel_n hne]
  · skip
    refine lv_iconst (v := (-1)) hx hb dX9_turn_8 (by decide) ?_
    refine lv_goto (tgt := 32) hx hb dX9_turn_9 (by decide) ?_
    refine lv_istore (lv' := [(4, .int (-1)), (0, .ref (am 0)), (1, .int t), (2, .int kc), (3, .int fc)]) hx hb dX9_turn_32 hl (by decide) rfl (fun ls hl => ?_)
    refine lv_iload hx hb dX9_turn_34 (lv_at hl 0 rfl) ?_
    refine lv_if_eq (tgt := 46) hx hb dX9_turn_36 (by decide) (fun c_14 => ?_) (fun c_14 => ?_)
    · skip
      exact absurd c_14 (by decide)
    · skip
      refine lv_aload_n hx hb dX9_turn_39 rfl (lv_at hl 1 rfl) ?_
      refine lv_iload hx hb dX9_turn_40 (lv_at hl 0 rfl) ?_
      refine x_Vi (wN := fun _ => (wM G am ho rn ln pl sd lt ro (rfU rf (-1)) nb ++ [(am 1, .inl (G.2 0, 54, .inl (row r)))] ++ [(am 2, .inl (G.2 0, 54, .inl (row rm)))] ++ [(am 3, .inl (G.2 0, 54, .inl (row r2)))] ++ [(am 4, .inl (G.2 0, 54, .inl (row r4)))])) ⟨C0, hK, hP, hD, hS, hA⟩ 0 rfl (ci := 8) rfl rfl ((m9_no l G am ho rn ln pl sd lt ro rf nb (-1) noOk_k.1)) (cwV 1 hts (lw_V q1206 q1208 qs66 q95 q1209) rfl rfl rfl (by decide +kernel) ⟨Nat.le_of_ble_eq_true rfl, Nat.le_of_ble_eq_true rfl⟩) [0, 1, 2, 3, 4] [1, 3, 5, 7, 9, 10, 12, 14, 16] rfl (fun _ => rfl) rfl rfl hl.1 rfl (Nat.le_of_ble_eq_true rfl) dX9_turn_42 ⟨(Nat.le_of_ble_eq_true rfl), (Nat.le_of_ble_eq_true rfl)⟩ (fun r_15 u_15 H locs hw_15 hP hD hS => ?_)
      have hw_15 : ((-1) : Int32) = r_15 := hw_15.symm
      subst hw_15
      have hP : va_P G.1 vwCl (wM G am ho rn ln pl sd lt ro (rfU rf (-1)) nb ++ [(am 1, .inl (G.2 0, 54, .inl (row r)))] ++ [(am 2, .inl (G.2 0, 54, .inl (row rm)))] ++ [(am 3, .inl (G.2 0, 54, .inl (row r2)))] ++ [(am 4, .inl (G.2 0, 54, .inl (row r4)))]) H := hP
      have hD : va_D A (wM G am ho rn ln pl sd lt ro (rfU rf (-1)) nb ++ [(am 1, .inl (G.2 0, 54, .inl (row r)))] ++ [(am 2, .inl (G.2 0, 54, .inl (row rm)))] ++ [(am 3, .inl (G.2 0, 54, .inl (row r2)))] ++ [(am 4, .inl (G.2 0, 54, .inl (row r4)))]) := hD
      have hE : eS (tB r t) (-1) (eS (inR kc 0 5) (-2) (eW (wBy fc.toInt 0 9) 0)) = (-1) := by rw [eS_f (show tB r t = false from (by have h9 := c_2; simpa [bI_0] using h9))]
      have hne : ((-1) : Int32) ≠ 0 := (by decide)
      have hP : va_P G.1 vwCl (wM G am ho rn ln pl sd lt ro (sel (eS (tB r t) (-1) (eS (inR kc 0 5) (-2) (eW (wBy fc.toInt 0 9) 0))) rf (rfU rf (eS (tB r t) (-1) (eS (inR kc 0 5) (-2) (eW (wBy fc.toInt 0 9) 0))))) nb ++ [(am 1, .inl (G.2 0, 54, .inl (row (sel (eS (tB r t) (-1) (eS (inR kc 0 5) (-2) (eW (wBy fc.toInt 0 9) 0))) (pTurn r (ix t) (ix kc) (ix fc)) r))))] ++ [(am 2, .inl (G.2 0, 54, .inl (row rm)))] ++ [(am 3, .inl (G.2 0, 54, .inl (row r2)))] ++ [(am 4, .inl (G.2 0, 54, .inl (row r4)))]) H := by rw [hE]; simp only [sel_n hne]; exact hP
      have hD : va_D A (wM G am ho rn ln pl sd lt ro (sel (eS (tB r t) (-1) (eS (inR kc 0 5) (-2) (eW (wBy fc.toInt 0 9) 0))) rf (rfU rf (eS (tB r t) (-1) (eS (inR kc 0 5) (-2) (eW (wBy fc.toInt 0 9) 0))))) nb ++ [(am 1, .inl (G.2 0, 54, .inl (row (sel (eS (tB r t) (-1) (eS (inR kc 0 5) (-2) (eW (wBy fc.toInt 0 9) 0))) (pTurn r (ix t) (ix kc) (ix fc)) r))))] ++ [(am 2, .inl (G.2 0, 54, .inl (row rm)))] ++ [(am 3, .inl (G.2 0, 54, .inl (row r2)))] ++ [(am 4, .inl (G.2 0, 54, .inl (row r4)))]) := by rw [hE]; simp only [sel_n hne]; exact hD
      refine hret _ _ _ _ _ _ (-1) () dX9_turn_45 ?_ hP hD hS (Nat.le_of_ble_eq_true rfl) (Nat.le_of_ble_eq_true rfl)
      rw [hE, sel_n hne]
set_option maxHeartbeats 4000000 in
set_option maxRecDepth 100000 in
theorem n_minutes (l : Launch) (G : xG) (am : Nat → Nat) (r rm r2 r4 : Rw) (ho rn ln pl sd : Int32) (lt ro rf nb : Nat → Int32) (hr : Ok r) (hp : r 5 3 = 0) (mi : Int32) : xCi l G yX9_minutes cX9_minutes 2 (some .int) ({ frames := 5, cells := 0, slots := 0, locals := 110 } : Room) [.ref (am 0), .int mi] (wM G am ho rn ln pl sd lt ro rf nb ++ [(am 1, .inl (G.2 0, 54, .inl (row r)))] ++ [(am 2, .inl (G.2 0, 54, .inl (row rm)))] ++ [(am 3, .inl (G.2 0, 54, .inl (row r2)))] ++ [(am 4, .inl (G.2 0, 54, .inl (row r4)))]) (S := Unit) (fun v _ => v = sel (eW (wBy mi.toInt 1 60) (eS (decide (r 5 1 + mi ≤ 999)) (-6) 0)) (pStN (pMins r (ix mi))) (eW (wBy mi.toInt 1 60) (eS (decide (r 5 1 + mi ≤ 999)) (-6) 0))) (fun _ => (wM G am ho rn ln pl sd lt ro (sel (eW (wBy mi.toInt 1 60) (eS (decide (r 5 1 + mi ≤ 999)) (-6) 0)) rf (rfU rf (eW (wBy mi.toInt 1 60) (eS (decide (r 5 1 + mi ≤ 999)) (-6) 0)))) nb ++ [(am 1, .inl (G.2 0, 54, .inl (row (sel (eW (wBy mi.toInt 1 60) (eS (decide (r 5 1 + mi ≤ 999)) (-6) 0)) (pMins r (ix mi)) r))))] ++ [(am 2, .inl (G.2 0, 54, .inl (row rm)))] ++ [(am 3, .inl (G.2 0, 54, .inl (row r2)))] ++ [(am 4, .inl (G.2 0, 54, .inl (row r4)))])) := by
  refine x_openi (by decide) (Nat.le_of_ble_eq_true rfl) (fun _ _ _ => rfl) ?_
  intro p e s m args below meth c A Q ls C0 hK hP hD hA hl hret
  obtain ⟨hx, hb, hml, hown, hts⟩ := id C0
  have hS : va_S A s.heap s.heap [] := va_S.rf
  have hP : va_P G.1 vwCl (wM G am ho rn ln pl sd lt ro rf nb ++ [(am 1, .inl (G.2 0, 54, .inl (row r)))] ++ [(am 2, .inl (G.2 0, 54, .inl (row rm)))] ++ [(am 3, .inl (G.2 0, 54, .inl (row r2)))] ++ [(am 4, .inl (G.2 0, 54, .inl (row r4)))]) s.heap := hP
  have hD : va_D A (wM G am ho rn ln pl sd lt ro rf nb ++ [(am 1, .inl (G.2 0, 54, .inl (row r)))] ++ [(am 2, .inl (G.2 0, 54, .inl (row rm)))] ++ [(am 3, .inl (G.2 0, 54, .inl (row r2)))] ++ [(am 4, .inl (G.2 0, 54, .inl (row r4)))]) := hD
  have hl : lv_has ls 2 [(0, .ref (am 0)), (1, .int mi)] := hl
  have hr0 := hr.n
  have hN := hr.le
  refine lv_iload_n hx hb dX9_minutes_0 rfl (lv_at hl 1 rfl) ?_
  refine lv_iconst (v := 1) hx hb dX9_minutes_1 (by decide) ?_
  refine lv_icmp_ge (tgt := 12) hx hb dX9_minutes_2 (by decide) (fun c_1 => ?_) (fun c_1 => ?_)
  · skip
    refine lv_iload_n hx hb dX9_minutes_12 rfl (lv_at hl 1 rfl) ?_
    refine lv_bipush (v := 60) hx hb dX9_minutes_13 (by decide) ?_
    refine lv_icmp_gt (tgt := 32) hx hb dX9_minutes_15 (by decide) (fun c_2 => ?_) (fun c_2 => ?_)
    · skip
      refine lv_aload_n hx hb dX9_minutes_32 rfl (lv_at hl 0 rfl) ?_
      refine lv_bipush (v := (-6)) hx hb dX9_minutes_33 (by decide) ?_
      refine x_Vi (wN := fun _ => (wM G am ho rn ln pl sd lt ro (rfU rf (-6)) nb ++ [(am 1, .inl (G.2 0, 54, .inl (row r)))] ++ [(am 2, .inl (G.2 0, 54, .inl (row rm)))] ++ [(am 3, .inl (G.2 0, 54, .inl (row r2)))] ++ [(am 4, .inl (G.2 0, 54, .inl (row r4)))])) ⟨C0, hK, hP, hD, hS, hA⟩ 0 rfl (ci := 8) rfl rfl ((m9_no l G am ho rn ln pl sd lt ro rf nb (-6) noOk_k.2.2.2.2)) (cwV 1 hts (lw_V q1206 q1208 qs66 q95 q1209) rfl rfl rfl (by decide +kernel) ⟨Nat.le_of_ble_eq_true rfl, Nat.le_of_ble_eq_true rfl⟩) [0, 1, 2, 3, 4] [1, 3, 5, 7, 9, 10, 12, 14, 16] rfl (fun _ => rfl) rfl rfl hl.1 rfl (Nat.le_of_ble_eq_true rfl) dX9_minutes_35 ⟨(Nat.le_of_ble_eq_true rfl), (Nat.le_of_ble_eq_true rfl)⟩ (fun r_3 u_3 H locs hw_3 hP hD hS => ?_)
      have hw_3 : ((-6) : Int32) = r_3 := hw_3.symm
      subst hw_3
      have hP : va_P G.1 vwCl (wM G am ho rn ln pl sd lt ro (rfU rf (-6)) nb ++ [(am 1, .inl (G.2 0, 54, .inl (row r)))] ++ [(am 2, .inl (G.2 0, 54, .inl (row rm)))] ++ [(am 3, .inl (G.2 0, 54, .inl (row r2)))] ++ [(am 4, .inl (G.2 0, 54, .inl (row r4)))]) H := hP
      have hD : va_D A (wM G am ho rn ln pl sd lt ro (rfU rf (-6)) nb ++ [(am 1, .inl (G.2 0, 54, .inl (row r)))] ++ [(am 2, .inl (G.2 0, 54, .inl (row rm)))] ++ [(am 3, .inl (G.2 0, 54, .inl (row r2)))] ++ [(am 4, .inl (G.2 0, 54, .inl (row r4)))]) := hD
      have hE : eW (wBy mi.toInt 1 60) (eS (decide (r 5 1 + mi ≤ 999)) (-6) 0) = (-6) := by rw [wBy_hi (lo := 1) (hi := 60) (y := 1) (by decide) (z := 60) (by decide) c_1 (Int32.not_le.mpr c_2), eW_n (show (-6 : Int32) ≠ 0 by decide)]
      have hne : ((-6) : Int32) ≠ 0 := (by decide)
      have hP : va_P G.1 vwCl (wM G am ho rn ln pl sd lt ro (sel (eW (wBy mi.toInt 1 60) (eS (decide (r 5 1 + mi ≤ 999)) (-6) 0)) rf (rfU rf (eW (wBy mi.toInt 1 60) (eS (decide (r 5 1 + mi ≤ 999)) (-6) 0)))) nb ++ [(am 1, .inl (G.2 0, 54, .inl (row (sel (eW (wBy mi.toInt 1 60) (eS (decide (r 5 1 + mi ≤ 999)) (-6) 0)) (pMins r (ix mi)) r))))] ++ [(am 2, .inl (G.2 0, 54, .inl (row rm)))] ++ [(am 3, .inl (G.2 0, 54, .inl (row r2)))] ++ [(am 4, .inl (G.2 0, 54, .inl (row r4)))]) H := by rw [hE]; simp only [sel_n hne]; exact hP
      have hD : va_D A (wM G am ho rn ln pl sd lt ro (sel (eW (wBy mi.toInt 1 60) (eS (decide (r 5 1 + mi ≤ 999)) (-6) 0)) rf (rfU rf (eW (wBy mi.toInt 1 60) (eS (decide (r 5 1 + mi ≤ 999)) (-6) 0)))) nb ++ [(am 1, .inl (G.2 0, 54, .inl (row (sel (eW (wBy mi.toInt 1 60) (eS (decide (r 5 1 + mi ≤ 999)) (-6) 0)) (pMins r (ix mi)) r))))] ++ [(am 2, .inl (G.2 0, 54, .inl (row rm)))] ++ [(am 3, .inl (G.2 0, 54, .inl (row r2)))] ++ [(am 4, .inl (G.2 0, 54, .inl (row r4)))]) := by rw [hE]; simp only [sel_n hne]; exact hD
      refine hret _ _ _ _ _ _ (-6) () dX9_minutes_38 ?_ hP hD hS (Nat.le_of_ble_eq_true rfl) (Nat.le_of_ble_eq_true rfl)
      rw [hE, sel_n hne]
    · skip
      refine lv_aload_n hx hb dX9_minutes_18 rfl (lv_at hl 0 rfl) ?_
      refine va_get (D := G.1) (ci := 8) (v := .ref (am 1)) (C := RX9) (T := TX9) (N := 13) hx hb hts in_X9 hown hK.1 hP 0 rfl rfl 0 (by decide) (hts _ q1162) (fun _ h9 => h9) rfl dX9_minutes_19 ?_
      refine lv_iconst (v := 1) hx hb dX9_minutes_22 (by decide) ?_
      refine x_ialdn (k := 1) hx hb hK.1 hP 5 0 rfl rfl (by decide) (by decide) (v := r 5 1) rfl dX9_minutes_23 ?_
      refine lv_iload_n hx hb dX9_minutes_24 rfl (lv_at hl 1 rfl) ?_
      refine x_iadd hx hb dX9_minutes_25 (v := (r 5 1) + mi) rfl ?_
      refine lv_sipush (v := 999) hx hb dX9_minutes_26 (by decide) ?_
      refine lv_icmp_le (tgt := 39) hx hb dX9_minutes_29 (by decide) (fun c_4 => ?_) (fun c_4 => ?_)
      · skip
        obtain ⟨hk_mi, hj_mi, et_mi⟩ := wB1_ix (n := 60) (by omega) (wBy_ok (lo := 1) (hi := 60) (y := 1) (by decide) (z := 60) (by decide) c_1 (Int32.not_lt.mp c_2))
        rw [et_mi] at hl
        refine lv_aload_n hx hb dX9_minutes_39 rfl (lv_at hl 0 rfl) ?_
        refine va_get (D := G.1) (ci := 8) (v := .ref (am 1)) (C := RX9) (T := TX9) (N := 13) hx hb hts in_X9 hown hK.1 hP 0 rfl rfl 0 (by decide) (hts _ q1162) (fun _ h9 => h9) rfl dX9_minutes_40 ?_
        refine lv_iload_n hx hb dX9_minutes_43 rfl (lv_at hl 1 rfl) ?_
        refine x_Sv (wN := fun _ => (wM G am ho rn ln pl sd lt ro rf nb ++ [(am 1, .inl (G.2 0, 54, .inl (row (pMins r (ix mi)))))] ++ [(am 2, .inl (G.2 0, 54, .inl (row rm)))] ++ [(am 3, .inl (G.2 0, 54, .inl (row r2)))] ++ [(am 4, .inl (G.2 0, 54, .inl (row r4)))])) ⟨C0, hK, hP, hD, hS, hA⟩ ((m9_minutesOn l G (am 1) r hr (ix mi) (by omega))) (va_cwS 2 hts (lw_S q1272 q1273 q95 q1274) rfl rfl rfl (by decide +kernel) ⟨Nat.le_of_ble_eq_true rfl, Nat.le_of_ble_eq_true rfl⟩) [5] [0, 2, 4, 6, 8, 1, 12, 14, 16] rfl (fun _ => rfl) rfl rfl hl.1 rfl (Nat.le_of_ble_eq_true rfl) dX9_minutes_44 ⟨(Nat.le_of_ble_eq_true rfl), (Nat.le_of_ble_eq_true rfl)⟩ (fun u_5 H locs hw_5 hP hD hS => ?_)
        have hP : va_P G.1 vwCl (wM G am ho rn ln pl sd lt ro rf nb ++ [(am 1, .inl (G.2 0, 54, .inl (row (pMins r (ix mi)))))] ++ [(am 2, .inl (G.2 0, 54, .inl (row rm)))] ++ [(am 3, .inl (G.2 0, 54, .inl (row r2)))] ++ [(am 4, .inl (G.2 0, 54, .inl (row r4)))]) H := hP
        have hD : va_D A (wM G am ho rn ln pl sd lt ro rf nb ++ [(am 1, .inl (G.2 0, 54, .inl (row (pMins r (ix mi)))))] ++ [(am 2, .inl (G.2 0, 54, .inl (row rm)))] ++ [(am 3, .inl (G.2 0, 54, .inl (row r2)))] ++ [(am 4, .inl (G.2 0, 54, .inl (row r4)))]) := hD
        refine lv_aload_n hx hb dX9_minutes_47 rfl (lv_at hl 0 rfl) ?_
        refine va_get (D := G.1) (ci := 8) (v := .ref (am 1)) (C := RX9) (T := TX9) (N := 13) hx hb hts in_X9 hown hK.1 hP 0 rfl rfl 0 (by decide) (hts _ q1162) (fun _ h9 => h9) rfl dX9_minutes_48 ?_
        refine lv_iconst (v := 0) hx hb dX9_minutes_51 (by decide) ?_
        refine x_Si (wN := fun _ => (wM G am ho rn ln pl sd lt ro rf nb ++ [(am 1, .inl (G.2 0, 54, .inl (row (pMins r (ix mi)))))] ++ [(am 2, .inl (G.2 0, 54, .inl (row rm)))] ++ [(am 3, .inl (G.2 0, 54, .inl (row r2)))] ++ [(am 4, .inl (G.2 0, 54, .inl (row r4)))])) ⟨C0, hK, hP, hD, hS, hA⟩ ((m9_setOf l G (am 1) (pMins r (ix mi)) (Ok.mins hr) 0)) (va_cwS 2 hts (lw_S q1281 q1282 q95 q1283) rfl rfl rfl (by decide +kernel) ⟨Nat.le_of_ble_eq_true rfl, Nat.le_of_ble_eq_true rfl⟩) [5] [0, 2, 4, 6, 8, 1, 12, 14, 16] rfl (fun _ => rfl) rfl rfl hl.1 rfl (Nat.le_of_ble_eq_true rfl) dX9_minutes_52 ⟨(Nat.le_of_ble_eq_true rfl), (Nat.le_of_ble_eq_true rfl)⟩ (fun r_6 u_6 H locs hw_6 hP hD hS => ?_)
        have hw_6 : (pSet (pMins r (ix mi)) 0 : Int32) = r_6 := hw_6.symm
        subst hw_6
        rw [show (pSet (pMins r (ix mi)) 0 : Int32) = nI (bn (pHow (pMins r (ix mi)) 0) (mny (pMins r (ix mi)))) from (pSet_bn (Ok.mins hr).le)]
        refine x_Si (wN := fun _ => (wM G am ho rn ln pl sd lt ro rf nb ++ [(am 1, .inl (G.2 0, 54, .inl (row (pMins r (ix mi)))))] ++ [(am 2, .inl (G.2 0, 54, .inl (row rm)))] ++ [(am 3, .inl (G.2 0, 54, .inl (row r2)))] ++ [(am 4, .inl (G.2 0, 54, .inl (row r4)))])) ⟨C0, hK, hP, hD, hS, hA⟩ ((m9_bits l G (bn (pHow (pMins r (ix mi)) 0) (mny (pMins r (ix mi)))) (bn_1024 (Ok.mins hr).le))) (va_cwS 1 hts (lw_S q1269 q1270 q95 q1271) rfl rfl rfl (by decide +kernel) ⟨Nat.le_of_ble_eq_true rfl, Nat.le_of_ble_eq_true rfl⟩) [] [0, 2, 4, 6, 8, 10, 12, 14, 16] rfl (fun _ => rfl) rfl rfl hl.1 rfl (Nat.le_of_ble_eq_true rfl) dX9_minutes_55 ⟨(Nat.le_of_ble_eq_true rfl), (Nat.le_of_ble_eq_true rfl)⟩ (fun r_7 u_7 H locs hw_7 hP hD hS => ?_)
        have hw_7 : (nI (pc (bn (pHow (pMins r (ix mi)) 0) (mny (pMins r (ix mi))))) : Int32) = r_7 := hw_7.symm
        subst hw_7
        have hE : eW (wBy mi.toInt 1 60) (eS (decide (r 5 1 + mi ≤ 999)) (-6) 0) = 0 := by rw [wBy_ok (lo := 1) (hi := 60) (y := 1) (by decide) (z := 60) (by decide) c_1 (Int32.not_lt.mp c_2), eW_0 rfl, eS_t (decide_eq_true c_4)]
        have hP : va_P G.1 vwCl (wM G am ho rn ln pl sd lt ro (sel (eW (wBy mi.toInt 1 60) (eS (decide (r 5 1 + mi ≤ 999)) (-6) 0)) rf (rfU rf (eW (wBy mi.toInt 1 60) (eS (decide (r 5 1 + mi ≤ 999)) (-6) 0)))) nb ++ [(am 1, .inl (G.2 0, 54, .inl (row (sel (eW (wBy mi.toInt 1 60) (eS (decide (r 5 1 + mi ≤ 999)) (-6) 0)) (pMins r (ix mi)) r))))] ++ [(am 2, .inl (G.2 0, 54, .inl (row rm)))] ++ [(am 3, .inl (G.2 0, 54, .inl (row r2)))] ++ [(am 4, .inl (G.2 0, 54, .inl (row r4)))]) H := by rw [hE]; simp only [sel_0 rfl]; exact hP
        have hD : va_D A (wM G am ho rn ln pl sd lt ro (sel (eW (wBy mi.toInt 1 60) (eS (decide (r 5 1 + mi ≤ 999)) (-6) 0)) rf (rfU rf (eW (wBy mi.toInt 1 60) (eS (decide (r 5 1 + mi ≤ 999)) (-6) 0)))) nb ++ [(am 1, .inl (G.2 0, 54, .inl (row (sel (eW (wBy mi.toInt 1 60) (eS (decide (r 5 1 + mi ≤ 999)) (-6) 0)) (pMins r (ix mi)) r))))] ++ [(am 2, .inl (G.2 0, 54, .inl (row rm)))] ++ [(am 3, .inl (G.2 0, 54, .inl (row r2)))] ++ [(am 4, .inl (G.2 0, 54, .inl (row r4)))]) := by rw [hE]; simp only [sel_0 rfl]; exact hD
        refine hret _ _ _ _ _ _ (nI (pc (bn (pHow (pMins r (ix mi)) 0) (mny (pMins r (ix mi)))))) () dX9_minutes_58 ?_ hP hD hS (Nat.le_of_ble_eq_true rfl) (Nat.le_of_ble_eq_true rfl)
        rw [hE, sel_0 rfl]
        exact pStN_pc (Ok.mins hr).le
      · skip
        refine lv_aload_n hx hb dX9_minutes_32 rfl (lv_at hl 0 rfl) ?_
        refine lv_bipush (v := (-6)) hx hb dX9_minutes_33 (by decide) ?_
        refine x_Vi (wN := fun _ => (wM G am ho rn ln pl sd lt ro (rfU rf (-6)) nb ++ [(am 1, .inl (G.2 0, 54, .inl (row r)))] ++ [(am 2, .inl (G.2 0, 54, .inl (row rm)))] ++ [(am 3, .inl (G.2 0, 54, .inl (row r2)))] ++ [(am 4, .inl (G.2 0, 54, .inl (row r4)))])) ⟨C0, hK, hP, hD, hS, hA⟩ 0 rfl (ci := 8) rfl rfl ((m9_no l G am ho rn ln pl sd lt ro rf nb (-6) noOk_k.2.2.2.2)) (cwV 1 hts (lw_V q1206 q1208 qs66 q95 q1209) rfl rfl rfl (by decide +kernel) ⟨Nat.le_of_ble_eq_true rfl, Nat.le_of_ble_eq_true rfl⟩) [0, 1, 2, 3, 4] [1, 3, 5, 7, 9, 10, 12, 14, 16] rfl (fun _ => rfl) rfl rfl hl.1 rfl (Nat.le_of_ble_eq_true rfl) dX9_minutes_35 ⟨(Nat.le_of_ble_eq_true rfl), (Nat.le_of_ble_eq_true rfl)⟩ (fun r_8 u_8 H locs hw_8 hP hD hS => ?_)
        have hw_8 : ((-6) : Int32) = r_8 := hw_8.symm
        subst hw_8
        have hP : va_P G.1 vwCl (wM G am ho rn ln pl sd lt ro (rfU rf (-6)) nb ++ [(am 1, .inl (G.2 0, 54, .inl (row r)))] ++ [(am 2, .inl (G.2 0, 54, .inl (row rm)))] ++ [(am 3, .inl (G.2 0, 54, .inl (row r2)))] ++ [(am 4, .inl (G.2 0, 54, .inl (row r4)))]) H := hP
        have hD : va_D A (wM G am ho rn ln pl sd lt ro (rfU rf (-6)) nb ++ [(am 1, .inl (G.2 0, 54, .inl (row r)))] ++ [(am 2, .inl (G.2 0, 54, .inl (row rm)))] ++ [(am 3, .inl (G.2 0, 54, .inl (row r2)))] ++ [(am 4, .inl (G.2 0, 54, .inl (row r4)))]) := hD
        have hE : eW (wBy mi.toInt 1 60) (eS (decide (r 5 1 + mi ≤ 999)) (-6) 0) = (-6) := by rw [wBy_ok (lo := 1) (hi := 60) (y := 1) (by decide) (z := 60) (by decide) c_1 (Int32.not_lt.mp c_2), eW_0 rfl, eS_f (decide_eq_false c_4)]
        have hne : ((-6) : Int32) ≠ 0 := (by decide)
        have hP : va_P G.1 vwCl (wM G am ho rn ln pl sd lt ro (sel (eW (wBy mi.toInt 1 60) (eS (decide (r 5 1 + mi ≤ 999)) (-6) 0)) rf (rfU rf (eW (wBy mi.toInt 1 60) (eS (decide (r 5 1 + mi ≤ 999)) (-6) 0)))) nb ++ [(am 1, .inl (G.2 0, 54, .inl (row (sel (eW (wBy mi.toInt 1 60) (eS (decide (r 5 1 + mi ≤ 999)) (-6) 0)) (pMins r (ix mi)) r))))] ++ [(am 2, .inl (G.2 0, 54, .inl (row rm)))] ++ [(am 3, .inl (G.2 0, 54, .inl (row r2)))] ++ [(am 4, .inl (G.2 0, 54, .inl (row r4)))]) H := by rw [hE]; simp only [sel_n hne]; exact hP
        have hD : va_D A (wM G am ho rn ln pl sd lt ro (sel (eW (wBy mi.toInt 1 60) (eS (decide (r 5 1 + mi ≤ 999)) (-6) 0)) rf (rfU rf (eW (wBy mi.toInt 1 60) (eS (decide (r 5 1 + mi ≤ 999)) (-6) 0)))) nb ++ [(am 1, .inl (G.2 0, 54, .inl (row (sel (eW (wBy mi.toInt 1 60) (eS (decide (r 5 1 + mi ≤ 999)) (-6) 0)) (pMins r (ix mi)) r))))] ++ [(am 2, .inl (G.2 0, 54, .inl (row rm)))] ++ [(am 3, .inl (G.2 0, 54, .inl (row r2)))] ++ [(am 4, .inl (G.2 0, 54, .inl (row r4)))]) := by rw [hE]; simp only [sel_n hne]; exact hD
        refine hret _ _ _ _ _ _ (-6) () dX9_minutes_38 ?_ hP hD hS (Nat.le_of_ble_eq_true rfl) (Nat.le_of_ble_eq_true rfl)
        rw [hE, sel_n hne]
  · skip
    refine lv_aload_n hx hb dX9_minutes_5 rfl (lv_at hl 0 rfl) ?_
    refine lv_bipush (v := (-4)) hx hb dX9_minutes_6 (by decide) ?_
    refine x_Vi (wN := fun _ => (wM G am ho rn ln pl sd lt ro (rfU rf (-4)) nb ++ [(am 1, .inl (G.2 0, 54, .inl (row r)))] ++ [(am 2, .inl (G.2 0, 54, .inl (row rm)))] ++ [(am 3, .inl (G.2 0, 54, .inl (row r2)))] ++ [(am 4, .inl (G.2 0, 54, .inl (row r4)))])) ⟨C0, hK, hP, hD, hS, hA⟩ 0 rfl (ci := 8) rfl rfl ((m9_no l G am ho rn ln pl sd lt ro rf nb (-4) noOk_k.2.2.2.1)) (cwV 1 hts (lw_V q1206 q1208 qs66 q95 q1209) rfl rfl rfl (by decide +kernel) ⟨Nat.le_of_ble_eq_true rfl, Nat.le_of_ble_eq_true rfl⟩) [0, 1, 2, 3, 4] [1, 3, 5, 7, 9, 10, 12, 14, 16] rfl (fun _ => rfl) rfl rfl hl.1 rfl (Nat.le_of_ble_eq_true rfl) dX9_minutes_8 ⟨(Nat.le_of_ble_eq_true rfl), (Nat.le_of_ble_eq_true rfl)⟩ (fun r_9 u_9 H locs hw_9 hP hD hS => ?_)
    have hw_9 : ((-4) : Int32) = r_9 := hw_9.symm
    subst hw_9
    have hP : va_P G.1 vwCl (wM G am ho rn ln pl sd lt ro (rfU rf (-4)) nb ++ [(am 1, .inl (G.2 0, 54, .inl (row r)))] ++ [(am 2, .inl (G.2 0, 54, .inl (row rm)))] ++ [(am 3, .inl (G.2 0, 54, .inl (row r2)))] ++ [(am 4, .inl (G.2 0, 54, .inl (row r4)))]) H := hP
    have hD : va_D A (wM G am ho rn ln pl sd lt ro (rfU rf (-4)) nb ++ [(am 1, .inl (G.2 0, 54, .inl (row r)))] ++ [(am 2, .inl (G.2 0, 54, .inl (row rm)))] ++ [(am 3, .inl (G.2 0, 54, .inl (row r2)))] ++ [(am 4, .inl (G.2 0, 54, .inl (row r4)))]) := hD
    have hE : eW (wBy mi.toInt 1 60) (eS (decide (r 5 1 + mi ≤ 999)) (-6) 0) = (-4) := by rw [wBy_lo (lo := 1) (hi := 60) (y := 1) (by decide) c_1, eW_n (show (-4 : Int32) ≠ 0 by decide)]
    have hne : ((-4) : Int32) ≠ 0 := (by decide)
    have hP : va_P G.1 vwCl (wM G am ho rn ln pl sd lt ro (sel (eW (wBy mi.toInt 1 60) (eS (decide (r 5 1 + mi ≤ 999)) (-6) 0)) rf (rfU rf (eW (wBy mi.toInt 1 60) (eS (decide (r 5 1 + mi ≤ 999)) (-6) 0)))) nb ++ [(am 1, .inl (G.2 0, 54, .inl (row (sel (eW (wBy mi.toInt 1 60) (eS (decide (r 5 1 + mi ≤ 999)) (-6) 0)) (pMins r (ix mi)) r))))] ++ [(am 2, .inl (G.2 0, 54, .inl (row rm)))] ++ [(am 3, .inl (G.2 0, 54, .inl (row r2)))] ++ [(am 4, .inl (G.2 0, 54, .inl (row r4)))]) H := by rw [hE]; simp only [sel_n hne]; exact hP
    have hD : va_D A (wM G am ho rn ln pl sd lt ro (sel (eW (wBy mi.toInt 1 60) (eS (decide (r 5 1 + mi ≤ 999)) (-6) 0)) rf (rfU rf (eW (wBy mi.toInt 1 60) (eS (decide (r 5 1 + mi ≤ 999)) (-6) 0)))) nb ++ [(am 1, .inl (G.2 0, 54, .inl (row (sel (eW (wBy mi.toInt 1 60) (eS (decide (r 5 1 + mi ≤ 999)) (-6) 0)) (pMins r (ix mi)) r))))] ++ [(am 2, .inl (G.2 0, 54, .inl (row rm)))] ++ [(am 3, .inl (G.2 0, 54, .inl (row r2)))] ++ [(am 4, .inl (G.2 0, 54, .inl (row r4)))]) := by rw [hE]; simp only [sel_n hne]; exact hD
    refine hret _ _ _ _ _ _ (-4) () dX9_minutes_11 ?_ hP hD hS (Nat.le_of_ble_eq_true rfl) (Nat.le_of_ble_eq_true rfl)
    rw [hE, sel_n hne]
set_option maxHeartbeats 4000000 in
set_option maxRecDepth 100000 in
theorem m9_takes (l : Launch) (G : xG) (am : Nat → Nat) (r rm r2 r4 : Rw) (ho rn ln pl sd : Int32) (lt ro rf nb : Nat → Int32) (hr : Ok r) (hp : r 5 3 = 0) (k : Nat) (hk1 : k < 2 ^ 30) : xCv l G yX9_takes cX9_takes 2 none ({ frames := 5, cells := 0, slots := 0, locals := 110 } : Room) [.ref (am 0), .int (nI k)] (wM G am ho rn ln pl sd lt ro rf nb ++ [(am 1, .inl (G.2 0, 54, .inl (row r)))] ++ [(am 2, .inl (G.2 0, 54, .inl (row rm)))] ++ [(am 3, .inl (G.2 0, 54, .inl (row r2)))] ++ [(am 4, .inl (G.2 0, 54, .inl (row r4)))]) (S := Unit) (fun _ => True) (fun _ => (wM G am ho rn ln pl sd lt ro rf nb ++ [(am 1, .inl (G.2 0, 54, .inl (row r)))] ++ [(am 2, .inl (G.2 0, 54, .inl (row (pMins r k))))] ++ [(am 3, .inl (G.2 0, 54, .inl (row r2)))] ++ [(am 4, .inl (G.2 0, 54, .inl (row r4)))])) := by
  refine x_openv (by decide) (Nat.le_of_ble_eq_true rfl) ?_
  intro p e s m args below meth c A Q ls C0 hK hP hD hA hl hret
  obtain ⟨hx, hb, hml, hown, hts⟩ := id C0
  have hS : va_S A s.heap s.heap [] := va_S.rf
  have hP : va_P G.1 vwCl (wM G am ho rn ln pl sd lt ro rf nb ++ [(am 1, .inl (G.2 0, 54, .inl (row r)))] ++ [(am 2, .inl (G.2 0, 54, .inl (row rm)))] ++ [(am 3, .inl (G.2 0, 54, .inl (row r2)))] ++ [(am 4, .inl (G.2 0, 54, .inl (row r4)))]) s.heap := hP
  have hD : va_D A (wM G am ho rn ln pl sd lt ro rf nb ++ [(am 1, .inl (G.2 0, 54, .inl (row r)))] ++ [(am 2, .inl (G.2 0, 54, .inl (row rm)))] ++ [(am 3, .inl (G.2 0, 54, .inl (row r2)))] ++ [(am 4, .inl (G.2 0, 54, .inl (row r4)))]) := hD
  have hl : lv_has ls 2 [(0, .ref (am 0)), (1, .int (nI k))] := hl
  have hr0 := hr.n
  have hN := hr.le
  refine lv_aload_n hx hb dX9_takes_0 rfl (lv_at hl 0 rfl) ?_
  refine va_get (D := G.1) (ci := 8) (v := .ref (am 1)) (C := RX9) (T := TX9) (N := 13) hx hb hts in_X9 hown hK.1 hP 0 rfl rfl 0 (by decide) (hts _ q1162) (fun _ h9 => h9) rfl dX9_takes_1 ?_
  refine lv_aload_n hx hb dX9_takes_4 rfl (lv_at hl 0 rfl) ?_
  refine va_get (D := G.1) (ci := 8) (v := .ref (am 2)) (C := RX9) (T := TX9) (N := 13) hx hb hts in_X9 hown hK.1 hP 0 rfl rfl 1 (by decide) (hts _ q1163) (fun _ h9 => h9) rfl dX9_takes_5 ?_
  refine x_Sv (wN := fun _ => (wM G am ho rn ln pl sd lt ro rf nb ++ [(am 1, .inl (G.2 0, 54, .inl (row r)))] ++ [(am 2, .inl (G.2 0, 54, .inl (row r)))] ++ [(am 3, .inl (G.2 0, 54, .inl (row r2)))] ++ [(am 4, .inl (G.2 0, 54, .inl (row r4)))])) ⟨C0, hK, hP, hD, hS, hA⟩ ((m9_copies l G (am 1) (am 2) (row r) (row rm))) (va_cwS 2 hts (lw_S q1236 q1237 q95 q1238) rfl rfl rfl (by decide +kernel) ⟨Nat.le_of_ble_eq_true rfl, Nat.le_of_ble_eq_true rfl⟩) [5, 6] [0, 2, 4, 6, 8, 1, 3, 14, 16] rfl (fun _ => rfl) rfl rfl hl.1 rfl (Nat.le_of_ble_eq_true rfl) dX9_takes_8 ⟨(Nat.le_of_ble_eq_true rfl), (Nat.le_of_ble_eq_true rfl)⟩ (fun u_1 H locs hw_1 hP hD hS => ?_)
  have hP : va_P G.1 vwCl (wM G am ho rn ln pl sd lt ro rf nb ++ [(am 1, .inl (G.2 0, 54, .inl (row r)))] ++ [(am 2, .inl (G.2 0, 54, .inl (row r)))] ++ [(am 3, .inl (G.2 0, 54, .inl (row r2)))] ++ [(am 4, .inl (G.2 0, 54, .inl (row r4)))]) H := hP
  have hD : va_D A (wM G am ho rn ln pl sd lt ro rf nb ++ [(am 1, .inl (G.2 0, 54, .inl (row r)))] ++ [(am 2, .inl (G.2 0, 54, .inl (row r)))] ++ [(am 3, .inl (G.2 0, 54, .inl (row r2)))] ++ [(am 4, .inl (G.2 0, 54, .inl (row r4)))]) := hD
  refine lv_aload_n hx hb dX9_takes_11 rfl (lv_at hl 0 rfl) ?_
  refine va_get (D := G.1) (ci := 8) (v := .ref (am 2)) (C := RX9) (T := TX9) (N := 13) hx hb hts in_X9 hown hK.1 hP 0 rfl rfl 1 (by decide) (hts _ q1163) (fun _ h9 => h9) rfl dX9_takes_12 ?_
  refine lv_iload_n hx hb dX9_takes_15 rfl (lv_at hl 1 rfl) ?_
  refine x_Sv (wN := fun _ => (wM G am ho rn ln pl sd lt ro rf nb ++ [(am 1, .inl (G.2 0, 54, .inl (row r)))] ++ [(am 2, .inl (G.2 0, 54, .inl (row (pMins r k))))] ++ [(am 3, .inl (G.2 0, 54, .inl (row r2)))] ++ [(am 4, .inl (G.2 0, 54, .inl (row r4)))])) ⟨C0, hK, hP, hD, hS, hA⟩ ((m9_minutesOn l G (am 2) r hr k hk1)) (va_cwS 2 hts (lw_S q1272 q1273 q95 q1274) rfl rfl rfl (by decide +kernel) ⟨Nat.le_of_ble_eq_true rfl, Nat.le_of_ble_eq_true rfl⟩) [6] [0, 2, 4, 6, 8, 10, 1, 14, 16] rfl (fun _ => rfl) rfl rfl hl.1 rfl (Nat.le_of_ble_eq_true rfl) dX9_takes_16 ⟨(Nat.le_of_ble_eq_true rfl), (Nat.le_of_ble_eq_true rfl)⟩ (fun u_2 H locs hw_2 hP hD hS => ?_)
  have hP : va_P G.1 vwCl (wM G am ho rn ln pl sd lt ro rf nb ++ [(am 1, .inl (G.2 0, 54, .inl (row r)))] ++ [(am 2, .inl (G.2 0, 54, .inl (row (pMins r k))))] ++ [(am 3, .inl (G.2 0, 54, .inl (row r2)))] ++ [(am 4, .inl (G.2 0, 54, .inl (row r4)))]) H := hP
  have hD : va_D A (wM G am ho rn ln pl sd lt ro rf nb ++ [(am 1, .inl (G.2 0, 54, .inl (row r)))] ++ [(am 2, .inl (G.2 0, 54, .inl (row (pMins r k))))] ++ [(am 3, .inl (G.2 0, 54, .inl (row r2)))] ++ [(am 4, .inl (G.2 0, 54, .inl (row r4)))]) := hD
  refine hret _ _ _ _ _ _ () dX9_takes_19 ?_ hP hD hS (Nat.le_of_ble_eq_true rfl) (Nat.le_of_ble_eq_true rfl)
  trivial

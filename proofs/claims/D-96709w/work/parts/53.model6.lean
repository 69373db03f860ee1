/-! the model: what lies, rebuilding, orders (printed by tools/model6.py) -/
/-! the model: what lies, rebuilding, orders -/
set_option maxRecDepth 100000
theorem pAll_y {P : Nat → Bool} {n : Nat} (h : P n = true) : bI (pAll P n) = bI (pAll P (n + 1)) := by
  show _ = bI (pAll P n && P n)
  rw [h, Bool.and_true]
theorem pAll_z {P : Nat → Bool} {n : Nat} (h : P n = false) : 0 = bI (pAll P (n + 1)) := by
  show 0 = bI (pAll P n && P n)
  rw [h, Bool.and_false]
  rfl
theorem pWt_n {r : Rw} {t : Nat} (h : pSt r t = false) : pWt r t = false := by unfold pWt; rw [h]; simp
theorem pSu_n {r : Rw} {t : Nat} (h : pSt r t = false) : pSuP r t = true := by unfold pSuP; rw [h]; rfl
theorem pSu_y {r : Rw} {t : Nat} {b : Bool} (h : pSt r t = true) (h2 : pHl r t = b) : pSuP r t = b := by unfold pSuP pHeld; rw [h, h2]; cases b <;> rfl
theorem pHl_hp {r : Rw} (hp : r 5 3 = 0) {t : Nat} (ht : t < 32) : pHl r t = pHu r t := by
  unfold pHl
  rw [hp, hs_0 t ht]
  rfl
theorem pLs_4 {q q' : Rw} (h : ∀ f, f ≠ 4 → q f = q' f) : pLsN q = pLsN q' := by
  have e2 := h 2 (by omega)
  have e3 := h 3 (by omega)
  have e5 := h 5 (by omega)
  have em : mny q = mny q' := by unfold mny; rw [e5]
  have ep : pLsP q = pLsP q' := by
    funext t
    unfold pLsP pHow pHu pSt
    rw [e2, e3, e5]
  unfold pLsN
  rw [em, ep]
theorem pReN_4 : ∀ (n : Nat) {q q' : Rw}, (∀ f, f ≠ 4 → q f = q' f) → pReN n q = pReN n q'
  | 0, _, _, _ => rfl
  | n + 1, q, q', h => by
    have e1 := pLs_4 h
    have em : mny q = mny q' := by unfold mny; rw [h 5 (by omega)]
    show (if pLsN q < mny q then pReN n (pSetUp q (pLsN q)) + 1 else 0) = (if pLsN q' < mny q' then pReN n (pSetUp q' (pLsN q')) + 1 else 0)
    rw [e1, em]
    have e2 : pReN n (pSetUp q (pLsN q')) = pReN n (pSetUp q' (pLsN q')) := pReN_4 n (fun f hf => by
      unfold pSetUp
      rw [sf_n _ _ hf, sf_n _ _ hf]
      by_cases h3 : f = 3
      · subst h3; rw [sf_s, sf_s, h 3 (by omega)]
      · rw [sf_n _ _ h3, sf_n _ _ h3, h f hf])
    rw [e2]
theorem pReN_m {n : Nat} {q : Rw} {t : Nat} : pReN n (sf q 3 (upd (q 3) t 0)) = pReN n (pSetUp q t) := pReN_4 n (fun f hf => by unfold pSetUp; rw [sf_n _ _ hf])
theorem pLyN_m {q : Rw} {t : Nat} : pLyN (sf q 3 (upd (q 3) t 0)) = pLyN (pSetUp q t) := rfl
theorem pLs_nn {q : Rw} (hN : mny q ≤ 10) (h : ¬ pLs q < 0) : ¬ pLs q = -9 := fun z => by rw [z] at h; exact h (by decide)
theorem pLs_9 {q : Rw} (hN : mny q ≤ 10) (h : pLs q < 0) : pLs q = -9 := by
  unfold pLs at h ⊢
  split
  · rename_i z; rw [if_pos z] at h; exact absurd h (nI_nn (by omega))
  · rfl
set_option maxHeartbeats 4000000 in
set_option maxRecDepth 100000 in
theorem n_floorFalls (l : Launch) (G : xG) (am : Nat → Nat) (r rm r2 r4 : Rw) (ho rn ln pl sd : Int32) (lt ro rf nb : Nat → Int32) (hr : Ok r) (hp : r 5 3 = 0) (sp : Int32) : xCi l G yX9_floorFalls cX9_floorFalls 3 (some .int) ({ frames := 3, cells := 0, slots := 0, locals := 67 } : Room) [.ref (am 0), .int sp] (wM G am ho rn ln pl sd lt ro rf nb ++ [(am 1, .inl (G.2 0, 54, .inl (row r)))] ++ [(am 2, .inl (G.2 0, 54, .inl (row rm)))] ++ [(am 3, .inl (G.2 0, 54, .inl (row r2)))] ++ [(am 4, .inl (G.2 0, 54, .inl (row r4)))]) (S := Unit) (fun v _ => v = sel (eW (wBy sp.toInt 0 9) 0) (pFlo r sp) (eW (wBy sp.toInt 0 9) 0)) (fun _ => (wM G am ho rn ln pl sd lt ro (sel (eW (wBy sp.toInt 0 9) 0) rf (rfU rf (eW (wBy sp.toInt 0 9) 0))) nb ++ [(am 1, .inl (G.2 0, 54, .inl (row r)))] ++ [(am 2, .inl (G.2 0, 54, .inl (row rm)))] ++ [(am 3, .inl (G.2 0, 54, .inl (row r2)))] ++ [(am 4, .inl (G.2 0, 54, .inl (row r4)))])) := by
  refine x_openi (by decide) (Nat.le_of_ble_eq_true rfl) (fun _ _ _ => rfl) ?_
  intro p e s m args below meth c A Q ls C0 hK hP hD hA hl hret
  obtain ⟨hx, hb, hml, hown, hts⟩ := id C0
  have hS : va_S A s.heap s.heap [] := va_S.rf
  have hP : va_P G.1 vwCl (wM G am ho rn ln pl sd lt ro rf nb ++ [(am 1, .inl (G.2 0, 54, .inl (row r)))] ++ [(am 2, .inl (G.2 0, 54, .inl (row rm)))] ++ [(am 3, .inl (G.2 0, 54, .inl (row r2)))] ++ [(am 4, .inl (G.2 0, 54, .inl (row r4)))]) s.heap := hP
  have hD : va_D A (wM G am ho rn ln pl sd lt ro rf nb ++ [(am 1, .inl (G.2 0, 54, .inl (row r)))] ++ [(am 2, .inl (G.2 0, 54, .inl (row rm)))] ++ [(am 3, .inl (G.2 0, 54, .inl (row r2)))] ++ [(am 4, .inl (G.2 0, 54, .inl (row r4)))]) := hD
  have hl : lv_has ls 3 [(0, .ref (am 0)), (1, .int sp)] := hl
  have hr0 := hr.n
  have hN := hr.le
  refine lv_iload_n hx hb dX9_floorFalls_0 rfl (lv_at hl 1 rfl) ?_
  refine lv_bipush (v := 9) hx hb dX9_floorFalls_1 (by decide) ?_
  refine x_Si (wN := fun _ => (wM G am ho rn ln pl sd lt ro rf nb ++ [(am 1, .inl (G.2 0, 54, .inl (row r)))] ++ [(am 2, .inl (G.2 0, 54, .inl (row rm)))] ++ [(am 3, .inl (G.2 0, 54, .inl (row r2)))] ++ [(am 4, .inl (G.2 0, 54, .inl (row r4)))])) ⟨C0, hK, hP, hD, hS, hA⟩ ((m9_wrongBy l G sp 9)) (va_cwS 2 hts (lw_S q1302 q1303 q95 q1304) rfl rfl rfl (by decide +kernel) ⟨Nat.le_of_ble_eq_true rfl, Nat.le_of_ble_eq_true rfl⟩) [] [0, 2, 4, 6, 8, 10, 12, 14, 16] rfl (fun _ => rfl) rfl rfl hl.1 rfl (Nat.le_of_ble_eq_true rfl) dX9_floorFalls_3 ⟨(Nat.le_of_ble_eq_true rfl), (Nat.le_of_ble_eq_true rfl)⟩ (fun r_1 u_1 H locs hw_1 hP hD hS => ?_)
  have hw_1 : r_1 = wBy sp.toInt 0 9 := hw_1.trans rfl
  have hw_1 : (wBy sp.toInt 0 9 : Int32) = r_1 := hw_1.symm
  subst hw_1
  refine lv_istore_n (lv' := [(2, .int (wBy sp.toInt 0 9)), (0, .ref (am 0)), (1, .int sp)]) hx hb dX9_floorFalls_6 rfl hl (by decide) rfl (fun ls hl => ?_)
  refine lv_iload_n hx hb dX9_floorFalls_7 rfl (lv_at hl 0 rfl) ?_
  refine lv_if_eq (tgt := 17) hx hb dX9_floorFalls_8 (by decide) (fun c_2 => ?_) (fun c_2 => ?_)
  · skip
    refine lv_aload_n hx hb dX9_floorFalls_17 rfl (lv_at hl 1 rfl) ?_
    refine va_get (D := G.1) (ci := 8) (v := .ref (am 1)) (C := RX9) (T := TX9) (N := 13) hx hb hts in_X9 hown hK.1 hP 0 rfl rfl 0 (by decide) (hts _ q1162) (fun _ h9 => h9) rfl dX9_floorFalls_18 ?_
    refine lv_iconst (v := 2) hx hb dX9_floorFalls_21 (by decide) ?_
    refine x_ialdn (k := 2) hx hb hK.1 hP 5 0 rfl rfl (by decide) (by decide) (v := r 5 2) rfl dX9_floorFalls_22 ?_
    refine lv_if_ne (tgt := 31) hx hb dX9_floorFalls_23 (by decide) (fun c_3 => ?_) (fun c_3 => ?_)
    · skip
      refine lv_aload_n hx hb dX9_floorFalls_31 rfl (lv_at hl 1 rfl) ?_
      refine va_get (D := G.1) (ci := 8) (v := .ref (am 1)) (C := RX9) (T := TX9) (N := 13) hx hb hts in_X9 hown hK.1 hP 0 rfl rfl 0 (by decide) (hts _ q1162) (fun _ h9 => h9) rfl dX9_floorFalls_32 ?_
      refine lv_bipush (v := (-9)) hx hb dX9_floorFalls_35 (by decide) ?_
      refine lv_iload_n hx hb dX9_floorFalls_37 rfl (lv_at hl 2 rfl) ?_
      refine x_Si (wN := fun _ => (wM G am ho rn ln pl sd lt ro rf nb ++ [(am 1, .inl (G.2 0, 54, .inl (row r)))] ++ [(am 2, .inl (G.2 0, 54, .inl (row rm)))] ++ [(am 3, .inl (G.2 0, 54, .inl (row r2)))] ++ [(am 4, .inl (G.2 0, 54, .inl (row r4)))])) ⟨C0, hK, hP, hD, hS, hA⟩ ((m9_shaken l G (am 1) r hr (-9) sp)) (va_cwS 3 hts (lw_S q1260 q1261 q95 q1262) rfl rfl rfl (by decide +kernel) ⟨Nat.le_of_ble_eq_true rfl, Nat.le_of_ble_eq_true rfl⟩) [5] [0, 2, 4, 6, 8, 1, 12, 14, 16] rfl (fun _ => rfl) rfl rfl hl.1 rfl (Nat.le_of_ble_eq_true rfl) dX9_floorFalls_38 ⟨(Nat.le_of_ble_eq_true rfl), (Nat.le_of_ble_eq_true rfl)⟩ (fun r_4 u_4 H locs hw_4 hP hD hS => ?_)
      have hw_4 : (bs (pShk r (-9) sp) (mny r) : Int32) = r_4 := hw_4.symm
      subst hw_4
      rw [show (bs (pShk r (-9) sp) (mny r) : Int32) = nI (bn (pShk r (-9) sp) (mny r)) from (bs_bn _ _ (by omega))]
      refine x_Si (wN := fun _ => (wM G am ho rn ln pl sd lt ro rf nb ++ [(am 1, .inl (G.2 0, 54, .inl (row r)))] ++ [(am 2, .inl (G.2 0, 54, .inl (row rm)))] ++ [(am 3, .inl (G.2 0, 54, .inl (row r2)))] ++ [(am 4, .inl (G.2 0, 54, .inl (row r4)))])) ⟨C0, hK, hP, hD, hS, hA⟩ ((m9_bits l G (bn (pShk r (-9) sp) (mny r)) (bn_1024 hN))) (va_cwS 1 hts (lw_S q1269 q1270 q95 q1271) rfl rfl rfl (by decide +kernel) ⟨Nat.le_of_ble_eq_true rfl, Nat.le_of_ble_eq_true rfl⟩) [] [0, 2, 4, 6, 8, 10, 12, 14, 16] rfl (fun _ => rfl) rfl rfl hl.1 rfl (Nat.le_of_ble_eq_true rfl) dX9_floorFalls_41 ⟨(Nat.le_of_ble_eq_true rfl), (Nat.le_of_ble_eq_true rfl)⟩ (fun r_5 u_5 H locs hw_5 hP hD hS => ?_)
      have hw_5 : (nI (pc (bn (pShk r (-9) sp) (mny r))) : Int32) = r_5 := hw_5.symm
      subst hw_5
      have hE : eW (wBy sp.toInt 0 9) 0 = 0 := by rw [eW_0 c_2]
      have hP : va_P G.1 vwCl (wM G am ho rn ln pl sd lt ro (sel (eW (wBy sp.toInt 0 9) 0) rf (rfU rf (eW (wBy sp.toInt 0 9) 0))) nb ++ [(am 1, .inl (G.2 0, 54, .inl (row r)))] ++ [(am 2, .inl (G.2 0, 54, .inl (row rm)))] ++ [(am 3, .inl (G.2 0, 54, .inl (row r2)))] ++ [(am 4, .inl (G.2 0, 54, .inl (row r4)))]) H := by rw [hE]; simp only [sel_0 rfl]; exact hP
      have hD : va_D A (wM G am ho rn ln pl sd lt ro (sel (eW (wBy sp.toInt 0 9) 0) rf (rfU rf (eW (wBy sp.toInt 0 9) 0))) nb ++ [(am 1, .inl (G.2 0, 54, .inl (row r)))] ++ [(am 2, .inl (G.2 0, 54, .inl (row rm)))] ++ [(am 3, .inl (G.2 0, 54, .inl (row r2)))] ++ [(am 4, .inl (G.2 0, 54, .inl (row r4)))]) := by rw [hE]; simp only [sel_0 rfl]; exact hD
      refine hret _ _ _ _ _ _ (nI (pc (bn (pShk r (-9) sp) (mny r)))) () dX9_floorFalls_44 ?_ hP hD hS (Nat.le_of_ble_eq_true rfl) (Nat.le_of_ble_eq_true rfl)
      rw [hE, sel_0 rfl]
      unfold pFlo
      rw [if_neg c_3]
      exact congrArg nI (pc_bn hN)
    · skip
      refine lv_bipush (v := (-9)) hx hb dX9_floorFalls_26 (by decide) ?_
      refine lv_goto (tgt := 44) hx hb dX9_floorFalls_28 (by decide) ?_
      have hE : eW (wBy sp.toInt 0 9) 0 = 0 := by rw [eW_0 c_2]
      have hP : va_P G.1 vwCl (wM G am ho rn ln pl sd lt ro (sel (eW (wBy sp.toInt 0 9) 0) rf (rfU rf (eW (wBy sp.toInt 0 9) 0))) nb ++ [(am 1, .inl (G.2 0, 54, .inl (row r)))] ++ [(am 2, .inl (G.2 0, 54, .inl (row rm)))] ++ [(am 3, .inl (G.2 0, 54, .inl (row r2)))] ++ [(am 4, .inl (G.2 0, 54, .inl (row r4)))]) H := by rw [hE]; simp only [sel_0 rfl]; exact hP
      have hD : va_D A (wM G am ho rn ln pl sd lt ro (sel (eW (wBy sp.toInt 0 9) 0) rf (rfU rf (eW (wBy sp.toInt 0 9) 0))) nb ++ [(am 1, .inl (G.2 0, 54, .inl (row r)))] ++ [(am 2, .inl (G.2 0, 54, .inl (row rm)))] ++ [(am 3, .inl (G.2 0, 54, .inl (row r2)))] ++ [(am 4, .inl (G.2 0, 54, .inl (row r4)))]) := by rw [hE]; simp only [sel_0 rfl]; exact hD
      refine hret _ _ _ _ _ _ (-9) () dX9_floorFalls_44 ?_ hP hD hS (Nat.le_of_ble_eq_true rfl) (Nat.le_of_ble_eq_true rfl)
      rw [hE, sel_0 rfl]
      unfold pFlo
      exact (if_pos c_3).symm
  · skip
    refine lv_aload_n hx hb dX9_floorFalls_11 rfl (lv_at hl 1 rfl) ?_
    refine lv_iload_n hx hb dX9_floorFalls_12 rfl (lv_at hl 0 rfl) ?_
    refine x_Vi (wN := fun _ => (wM G am ho rn ln pl sd lt ro (rfU rf (wBy sp.toInt 0 9)) nb ++ [(am 1, .inl (G.2 0, 54, .inl (row r)))] ++ [(am 2, .inl (G.2 0, 54, .inl (row rm)))] ++ [(am 3, .inl (G.2 0, 54, .inl (row r2)))] ++ [(am 4, .inl (G.2 0, 54, .inl (row r4)))])) ⟨C0, hK, hP, hD, hS, hA⟩ 0 rfl (ci := 8) rfl rfl ((m9_no l G am ho rn ln pl sd lt ro rf nb (wBy sp.toInt 0 9) (cOk.no cOk_WW c_2))) (cwV 1 hts (lw_V q1206 q1208 qs66 q95 q1209) rfl rfl rfl (by decide +kernel) ⟨Nat.le_of_ble_eq_true rfl, Nat.le_of_ble_eq_true rfl⟩) [0, 1, 2, 3, 4] [1, 3, 5, 7, 9, 10, 12, 14, 16] rfl (fun _ => rfl) rfl rfl hl.1 rfl (Nat.le_of_ble_eq_true rfl) dX9_floorFalls_13 ⟨(Nat.le_of_ble_eq_true rfl), (Nat.le_of_ble_eq_true rfl)⟩ (fun r_6 u_6 H locs hw_6 hP hD hS => ?_)
    have hw_6 : (wBy sp.toInt 0 9 : Int32) = r_6 := hw_6.symm
    subst hw_6
    have hP : va_P G.1 vwCl (wM G am ho rn ln pl sd lt ro (rfU rf (wBy sp.toInt 0 9)) nb ++ [(am 1, .inl (G.2 0, 54, .inl (row r)))] ++ [(am 2, .inl (G.2 0, 54, .inl (row rm)))] ++ [(am 3, .inl (G.2 0, 54, .inl (row r2)))] ++ [(am 4, .inl (G.2 0, 54, .inl (row r4)))]) H := hP
    have hD : va_D A (wM G am ho rn ln pl sd lt ro (rfU rf (wBy sp.toInt 0 9)) nb ++ [(am 1, .inl (G.2 0, 54, .inl (row r)))] ++ [(am 2, .inl (G.2 0, 54, .inl (row rm)))] ++ [(am 3, .inl (G.2 0, 54, .inl (row r2)))] ++ [(am 4, .inl (G.2 0, 54, .inl (row r4)))]) := hD
    have hE : eW (wBy sp.toInt 0 9) 0 = wBy sp.toInt 0 9 := by rw [eW_n c_2]
    have hne : (wBy sp.toInt 0 9 : Int32) ≠ 0 := c_2
    have hP : va_P G.1 vwCl (wM G am ho rn ln pl sd lt ro (sel (eW (wBy sp.toInt 0 9) 0) rf (rfU rf (eW (wBy sp.toInt 0 9) 0))) nb ++ [(am 1, .inl (G.2 0, 54, .inl (row r)))] ++ [(am 2, .inl (G.2 0, 54, .inl (row rm)))] ++ [(am 3, .inl (G.2 0, 54, .inl (row r2)))] ++ [(am 4, .inl (G.2 0, 54, .inl (row r4)))]) H := by rw [hE]; simp only [sel_n hne]; exact hP
    have hD : va_D A (wM G am ho rn ln pl sd lt ro (sel (eW (wBy sp.toInt 0 9) 0) rf (rfU rf (eW (wBy sp.toInt 0 9) 0))) nb ++ [(am 1, .inl (G.2 0, 54, .inl (row r)))] ++ [(am 2, .inl (G.2 0, 54, .inl (row rm)))] ++ [(am 3, .inl (G.2 0, 54, .inl (row r2)))] ++ [(am 4, .inl (G.2 0, 54, .inl (row r4)))]) := by rw [hE]; simp only [sel_n hne]; exact hD
    refine hret _ _ _ _ _ _ (wBy sp.toInt 0 9) () dX9_floorFalls_16 ?_ hP hD hS (Nat.le_of_ble_eq_true rfl) (Nat.le_of_ble_eq_true rfl)
    rw [hE, sel_n hne]
set_option maxHeartbeats 4000000 in
set_option maxRecDepth 100000 in
theorem n_watched (l : Launch) (G : xG) (am : Nat → Nat) (r rm r2 r4 : Rw) (ho rn ln pl sd : Int32) (lt ro rf nb : Nat → Int32) (hr : Ok r) (hp : r 5 3 = 0) (w : Int32) : xCi l G yX9_watched cX9_watched 5 (some .int) ({ frames := 3, cells := 0, slots := 0, locals := 64 } : Room) [.ref (am 0), .int w] (wM G am ho rn ln pl sd lt ro rf nb ++ [(am 1, .inl (G.2 0, 54, .inl (row r)))] ++ [(am 2, .inl (G.2 0, 54, .inl (row rm)))] ++ [(am 3, .inl (G.2 0, 54, .inl (row r2)))] ++ [(am 4, .inl (G.2 0, 54, .inl (row r4)))]) (S := Unit) (fun v _ => v = sel (eS (inR w 0 1) (-2) 0) (pWat r w) (eS (inR w 0 1) (-2) 0)) (fun _ => (wM G am ho rn ln pl sd lt ro (sel (eS (inR w 0 1) (-2) 0) rf (rfU rf (eS (inR w 0 1) (-2) 0))) nb ++ [(am 1, .inl (G.2 0, 54, .inl (row r)))] ++ [(am 2, .inl (G.2 0, 54, .inl (row rm)))] ++ [(am 3, .inl (G.2 0, 54, .inl (row r2)))] ++ [(am 4, .inl (G.2 0, 54, .inl (row r4)))])) := by
  refine x_openi (by decide) (Nat.le_of_ble_eq_true rfl) (fun _ _ _ => rfl) ?_
  intro p e s m args below meth c A Q ls C0 hK hP hD hA hl hret
  obtain ⟨hx, hb, hml, hown, hts⟩ := id C0
  have hS : va_S A s.heap s.heap [] := va_S.rf
  have hP : va_P G.1 vwCl (wM G am ho rn ln pl sd lt ro rf nb ++ [(am 1, .inl (G.2 0, 54, .inl (row r)))] ++ [(am 2, .inl (G.2 0, 54, .inl (row rm)))] ++ [(am 3, .inl (G.2 0, 54, .inl (row r2)))] ++ [(am 4, .inl (G.2 0, 54, .inl (row r4)))]) s.heap := hP
  have hD : va_D A (wM G am ho rn ln pl sd lt ro rf nb ++ [(am 1, .inl (G.2 0, 54, .inl (row r)))] ++ [(am 2, .inl (G.2 0, 54, .inl (row rm)))] ++ [(am 3, .inl (G.2 0, 54, .inl (row r2)))] ++ [(am 4, .inl (G.2 0, 54, .inl (row r4)))]) := hD
  have hl : lv_has ls 5 [(0, .ref (am 0)), (1, .int w)] := hl
  have hr0 := hr.n
  have hN := hr.le
  refine lv_iload_n hx hb dX9_watched_0 rfl (lv_at hl 1 rfl) ?_
  refine lv_iconst (v := 0) hx hb dX9_watched_1 (by decide) ?_
  refine lv_iconst (v := 1) hx hb dX9_watched_2 (by decide) ?_
  refine x_Si (wN := fun _ => (wM G am ho rn ln pl sd lt ro rf nb ++ [(am 1, .inl (G.2 0, 54, .inl (row r)))] ++ [(am 2, .inl (G.2 0, 54, .inl (row rm)))] ++ [(am 3, .inl (G.2 0, 54, .inl (row r2)))] ++ [(am 4, .inl (G.2 0, 54, .inl (row r4)))])) ⟨C0, hK, hP, hD, hS, hA⟩ ((m9_isIn l G w 0 1)) (va_cwS 3 hts (lw_S q1233 q1234 q95 q1235) rfl rfl rfl (by decide +kernel) ⟨Nat.le_of_ble_eq_true rfl, Nat.le_of_ble_eq_true rfl⟩) [] [0, 2, 4, 6, 8, 10, 12, 14, 16] rfl (fun _ => rfl) rfl rfl hl.1 rfl (Nat.le_of_ble_eq_true rfl) dX9_watched_3 ⟨(Nat.le_of_ble_eq_true rfl), (Nat.le_of_ble_eq_true rfl)⟩ (fun r_1 u_1 H locs hw_1 hP hD hS => ?_)
  have hw_1 : r_1 = bI (inR w 0 1) := hw_1.trans rfl
  have hw_1 : (bI (inR w 0 1) : Int32) = r_1 := hw_1.symm
  subst hw_1
  refine lv_if_ne (tgt := 16) hx hb dX9_watched_6 (by decide) (fun c_2 => ?_) (fun c_2 => ?_)
  · skip
    refine lv_iconst (v := 0) hx hb dX9_watched_16 (by decide) ?_
    refine lv_istore_n (lv' := [(2, .int 0), (0, .ref (am 0)), (1, .int w)]) hx hb dX9_watched_17 rfl hl (by decide) rfl (fun ls hl => ?_)
    refine lv_iconst (v := 1) hx hb dX9_watched_18 (by decide) ?_
    refine lv_istore_n (lv' := [(3, .int 1), (2, .int 0), (0, .ref (am 0)), (1, .int w)]) hx hb dX9_watched_19 rfl hl (by decide) rfl (fun ls hl => ?_)
    refine lv_iconst (v := 0) hx hb dX9_watched_20 (by decide) ?_
    refine lv_istore (lv' := [(4, .int 0), (3, .int 1), (2, .int 0), (0, .ref (am 0)), (1, .int w)]) hx hb dX9_watched_21 hl (by decide) rfl (fun ls hl => ?_)
    have loop_23 : ∀ (n : Nat) (i : Nat), (i ≤ mny r) → (mny r < i + n) → ∀ (H : Heap) (locs : List Loc) (ls : Array Slot), va_P G.1 vwCl (wM G am ho rn ln pl sd lt ro rf nb ++ [(am 1, .inl (G.2 0, 54, .inl (row r)))] ++ [(am 2, .inl (G.2 0, 54, .inl (row rm)))] ++ [(am 3, .inl (G.2 0, 54, .inl (row r2)))] ++ [(am 4, .inl (G.2 0, 54, .inl (row r4)))]) H → va_D A (wM G am ho rn ln pl sd lt ro rf nb ++ [(am 1, .inl (G.2 0, 54, .inl (row r)))] ++ [(am 2, .inl (G.2 0, 54, .inl (row rm)))] ++ [(am 3, .inl (G.2 0, 54, .inl (row r2)))] ++ [(am 4, .inl (G.2 0, 54, .inl (row r4)))]) → va_S A s.heap H locs → lv_has ls 5 [(4, .int (nI i)), (3, .int (bI (pAll (pSuP r) i))), (2, .int (nI (cn (pWt r) i))), (0, .ref (am 0)), (1, .int w)] → W p l e ({ frames := 3, cells := 0, slots := 0, locals := 64 } : Room) s m args below meth c H locs 0 0 Q (F0 m 23 ls []) := by
      intro n
      induction n with
      | zero => intro i hi23_0 hi23_1; exact absurd hi23_1 (by omega)
      | succ n ih_23 =>
        intro i hi23_0 hi23_1 H locs ls hP hD hS hl
        refine lv_iload hx hb dX9_watched_23 (lv_at hl 0 rfl) ?_
        refine lv_aload_n hx hb dX9_watched_25 rfl (lv_at hl 3 rfl) ?_
        refine va_get (D := G.1) (ci := 8) (v := .ref (am 1)) (C := RX9) (T := TX9) (N := 13) hx hb hts in_X9 hown hK.1 hP 0 rfl rfl 0 (by decide) (hts _ q1162) (fun _ h9 => h9) rfl dX9_watched_26 ?_
        refine lv_iconst (v := 0) hx hb dX9_watched_29 (by decide) ?_
        refine x_ialdn (k := 0) hx hb hK.1 hP 5 0 rfl rfl (by decide) (by decide) (v := nI (mny r)) (hr0) dX9_watched_30 ?_
        refine lv_icmp_ge (tgt := 107) hx hb dX9_watched_31 (by decide) (fun c_3 => ?_) (fun c_3 => ?_)
        · skip
          have g_3 := (nI_leI (by omega) (by omega)).mp c_3
          refine lv_iload_n hx hb dX9_watched_107 rfl (lv_at hl 4 rfl) ?_
          refine lv_if_ne (tgt := 115) hx hb dX9_watched_108 (by decide) (fun c_4 => ?_) (fun c_4 => ?_)
          · skip
            refine lv_iload_n hx hb dX9_watched_115 rfl (lv_at hl 1 rfl) ?_
            have hE : eS (inR w 0 1) (-2) 0 = 0 := by rw [eS_t (show inR w 0 1 = true from (by have h9 := c_2; simpa [bI_0] using h9))]
            have hP : va_P G.1 vwCl (wM G am ho rn ln pl sd lt ro (sel (eS (inR w 0 1) (-2) 0) rf (rfU rf (eS (inR w 0 1) (-2) 0))) nb ++ [(am 1, .inl (G.2 0, 54, .inl (row r)))] ++ [(am 2, .inl (G.2 0, 54, .inl (row rm)))] ++ [(am 3, .inl (G.2 0, 54, .inl (row r2)))] ++ [(am 4, .inl (G.2 0, 54, .inl (row r4)))]) H := by rw [hE]; simp only [sel_0 rfl]; exact hP
            have hD : va_D A (wM G am ho rn ln pl sd lt ro (sel (eS (inR w 0 1) (-2) 0) rf (rfU rf (eS (inR w 0 1) (-2) 0))) nb ++ [(am 1, .inl (G.2 0, 54, .inl (row r)))] ++ [(am 2, .inl (G.2 0, 54, .inl (row rm)))] ++ [(am 3, .inl (G.2 0, 54, .inl (row r2)))] ++ [(am 4, .inl (G.2 0, 54, .inl (row r4)))]) := by rw [hE]; simp only [sel_0 rfl]; exact hD
            refine hret _ _ _ _ _ _ (bI (pAll (pSuP r) i)) () dX9_watched_116 ?_ hP hD hS (Nat.le_of_ble_eq_true rfl) (Nat.le_of_ble_eq_true rfl)
            rw [hE, sel_0 rfl]
            unfold pWat
            rw [show mny r = i by omega]
            exact (if_neg c_4).symm
          · skip
            refine lv_iload_n hx hb dX9_watched_111 rfl (lv_at hl 2 rfl) ?_
            refine lv_goto (tgt := 116) hx hb dX9_watched_112 (by decide) ?_
            have hE : eS (inR w 0 1) (-2) 0 = 0 := by rw [eS_t (show inR w 0 1 = true from (by have h9 := c_2; simpa [bI_0] using h9))]
            have hP : va_P G.1 vwCl (wM G am ho rn ln pl sd lt ro (sel (eS (inR w 0 1) (-2) 0) rf (rfU rf (eS (inR w 0 1) (-2) 0))) nb ++ [(am 1, .inl (G.2 0, 54, .inl (row r)))] ++ [(am 2, .inl (G.2 0, 54, .inl (row rm)))] ++ [(am 3, .inl (G.2 0, 54, .inl (row r2)))] ++ [(am 4, .inl (G.2 0, 54, .inl (row r4)))]) H := by rw [hE]; simp only [sel_0 rfl]; exact hP
            have hD : va_D A (wM G am ho rn ln pl sd lt ro (sel (eS (inR w 0 1) (-2) 0) rf (rfU rf (eS (inR w 0 1) (-2) 0))) nb ++ [(am 1, .inl (G.2 0, 54, .inl (row r)))] ++ [(am 2, .inl (G.2 0, 54, .inl (row rm)))] ++ [(am 3, .inl (G.2 0, 54, .inl (row r2)))] ++ [(am 4, .inl (G.2 0, 54, .inl (row r4)))]) := by rw [hE]; simp only [sel_0 rfl]; exact hD
            refine hret _ _ _ _ _ _ (nI (cn (pWt r) i)) () dX9_watched_116 ?_ hP hD hS (Nat.le_of_ble_eq_true rfl) (Nat.le_of_ble_eq_true rfl)
            rw [hE, sel_0 rfl]
            unfold pWat
            rw [show mny r = i by omega]
            exact (if_pos c_4).symm
        · skip
          have g_3 := mt (nI_leI (by omega) (by omega)).mpr c_3
          refine lv_aload_n hx hb dX9_watched_34 rfl (lv_at hl 3 rfl) ?_
          refine va_get (D := G.1) (ci := 8) (v := .ref (am 1)) (C := RX9) (T := TX9) (N := 13) hx hb hts in_X9 hown hK.1 hP 0 rfl rfl 0 (by decide) (hts _ q1162) (fun _ h9 => h9) rfl dX9_watched_35 ?_
          refine lv_iload hx hb dX9_watched_38 (lv_at hl 0 rfl) ?_
          refine x_Si (wN := fun _ => (wM G am ho rn ln pl sd lt ro rf nb ++ [(am 1, .inl (G.2 0, 54, .inl (row r)))] ++ [(am 2, .inl (G.2 0, 54, .inl (row rm)))] ++ [(am 3, .inl (G.2 0, 54, .inl (row r2)))] ++ [(am 4, .inl (G.2 0, 54, .inl (row r4)))])) ⟨C0, hK, hP, hD, hS, hA⟩ ((m9_stands l G (am 1) r hr i (by omega))) (va_cwS 2 hts (lw_S q1251 q1252 q95 q1253) rfl rfl rfl (by decide +kernel) ⟨Nat.le_of_ble_eq_true rfl, Nat.le_of_ble_eq_true rfl⟩) [5] [0, 2, 4, 6, 8, 1, 12, 14, 16] rfl (fun _ => rfl) rfl rfl hl.1 rfl (Nat.le_of_ble_eq_true rfl) dX9_watched_40 ⟨(Nat.le_of_ble_eq_true rfl), (Nat.le_of_ble_eq_true rfl)⟩ (fun r_5 u_5 H locs hw_5 hP hD hS => ?_)
          have hw_5 : (bI (pSt r i) : Int32) = r_5 := hw_5.symm
          subst hw_5
          refine lv_if_ne (tgt := 49) hx hb dX9_watched_43 (by decide) (fun c_6 => ?_) (fun c_6 => ?_)
          · skip
            refine lv_iload_n hx hb dX9_watched_49 rfl (lv_at hl 2 rfl) ?_
            refine lv_aload_n hx hb dX9_watched_50 rfl (lv_at hl 3 rfl) ?_
            refine va_get (D := G.1) (ci := 8) (v := .ref (am 1)) (C := RX9) (T := TX9) (N := 13) hx hb hts in_X9 hown hK.1 hP 0 rfl rfl 0 (by decide) (hts _ q1162) (fun _ h9 => h9) rfl dX9_watched_51 ?_
            refine lv_iload hx hb dX9_watched_54 (lv_at hl 0 rfl) ?_
            refine lv_iconst (v := 0) hx hb dX9_watched_56 (by decide) ?_
            refine x_Si (wN := fun _ => (wM G am ho rn ln pl sd lt ro rf nb ++ [(am 1, .inl (G.2 0, 54, .inl (row r)))] ++ [(am 2, .inl (G.2 0, 54, .inl (row rm)))] ++ [(am 3, .inl (G.2 0, 54, .inl (row r2)))] ++ [(am 4, .inl (G.2 0, 54, .inl (row r4)))])) ⟨C0, hK, hP, hD, hS, hA⟩ ((m9_of l G i 0)) (va_cwS 2 hts (lw_S q1254 q1255 q95 q1256) rfl rfl rfl (by decide +kernel) ⟨Nat.le_of_ble_eq_true rfl, Nat.le_of_ble_eq_true rfl⟩) [] [0, 2, 4, 6, 8, 10, 12, 14, 16] rfl (fun _ => rfl) rfl rfl hl.1 rfl (Nat.le_of_ble_eq_true rfl) dX9_watched_57 ⟨(Nat.le_of_ble_eq_true rfl), (Nat.le_of_ble_eq_true rfl)⟩ (fun r_7 u_7 H locs hw_7 hP hD hS => ?_)
            have hw_7 : (nI (4 + 5 * i + 0) : Int32) = r_7 := hw_7.symm
            subst hw_7
            refine x_ialdn (k := (4 + 5 * i + 0)) hx hb hK.1 hP 5 0 rfl rfl (by omega) (by decide) (v := (r 0) i) (row_at _ (by decide)) dX9_watched_60 ?_
            refine lv_iconst (v := 4) hx hb dX9_watched_61 (by decide) ?_
            refine lv_icmp_ne (tgt := 80) hx hb dX9_watched_62 (by decide) (fun c_8 => ?_) (fun c_8 => ?_)
            · skip
              refine lv_iconst (v := 0) hx hb dX9_watched_80 (by decide) ?_
              refine x_iadd hx hb dX9_watched_81 (v := nI (cn (pWt r) (i + 1))) (cnI_f (by unfold pWt; rw [decide_eq_false (show ¬ r 0 i = nI 4 from c_8)]; simp)) ?_
              refine lv_istore_n (lv' := [(2, .int (nI (cn (pWt r) (i + 1)))), (4, .int (nI i)), (3, .int (bI (pAll (pSuP r) i))), (0, .ref (am 0)), (1, .int w)]) hx hb dX9_watched_82 rfl hl (by decide) rfl (fun ls hl => ?_)
              refine lv_aload_n hx hb dX9_watched_83 rfl (lv_at hl 3 rfl) ?_
              refine va_get (D := G.1) (ci := 8) (v := .ref (am 1)) (C := RX9) (T := TX9) (N := 13) hx hb hts in_X9 hown hK.1 hP 0 rfl rfl 0 (by decide) (hts _ q1162) (fun _ h9 => h9) rfl dX9_watched_84 ?_
              refine lv_iload hx hb dX9_watched_87 (lv_at hl 1 rfl) ?_
              refine x_Si (wN := fun _ => (wM G am ho rn ln pl sd lt ro rf nb ++ [(am 1, .inl (G.2 0, 54, .inl (row r)))] ++ [(am 2, .inl (G.2 0, 54, .inl (row rm)))] ++ [(am 3, .inl (G.2 0, 54, .inl (row r2)))] ++ [(am 4, .inl (G.2 0, 54, .inl (row r4)))])) ⟨C0, hK, hP, hD, hS, hA⟩ ((m9_isHeld l G (am 1) r hr i (show i < mny r by omega))) (va_cwS 2 hts (lw_S q1278 q1279 q95 q1280) rfl rfl rfl (by decide +kernel) ⟨Nat.le_of_ble_eq_true rfl, Nat.le_of_ble_eq_true rfl⟩) [5] [0, 2, 4, 6, 8, 1, 12, 14, 16] rfl (fun _ => rfl) rfl rfl hl.1 rfl (Nat.le_of_ble_eq_true rfl) dX9_watched_89 ⟨(Nat.le_of_ble_eq_true rfl), (Nat.le_of_ble_eq_true rfl)⟩ (fun r_9 u_9 H locs hw_9 hP hD hS => ?_)
              have hw_9 : (bI (pHl r i) : Int32) = r_9 := hw_9.symm
              subst hw_9
              refine lv_if_eq (tgt := 99) hx hb dX9_watched_92 (by decide) (fun c_10 => ?_) (fun c_10 => ?_)
              · skip
                refine lv_iconst (v := 0) hx hb dX9_watched_99 (by decide) ?_
                rw [show (0 : Int32) = bI (pAll (pSuP r) (i + 1)) from (pAll_z (pSu_y (show pSt r i = true from (by first | exact bI_n0 c_6 | exact bI_0.mp c_6)) (show pHl r i = false from (by first | exact bI_n0 c_10 | exact bI_0.mp c_10))))]
                refine lv_istore_n (lv' := [(3, .int (bI (pAll (pSuP r) (i + 1)))), (2, .int (nI (cn (pWt r) (i + 1)))), (4, .int (nI i)), (0, .ref (am 0)), (1, .int w)]) hx hb dX9_watched_100 rfl hl (by decide) rfl (fun ls hl => ?_)
                refine lv_iinc (v := nI (i + 1)) (lv' := [(4, .int (nI (i + 1))), (3, .int (bI (pAll (pSuP r) (i + 1)))), (2, .int (nI (cn (pWt r) (i + 1)))), (0, .ref (am 0)), (1, .int w)]) hx hb dX9_watched_101 hl (k := 2) rfl (x_inc1 _) (by decide) rfl (fun ls hl => ?_)
                refine lv_goto (tgt := 23) hx hb dX9_watched_104 (by decide) ?_
                exact ih_23 (i + 1) (by omega) (by omega) _ _ _ hP hD hS (lv_sub hl [0, 1, 2, 3, 4] rfl)
              · skip
                refine lv_iload_n hx hb dX9_watched_95 rfl (lv_at hl 2 rfl) ?_
                refine lv_goto (tgt := 100) hx hb dX9_watched_96 (by decide) ?_
                rw [show (bI (pAll (pSuP r) i) : Int32) = bI (pAll (pSuP r) (i + 1)) from (pAll_y (pSu_y (show pSt r i = true from (by first | exact bI_n0 c_6 | exact bI_0.mp c_6)) (show pHl r i = true from (by first | exact bI_n0 c_10 | exact bI_0.mp c_10))))]
                refine lv_istore_n (lv' := [(3, .int (bI (pAll (pSuP r) (i + 1)))), (2, .int (nI (cn (pWt r) (i + 1)))), (4, .int (nI i)), (0, .ref (am 0)), (1, .int w)]) hx hb dX9_watched_100 rfl hl (by decide) rfl (fun ls hl => ?_)
                refine lv_iinc (v := nI (i + 1)) (lv' := [(4, .int (nI (i + 1))), (3, .int (bI (pAll (pSuP r) (i + 1)))), (2, .int (nI (cn (pWt r) (i + 1)))), (0, .ref (am 0)), (1, .int w)]) hx hb dX9_watched_101 hl (k := 2) rfl (x_inc1 _) (by decide) rfl (fun ls hl => ?_)
                refine lv_goto (tgt := 23) hx hb dX9_watched_104 (by decide) ?_
                exact ih_23 (i + 1) (by omega) (by omega) _ _ _ hP hD hS (lv_sub hl [0, 1, 2, 3, 4] rfl)
            · skip
              refine lv_aload_n hx hb dX9_watched_65 rfl (lv_at hl 3 rfl) ?_
              refine va_get (D := G.1) (ci := 8) (v := .ref (am 1)) (C := RX9) (T := TX9) (N := 13) hx hb hts in_X9 hown hK.1 hP 0 rfl rfl 0 (by decide) (hts _ q1162) (fun _ h9 => h9) rfl dX9_watched_66 ?_
              refine lv_iconst (v := 1) hx hb dX9_watched_69 (by decide) ?_
              refine x_Si (wN := fun _ => (wM G am ho rn ln pl sd lt ro rf nb ++ [(am 1, .inl (G.2 0, 54, .inl (row r)))] ++ [(am 2, .inl (G.2 0, 54, .inl (row rm)))] ++ [(am 3, .inl (G.2 0, 54, .inl (row r2)))] ++ [(am 4, .inl (G.2 0, 54, .inl (row r4)))])) ⟨C0, hK, hP, hD, hS, hA⟩ ((m9_setOf l G (am 1) r hr 1)) (va_cwS 2 hts (lw_S q1281 q1282 q95 q1283) rfl rfl rfl (by decide +kernel) ⟨Nat.le_of_ble_eq_true rfl, Nat.le_of_ble_eq_true rfl⟩) [5] [0, 2, 4, 6, 8, 1, 12, 14, 16] rfl (fun _ => rfl) rfl rfl hl.1 rfl (Nat.le_of_ble_eq_true rfl) dX9_watched_70 ⟨(Nat.le_of_ble_eq_true rfl), (Nat.le_of_ble_eq_true rfl)⟩ (fun r_11 u_11 H locs hw_11 hP hD hS => ?_)
              have hw_11 : (pSet r 1 : Int32) = r_11 := hw_11.symm
              subst hw_11
              refine lv_if_eq (tgt := 80) hx hb dX9_watched_73 (by decide) (fun c_12 => ?_) (fun c_12 => ?_)
              · skip
                refine lv_iconst (v := 0) hx hb dX9_watched_80 (by decide) ?_
                refine x_iadd hx hb dX9_watched_81 (v := nI (cn (pWt r) (i + 1))) (cnI_f (by unfold pWt pLie; simp [show pSet r 1 = 0 from c_12])) ?_
                refine lv_istore_n (lv' := [(2, .int (nI (cn (pWt r) (i + 1)))), (4, .int (nI i)), (3, .int (bI (pAll (pSuP r) i))), (0, .ref (am 0)), (1, .int w)]) hx hb dX9_watched_82 rfl hl (by decide) rfl (fun ls hl => ?_)
                refine lv_aload_n hx hb dX9_watched_83 rfl (lv_at hl 3 rfl) ?_
                refine va_get (D := G.1) (ci := 8) (v := .ref (am 1)) (C := RX9) (T := TX9) (N := 13) hx hb hts in_X9 hown hK.1 hP 0 rfl rfl 0 (by decide) (hts _ q1162) (fun _ h9 => h9) rfl dX9_watched_84 ?_
                refine lv_iload hx hb dX9_watched_87 (lv_at hl 1 rfl) ?_
                refine x_Si (wN := fun _ => (wM G am ho rn ln pl sd lt ro rf nb ++ [(am 1, .inl (G.2 0, 54, .inl (row r)))] ++ [(am 2, .inl (G.2 0, 54, .inl (row rm)))] ++ [(am 3, .inl (G.2 0, 54, .inl (row r2)))] ++ [(am 4, .inl (G.2 0, 54, .inl (row r4)))])) ⟨C0, hK, hP, hD, hS, hA⟩ ((m9_isHeld l G (am 1) r hr i (show i < mny r by omega))) (va_cwS 2 hts (lw_S q1278 q1279 q95 q1280) rfl rfl rfl (by decide +kernel) ⟨Nat.le_of_ble_eq_true rfl, Nat.le_of_ble_eq_true rfl⟩) [5] [0, 2, 4, 6, 8, 1, 12, 14, 16] rfl (fun _ => rfl) rfl rfl hl.1 rfl (Nat.le_of_ble_eq_true rfl) dX9_watched_89 ⟨(Nat.le_of_ble_eq_true rfl), (Nat.le_of_ble_eq_true rfl)⟩ (fun r_13 u_13 H locs hw_13 hP hD hS => ?_)
                have hw_13 : (bI (pHl r i) : Int32) = r_13 := hw_13.symm
                subst hw_13
                refine lv_if_eq (tgt := 99) hx hb dX9_watched_92 (by decide) (fun c_14 => ?_) (fun c_14 => ?_)
                · skip
                  refine lv_iconst (v := 0) hx hb dX9_watched_99 (by decide) ?_
                  rw [show (0 : Int32) = bI (pAll (pSuP r) (i + 1)) from (pAll_z (pSu_y (show pSt r i = true from (by first | exact bI_n0 c_6 | exact bI_0.mp c_6)) (show pHl r i = false from (by first | exact bI_n0 c_14 | exact bI_0.mp c_14))))]
                  refine lv_istore_n (lv' := [(3, .int (bI (pAll (pSuP r) (i + 1)))), (2, .int (nI (cn (pWt r) (i + 1)))), (4, .int (nI i)), (0, .ref (am 0)), (1, .int w)]) hx hb dX9_watched_100 rfl hl (by decide) rfl (fun ls hl => ?_)
                  refine lv_iinc (v := nI (i + 1)) (lv' := [(4, .int (nI (i + 1))), (3, .int (bI (pAll (pSuP r) (i + 1)))), (2, .int (nI (cn (pWt r) (i + 1)))), (0, .ref (am 0)), (1, .int w)]) hx hb dX9_watched_101 hl (k := 2) rfl (x_inc1 _) (by decide) rfl (fun ls hl => ?_)
                  refine lv_goto (tgt := 23) hx hb dX9_watched_104 (by decide) ?_
                  exact ih_23 (i + 1) (by omega) (by omega) _ _ _ hP hD hS (lv_sub hl [0, 1, 2, 3, 4] rfl)
                · skip
                  refine lv_iload_n hx hb dX9_watched_95 rfl (lv_at hl 2 rfl) ?_
                  refine lv_goto (tgt := 100) hx hb dX9_watched_96 (by decide) ?_
                  rw [show (bI (pAll (pSuP r) i) : Int32) = bI (pAll (pSuP r) (i + 1)) from (pAll_y (pSu_y (show pSt r i = true from (by first | exact bI_n0 c_6 | exact bI_0.mp c_6)) (show pHl r i = true from (by first | exact bI_n0 c_14 | exact bI_0.mp c_14))))]
                  refine lv_istore_n (lv' := [(3, .int (bI (pAll (pSuP r) (i + 1)))), (2, .int (nI (cn (pWt r) (i + 1)))), (4, .int (nI i)), (0, .ref (am 0)), (1, .int w)]) hx hb dX9_watched_100 rfl hl (by decide) rfl (fun ls hl => ?_)
                  refine lv_iinc (v := nI (i + 1)) (lv' := [(4, .int (nI (i + 1))), (3, .int (bI (pAll (pSuP r) (i + 1)))), (2, .int (nI (cn (pWt r) (i + 1)))), (0, .ref (am 0)), (1, .int w)]) hx hb dX9_watched_101 hl (k := 2) rfl (x_inc1 _) (by decide) rfl (fun ls hl => ?_)
                  refine lv_goto (tgt := 23) hx hb dX9_watched_104 (by decide) ?_
                  exact ih_23 (i + 1) (by omega) (by omega) _ _ _ hP hD hS (lv_sub hl [0, 1, 2, 3, 4] rfl)
              · skip
                refine lv_iconst (v := 1) hx hb dX9_watched_76 (by decide) ?_
                refine lv_goto (tgt := 81) hx hb dX9_watched_77 (by decide) ?_
                refine x_iadd hx hb dX9_watched_81 (v := nI (cn (pWt r) (i + 1))) (cnI_t (by unfold pWt pLie; rw [decide_eq_true (show pSet r 1 ≠ 0 from c_12), show pSt r i = true from (by first | exact bI_n0 c_6 | exact bI_0.mp c_6), decide_eq_true (show r 0 i = nI 4 from c_8)]; rfl)) ?_
                refine lv_istore_n (lv' := [(2, .int (nI (cn (pWt r) (i + 1)))), (4, .int (nI i)), (3, .int (bI (pAll (pSuP r) i))), (0, .ref (am 0)), (1, .int w)]) hx hb dX9_watched_82 rfl hl (by decide) rfl (fun ls hl => ?_)
                refine lv_aload_n hx hb dX9_watched_83 rfl (lv_at hl 3 rfl) ?_
                refine va_get (D := G.1) (ci := 8) (v := .ref (am 1)) (C := RX9) (T := TX9) (N := 13) hx hb hts in_X9 hown hK.1 hP 0 rfl rfl 0 (by decide) (hts _ q1162) (fun _ h9 => h9) rfl dX9_watched_84 ?_
                refine lv_iload hx hb dX9_watched_87 (lv_at hl 1 rfl) ?_
                refine x_Si (wN := fun _ => (wM G am ho rn ln pl sd lt ro rf nb ++ [(am 1, .inl (G.2 0, 54, .inl (row r)))] ++ [(am 2, .inl (G.2 0, 54, .inl (row rm)))] ++ [(am 3, .inl (G.2 0, 54, .inl (row r2)))] ++ [(am 4, .inl (G.2 0, 54, .inl (row r4)))])) ⟨C0, hK, hP, hD, hS, hA⟩ ((m9_isHeld l G (am 1) r hr i (show i < mny r by omega))) (va_cwS 2 hts (lw_S q1278 q1279 q95 q1280) rfl rfl rfl (by decide +kernel) ⟨Nat.le_of_ble_eq_true rfl, Nat.le_of_ble_eq_true rfl⟩) [5] [0, 2, 4, 6, 8, 1, 12, 14, 16] rfl (fun _ => rfl) rfl rfl hl.1 rfl (Nat.le_of_ble_eq_true rfl) dX9_watched_89 ⟨(Nat.le_of_ble_eq_true rfl), (Nat.le_of_ble_eq_true rfl)⟩ (fun r_15 u_15 H locs hw_15 hP hD hS => ?_)
                have hw_15 : (bI (pHl r i) : Int32) = r_15 := hw_15.symm
                subst hw_15
                refine lv_if_eq (tgt := 99) hx hb dX9_watched_92 (by decide) (fun c_16 => ?_) (fun c_16 => ?_)
                · skip
                  refine lv_iconst (v := 0) hx hb dX9_watched_99 (by decide) ?_
                  rw [show (0 : Int32) = bI (pAll (pSuP r) (i + 1)) from (pAll_z (pSu_y (show pSt r i = true from (by first | exact bI_n0 c_6 | exact bI_0.mp c_6)) (show pHl r i = false from (by first | exact bI_n0 c_16 | exact bI_0.mp c_16))))]
                  refine lv_istore_n (lv' := [(3, .int (bI (pAll (pSuP r) (i + 1)))), (2, .int (nI (cn (pWt r) (i + 1)))), (4, .int (nI i)), (0, .ref (am 0)), (1, .int w)]) hx hb dX9_watched_100 rfl hl (by decide) rfl (fun ls hl => ?_)
                  refine lv_iinc (v := nI (i + 1)) (lv' := [(4, .int (nI (i + 1))), (3, .int (bI (pAll (pSuP r) (i + 1)))), (2, .int (nI (cn (pWt r) (i + 1)))), (0, .ref (am 0)), (1, .int w)]) hx hb dX9_watched_101 hl (k := 2) rfl (x_inc1 _) (by decide) rfl (fun ls hl => ?_)
                  refine lv_goto (tgt := 23) hx hb dX9_watched_104 (by decide) ?_
                  exact ih_23 (i + 1) (by omega) (by omega) _ _ _ hP hD hS (lv_sub hl [0, 1, 2, 3, 4] rfl)
                · skip
                  refine lv_iload_n hx hb dX9_watched_95 rfl (lv_at hl 2 rfl) ?_
                  refine lv_goto (tgt := 100) hx hb dX9_watched_96 (by decide) ?_
                  rw [show (bI (pAll (pSuP r) i) : Int32) = bI (pAll (pSuP r) (i + 1)) from (pAll_y (pSu_y (show pSt r i = true from (by first | exact bI_n0 c_6 | exact bI_0.mp c_6)) (show pHl r i = true from (by first | exact bI_n0 c_16 | exact bI_0.mp c_16))))]
                  refine lv_istore_n (lv' := [(3, .int (bI (pAll (pSuP r) (i + 1)))), (2, .int (nI (cn (pWt r) (i + 1)))), (4, .int (nI i)), (0, .ref (am 0)), (1, .int w)]) hx hb dX9_watched_100 rfl hl (by decide) rfl (fun ls hl => ?_)
                  refine lv_iinc (v := nI (i + 1)) (lv' := [(4, .int (nI (i + 1))), (3, .int (bI (pAll (pSuP r) (i + 1)))), (2, .int (nI (cn (pWt r) (i + 1)))), (0, .ref (am 0)), (1, .int w)]) hx hb dX9_watched_101 hl (k := 2) rfl (x_inc1 _) (by decide) rfl (fun ls hl => ?_)
                  refine lv_goto (tgt := 23) hx hb dX9_watched_104 (by decide) ?_
                  exact ih_23 (i + 1) (by omega) (by omega) _ _ _ hP hD hS (lv_sub hl [0, 1, 2, 3, 4] rfl)
          · skip
            refine lv_goto (tgt := 101) hx hb dX9_watched_46 (by decide) ?_
            refine lv_iinc (v := nI (i + 1)) (lv' := [(4, .int (nI (i + 1))), (3, .int (bI (pAll (pSuP r) i))), (2, .int (nI (cn (pWt r) i))), (0, .ref (am 0)), (1, .int w)]) hx hb dX9_watched_101 hl (k := 0) rfl (x_inc1 _) (by decide) rfl (fun ls hl => ?_)
            refine lv_goto (tgt := 23) hx hb dX9_watched_104 (by decide) ?_
            rw [show cn (pWt r) i = cn (pWt r) (i + 1) from (cn_f (pWt_n (show pSt r i = false from (by first | exact bI_n0 c_6 | exact bI_0.mp c_6)))).symm, pAll_y (pSu_n (show pSt r i = false from (by first | exact bI_n0 c_6 | exact bI_0.mp c_6)))] at hl
            exact ih_23 (i + 1) (by omega) (by omega) _ _ _ hP hD hS (lv_sub hl [0, 1, 2, 3, 4] rfl)
    exact loop_23 (mny r + 1) 0 (by omega) (by omega) _ _ _ hP hD hS (lv_sub hl [0, 1, 2, 3, 4] rfl)
  · skip
    refine lv_aload_n hx hb dX9_watched_9 rfl (lv_at hl 0 rfl) ?_
    refine lv_bipush (v := (-2)) hx hb dX9_watched_10 (by decide) ?_
    refine x_Vi (wN := fun _ => (wM G am ho rn ln pl sd lt ro (rfU rf (-2)) nb ++ [(am 1, .inl (G.2 0, 54, .inl (row r)))] ++ [(am 2, .inl (G.2 0, 54, .inl (row rm)))] ++ [(am 3, .inl (G.2 0, 54, .inl (row r2)))] ++ [(am 4, .inl (G.2 0, 54, .inl (row r4)))])) ⟨C0, hK, hP, hD, hS, hA⟩ 0 rfl (ci := 8) rfl rfl ((m9_no l G am ho rn ln pl sd lt ro rf nb (-2) noOk_k.2.1)) (cwV 1 hts (lw_V q1206 q1208 qs66 q95 q1209) rfl rfl rfl (by decide +kernel) ⟨Nat.le_of_ble_eq_true rfl, Nat.le_of_ble_eq_true rfl⟩) [0, 1, 2, 3, 4] [1, 3, 5, 7, 9, 10, 12, 14, 16] rfl (fun _ => rfl) rfl rfl hl.1 rfl (Nat.le_of_ble_eq_true rfl) dX9_watched_12 ⟨(Nat.le_of_ble_eq_true rfl), (Nat.le_of_ble_eq_true rfl)⟩ (fun r_17 u_17 H locs hw_17 hP hD hS => ?_)
    have hw_17 : ((-2) : Int32) = r_17 := hw_17.symm
    subst hw_17
    have hP : va_P G.1 vwCl (wM G am ho rn ln pl sd lt ro (rfU rf (-2)) nb ++ [(am 1, .inl (G.2 0, 54, .inl (row r)))] ++ [(am 2, .inl (G.2 0, 54, .inl (row rm)))] ++ [(am 3, .inl (G.2 0, 54, .inl (row r2)))] ++ [(am 4, .inl (G.2 0, 54, .inl (row r4)))]) H := hP
    have hD : va_D A (wM G am ho rn ln pl sd lt ro (rfU rf (-2)) nb ++ [(am 1, .inl (G.2 0, 54, .inl (row r)))] ++ [(am 2, .inl (G.2 0, 54, .inl (row rm)))] ++ [(am 3, .inl (G.2 0, 54, .inl (row r2)))] ++ [(am 4, .inl (G.2 0, 54, .inl (row r4)))]) := hD
    have hE : eS (inR w 0 1) (-2) 0 = (-2) := by rw [eS_f (show inR w 0 1 = false from (by have h9 := c_2; simpa [bI_0] using h9))]
    have hne : ((-2) : Int32) ≠ 0 := (by decide)
    have hP : va_P G.1 vwCl (wM G am ho rn ln pl sd lt ro (sel (eS (inR w 0 1) (-2) 0) rf (rfU rf (eS (inR w 0 1) (-2) 0))) nb ++ [(am 1, .inl (G.2 0, 54, .inl (row r)))] ++ [(am 2, .inl (G.2 0, 54, .inl (row rm)))] ++ [(am 3, .inl (G.2 0, 54, .inl (row r2)))] ++ [(am 4, .inl (G.2 0, 54, .inl (row r4)))]) H := by rw [hE]; simp only [sel_n hne]; exact hP
    have hD : va_D A (wM G am ho rn ln pl sd lt ro (sel (eS (inR w 0 1) (-2) 0) rf (rfU rf (eS (inR w 0 1) (-2) 0))) nb ++ [(am 1, .inl (G.2 0, 54, .inl (row r)))] ++ [(am 2, .inl (G.2 0, 54, .inl (row rm)))] ++ [(am 3, .inl (G.2 0, 54, .inl (row r2)))] ++ [(am 4, .inl (G.2 0, 54, .inl (row r4)))]) := by rw [hE]; simp only [sel_n hne]; exact hD
    refine hret _ _ _ _ _ _ (-2) () dX9_watched_15 ?_ hP hD hS (Nat.le_of_ble_eq_true rfl) (Nat.le_of_ble_eq_true rfl)
    rw [hE, sel_n hne]
set_option maxHeartbeats 4000000 in
set_option maxRecDepth 100000 in
theorem m9_rebuilt (l : Launch) (G : xG) (q : Nat) (r : Rw) (hr : Ok r) (hp9 : r 5 3 = 0) : xCi l G yX9_rebuilt cX9_rebuilt 2 (some .int) ({ frames := 3, cells := 0, slots := 0, locals := 64 } : Room) [.ref q] ([(q, .inl (G.2 0, 54, .inl (row r)))]) (S := Unit) (fun v _ => v = pLs r) (fun _ => ([(q, .inl (G.2 0, 54, .inl (row r)))])) := by
  refine x_openi (by decide) (Nat.le_of_ble_eq_true rfl) (fun _ _ _ => rfl) ?_
  intro p e s m args below meth c A Q ls C0 hK hP hD hA hl hret
  obtain ⟨hx, hb, hml, hown, hts⟩ := id C0
  have hS : va_S A s.heap s.heap [] := va_S.rf
  have hP : va_P G.1 vwCl ([(q, .inl (G.2 0, 54, .inl (row r)))]) s.heap := hP
  have hD : va_D A ([(q, .inl (G.2 0, 54, .inl (row r)))]) := hD
  have hl : lv_has ls 2 [(0, .ref q)] := hl
  have hr0 := hr.n
  have hN := hr.le
  refine lv_iconst (v := 0) hx hb dX9_rebuilt_0 (by decide) ?_
  refine lv_istore_n (lv' := [(1, .int 0), (0, .ref q)]) hx hb dX9_rebuilt_1 rfl hl (by decide) rfl (fun ls hl => ?_)
  have loop_2 : ∀ (n : Nat) (i : Nat), (i ≤ mny r) → (mny r < i + n) → (∀ j, j < i → pLsP r j = false) → ∀ (H : Heap) (locs : List Loc) (ls : Array Slot), va_P G.1 vwCl ([(q, .inl (G.2 0, 54, .inl (row r)))]) H → va_D A ([(q, .inl (G.2 0, 54, .inl (row r)))]) → va_S A s.heap H locs → lv_has ls 2 [(1, .int (nI i)), (0, .ref q)] → W p l e ({ frames := 3, cells := 0, slots := 0, locals := 64 } : Room) s m args below meth c H locs 0 0 Q (F0 m 2 ls []) := by
    intro n
    induction n with
    | zero => intro i hi2_0 hi2_1 hi2_2; exact absurd hi2_1 (by omega)
    | succ n ih_2 =>
      intro i hi2_0 hi2_1 hi2_2 H locs ls hP hD hS hl
      refine lv_iload_n hx hb dX9_rebuilt_2 rfl (lv_at hl 0 rfl) ?_
      refine lv_aload_n hx hb dX9_rebuilt_3 rfl (lv_at hl 1 rfl) ?_
      refine lv_iconst (v := 0) hx hb dX9_rebuilt_4 (by decide) ?_
      refine x_ialdn (k := 0) hx hb hK.1 hP 0 0 rfl rfl (by decide) (by decide) (v := nI (mny r)) (hr0) dX9_rebuilt_5 ?_
      refine lv_icmp_ge (tgt := 36) hx hb dX9_rebuilt_6 (by decide) (fun c_1 => ?_) (fun c_1 => ?_)
      · skip
        have g_1 := (nI_leI (by omega) (by omega)).mp c_1
        refine lv_bipush (v := (-9)) hx hb dX9_rebuilt_36 (by decide) ?_
        refine hret _ _ _ _ _ _ (-9) () dX9_rebuilt_38 ?_ hP hD hS (Nat.le_of_ble_eq_true rfl) (Nat.le_of_ble_eq_true rfl)
        exact pLs_no (fun j hj => hi2_2 j (by omega))
      · skip
        have g_1 := mt (nI_leI (by omega) (by omega)).mpr c_1
        refine lv_aload_n hx hb dX9_rebuilt_9 rfl (lv_at hl 1 rfl) ?_
        refine lv_iload_n hx hb dX9_rebuilt_10 rfl (lv_at hl 0 rfl) ?_
        refine lv_iconst (v := 3) hx hb dX9_rebuilt_11 (by decide) ?_
        refine x_Si (wN := fun _ => ([(q, .inl (G.2 0, 54, .inl (row r)))])) ⟨C0, hK, hP, hD, hS, hA⟩ ((m9_of l G i 3)) (va_cwS 2 hts (lw_S q1254 q1255 q95 q1256) rfl rfl rfl (by decide +kernel) ⟨Nat.le_of_ble_eq_true rfl, Nat.le_of_ble_eq_true rfl⟩) [] [0] rfl (fun _ => rfl) rfl rfl hl.1 rfl (Nat.le_of_ble_eq_true rfl) dX9_rebuilt_12 ⟨(Nat.le_of_ble_eq_true rfl), (Nat.le_of_ble_eq_true rfl)⟩ (fun r_2 u_2 H locs hw_2 hP hD hS => ?_)
        have hw_2 : (nI (4 + 5 * i + 3) : Int32) = r_2 := hw_2.symm
        subst hw_2
        refine x_ialdn (k := (4 + 5 * i + 3)) hx hb hK.1 hP 0 0 rfl rfl (by omega) (by decide) (v := (r 3) i) (row_at _ (by decide)) dX9_rebuilt_15 ?_
        refine lv_iconst (v := 1) hx hb dX9_rebuilt_16 (by decide) ?_
        refine lv_icmp_ne (tgt := 30) hx hb dX9_rebuilt_17 (by decide) (fun c_3 => ?_) (fun c_3 => ?_)
        · skip
          refine lv_iinc (v := nI (i + 1)) (lv' := [(1, .int (nI (i + 1))), (0, .ref q)]) hx hb dX9_rebuilt_30 hl (k := 0) rfl (x_inc1 _) (by decide) rfl (fun ls hl => ?_)
          refine lv_goto (tgt := 2) hx hb dX9_rebuilt_33 (by decide) ?_
          exact ih_2 (i + 1) (by omega) (by omega) (fun j hj => if q : j = i then q ▸ (by unfold pLsP pHow; rw [decide_eq_false (show ¬ r 3 i = 1 from c_3)]; rfl) else hi2_2 j (by omega)) _ _ _ hP hD hS (lv_sub hl [0, 1] rfl)
        · skip
          refine lv_aload_n hx hb dX9_rebuilt_20 rfl (lv_at hl 1 rfl) ?_
          refine lv_iload_n hx hb dX9_rebuilt_21 rfl (lv_at hl 0 rfl) ?_
          refine x_Si (wN := fun _ => ([(q, .inl (G.2 0, 54, .inl (row r)))])) ⟨C0, hK, hP, hD, hS, hA⟩ ((m9_isHeld l G q r hr i (show i < mny r by omega))) (va_cwS 2 hts (lw_S q1278 q1279 q95 q1280) rfl rfl rfl (by decide +kernel) ⟨Nat.le_of_ble_eq_true rfl, Nat.le_of_ble_eq_true rfl⟩) [0] [1] rfl (fun _ => rfl) rfl rfl hl.1 rfl (Nat.le_of_ble_eq_true rfl) dX9_rebuilt_22 ⟨(Nat.le_of_ble_eq_true rfl), (Nat.le_of_ble_eq_true rfl)⟩ (fun r_4 u_4 H locs hw_4 hP hD hS => ?_)
          have hw_4 : (bI (pHl r i) : Int32) = r_4 := hw_4.symm
          subst hw_4
          refine lv_if_eq (tgt := 30) hx hb dX9_rebuilt_25 (by decide) (fun c_5 => ?_) (fun c_5 => ?_)
          · skip
            refine lv_iinc (v := nI (i + 1)) (lv' := [(1, .int (nI (i + 1))), (0, .ref q)]) hx hb dX9_rebuilt_30 hl (k := 0) rfl (x_inc1 _) (by decide) rfl (fun ls hl => ?_)
            refine lv_goto (tgt := 2) hx hb dX9_rebuilt_33 (by decide) ?_
            exact ih_2 (i + 1) (by omega) (by omega) (fun j hj => if q : j = i then q ▸ (by unfold pLsP; rw [← pHl_hp hp9 (by omega), show pHl r i = false from (by first | exact bI_n0 c_5 | exact bI_0.mp c_5)]; simp) else hi2_2 j (by omega)) _ _ _ hP hD hS (lv_sub hl [0, 1] rfl)
          · skip
            refine lv_iload_n hx hb dX9_rebuilt_28 rfl (lv_at hl 0 rfl) ?_
            refine hret _ _ _ _ _ _ (nI i) () dX9_rebuilt_29 ?_ hP hD hS (Nat.le_of_ble_eq_true rfl) (Nat.le_of_ble_eq_true rfl)
            exact pLs_at (by omega) hi2_2 (by unfold pLsP pHow; rw [decide_eq_true (show r 3 i = 1 from c_3), ← pHl_hp hp9 (by omega), show pHl r i = true from (by first | exact bI_n0 c_5 | exact bI_0.mp c_5)]; rfl)
  exact loop_2 (mny r + 1) 0 (by omega) (by omega) (fun j hj => absurd hj (Nat.not_lt_zero j)) _ _ _ hP hD hS (lv_sub hl [0, 1] rfl)
set_option maxHeartbeats 4000000 in
set_option maxRecDepth 100000 in
theorem n_rebuild (l : Launch) (G : xG) (am : Nat → Nat) (r rm r2 r4 : Rw) (ho rn ln pl sd : Int32) (lt ro rf nb : Nat → Int32) (hr : Ok r) (hp : r 5 3 = 0) (t : Int32) : xCi l G yX9_rebuild cX9_rebuild 4 (some .int) ({ frames := 4, cells := 0, slots := 0, locals := 85 } : Room) [.ref (am 0), .int t] (wM G am ho rn ln pl sd lt ro rf nb ++ [(am 1, .inl (G.2 0, 54, .inl (row r)))] ++ [(am 2, .inl (G.2 0, 54, .inl (row rm)))] ++ [(am 3, .inl (G.2 0, 54, .inl (row r2)))] ++ [(am 4, .inl (G.2 0, 54, .inl (row r4)))]) (S := Rw) (fun v _ => v = sel (eS (inR t 0 1) (-2) 0) (pReb r t) (eS (inR t 0 1) (-2) 0)) (fun u => (wM G am ho rn ln pl sd lt ro (sel (eS (inR t 0 1) (-2) 0) rf (rfU rf (eS (inR t 0 1) (-2) 0))) nb ++ [(am 1, .inl (G.2 0, 54, .inl (row r)))] ++ [(am 2, .inl (G.2 0, 54, .inl (row u)))] ++ [(am 3, .inl (G.2 0, 54, .inl (row r2)))] ++ [(am 4, .inl (G.2 0, 54, .inl (row r4)))])) := by
  refine x_openi (by decide) (Nat.le_of_ble_eq_true rfl) (fun _ _ _ => rfl) ?_
  intro p e s m args below meth c A Q ls C0 hK hP hD hA hl hret
  obtain ⟨hx, hb, hml, hown, hts⟩ := id C0
  have hS : va_S A s.heap s.heap [] := va_S.rf
  have hP : va_P G.1 vwCl (wM G am ho rn ln pl sd lt ro rf nb ++ [(am 1, .inl (G.2 0, 54, .inl (row r)))] ++ [(am 2, .inl (G.2 0, 54, .inl (row rm)))] ++ [(am 3, .inl (G.2 0, 54, .inl (row r2)))] ++ [(am 4, .inl (G.2 0, 54, .inl (row r4)))]) s.heap := hP
  have hD : va_D A (wM G am ho rn ln pl sd lt ro rf nb ++ [(am 1, .inl (G.2 0, 54, .inl (row r)))] ++ [(am 2, .inl (G.2 0, 54, .inl (row rm)))] ++ [(am 3, .inl (G.2 0, 54, .inl (row r2)))] ++ [(am 4, .inl (G.2 0, 54, .inl (row r4)))]) := hD
  have hl : lv_has ls 4 [(0, .ref (am 0)), (1, .int t)] := hl
  have hr0 := hr.n
  have hN := hr.le
  refine lv_iload_n hx hb dX9_rebuild_0 rfl (lv_at hl 1 rfl) ?_
  refine lv_iconst (v := 0) hx hb dX9_rebuild_1 (by decide) ?_
  refine lv_iconst (v := 1) hx hb dX9_rebuild_2 (by decide) ?_
  refine x_Si (wN := fun _ => (wM G am ho rn ln pl sd lt ro rf nb ++ [(am 1, .inl (G.2 0, 54, .inl (row r)))] ++ [(am 2, .inl (G.2 0, 54, .inl (row rm)))] ++ [(am 3, .inl (G.2 0, 54, .inl (row r2)))] ++ [(am 4, .inl (G.2 0, 54, .inl (row r4)))])) ⟨C0, hK, hP, hD, hS, hA⟩ ((m9_isIn l G t 0 1)) (va_cwS 3 hts (lw_S q1233 q1234 q95 q1235) rfl rfl rfl (by decide +kernel) ⟨Nat.le_of_ble_eq_true rfl, Nat.le_of_ble_eq_true rfl⟩) [] [0, 2, 4, 6, 8, 10, 12, 14, 16] rfl (fun _ => rfl) rfl rfl hl.1 rfl (Nat.le_of_ble_eq_true rfl) dX9_rebuild_3 ⟨(Nat.le_of_ble_eq_true rfl), (Nat.le_of_ble_eq_true rfl)⟩ (fun r_1 u_1 H locs hw_1 hP hD hS => ?_)
  have hw_1 : r_1 = bI (inR t 0 1) := hw_1.trans rfl
  have hw_1 : (bI (inR t 0 1) : Int32) = r_1 := hw_1.symm
  subst hw_1
  refine lv_if_ne (tgt := 16) hx hb dX9_rebuild_6 (by decide) (fun c_2 => ?_) (fun c_2 => ?_)
  · skip
    refine lv_iload_n hx hb dX9_rebuild_16 rfl (lv_at hl 1 rfl) ?_
    refine lv_if_ne (tgt := 28) hx hb dX9_rebuild_17 (by decide) (fun c_3 => ?_) (fun c_3 => ?_)
    · skip
      refine lv_aload_n hx hb dX9_rebuild_28 rfl (lv_at hl 0 rfl) ?_
      refine va_get (D := G.1) (ci := 8) (v := .ref (am 1)) (C := RX9) (T := TX9) (N := 13) hx hb hts in_X9 hown hK.1 hP 0 rfl rfl 0 (by decide) (hts _ q1162) (fun _ h9 => h9) rfl dX9_rebuild_29 ?_
      refine lv_aload_n hx hb dX9_rebuild_32 rfl (lv_at hl 0 rfl) ?_
      refine va_get (D := G.1) (ci := 8) (v := .ref (am 2)) (C := RX9) (T := TX9) (N := 13) hx hb hts in_X9 hown hK.1 hP 0 rfl rfl 1 (by decide) (hts _ q1163) (fun _ h9 => h9) rfl dX9_rebuild_33 ?_
      refine x_Sv (wN := fun _ => (wM G am ho rn ln pl sd lt ro rf nb ++ [(am 1, .inl (G.2 0, 54, .inl (row r)))] ++ [(am 2, .inl (G.2 0, 54, .inl (row r)))] ++ [(am 3, .inl (G.2 0, 54, .inl (row r2)))] ++ [(am 4, .inl (G.2 0, 54, .inl (row r4)))])) ⟨C0, hK, hP, hD, hS, hA⟩ ((m9_copies l G (am 1) (am 2) (row r) (row rm))) (va_cwS 2 hts (lw_S q1236 q1237 q95 q1238) rfl rfl rfl (by decide +kernel) ⟨Nat.le_of_ble_eq_true rfl, Nat.le_of_ble_eq_true rfl⟩) [5, 6] [0, 2, 4, 6, 8, 1, 3, 14, 16] rfl (fun _ => rfl) rfl rfl hl.1 rfl (Nat.le_of_ble_eq_true rfl) dX9_rebuild_36 ⟨(Nat.le_of_ble_eq_true rfl), (Nat.le_of_ble_eq_true rfl)⟩ (fun u_4 H locs hw_4 hP hD hS => ?_)
      have hP : va_P G.1 vwCl (wM G am ho rn ln pl sd lt ro rf nb ++ [(am 1, .inl (G.2 0, 54, .inl (row r)))] ++ [(am 2, .inl (G.2 0, 54, .inl (row r)))] ++ [(am 3, .inl (G.2 0, 54, .inl (row r2)))] ++ [(am 4, .inl (G.2 0, 54, .inl (row r4)))]) H := hP
      have hD : va_D A (wM G am ho rn ln pl sd lt ro rf nb ++ [(am 1, .inl (G.2 0, 54, .inl (row r)))] ++ [(am 2, .inl (G.2 0, 54, .inl (row r)))] ++ [(am 3, .inl (G.2 0, 54, .inl (row r2)))] ++ [(am 4, .inl (G.2 0, 54, .inl (row r4)))]) := hD
      refine lv_iconst (v := 0) hx hb dX9_rebuild_39 (by decide) ?_
      refine lv_istore_n (lv' := [(2, .int 0), (0, .ref (am 0)), (1, .int t)]) hx hb dX9_rebuild_40 rfl hl (by decide) rfl (fun ls hl => ?_)
      refine lv_aload_n hx hb dX9_rebuild_41 rfl (lv_at hl 1 rfl) ?_
      refine va_get (D := G.1) (ci := 8) (v := .ref (am 2)) (C := RX9) (T := TX9) (N := 13) hx hb hts in_X9 hown hK.1 hP 0 rfl rfl 1 (by decide) (hts _ q1163) (fun _ h9 => h9) rfl dX9_rebuild_42 ?_
      refine x_Si (wN := fun _ => (wM G am ho rn ln pl sd lt ro rf nb ++ [(am 1, .inl (G.2 0, 54, .inl (row r)))] ++ [(am 2, .inl (G.2 0, 54, .inl (row r)))] ++ [(am 3, .inl (G.2 0, 54, .inl (row r2)))] ++ [(am 4, .inl (G.2 0, 54, .inl (row r4)))])) ⟨C0, hK, hP, hD, hS, hA⟩ ((m9_rebuilt l G (am 2) r hr hp)) (va_cwS 1 hts (lw_S q1417 q1418 q95 q1419) rfl rfl rfl (by decide +kernel) ⟨Nat.le_of_ble_eq_true rfl, Nat.le_of_ble_eq_true rfl⟩) [6] [0, 2, 4, 6, 8, 10, 1, 14, 16] rfl (fun _ => rfl) rfl rfl hl.1 rfl (Nat.le_of_ble_eq_true rfl) dX9_rebuild_45 ⟨(Nat.le_of_ble_eq_true rfl), (Nat.le_of_ble_eq_true rfl)⟩ (fun r_5 u_5 H locs hw_5 hP hD hS => ?_)
      have hw_5 : (pLs r : Int32) = r_5 := hw_5.symm
      subst hw_5
      refine lv_istore_n (lv' := [(3, .int (pLs r)), (2, .int 0), (0, .ref (am 0)), (1, .int t)]) hx hb dX9_rebuild_48 rfl hl (by decide) rfl (fun ls hl => ?_)
      have loop_49 : ∀ (n : Nat) (k : Nat) (q : Rw), (Ok q) → (q 5 3 = 0) → (pLyN q < n) → (k + pReN n q = pReN 11 r) → ∀ (H : Heap) (locs : List Loc) (ls : Array Slot), va_P G.1 vwCl (wM G am ho rn ln pl sd lt ro rf nb ++ [(am 1, .inl (G.2 0, 54, .inl (row r)))] ++ [(am 2, .inl (G.2 0, 54, .inl (row q)))] ++ [(am 3, .inl (G.2 0, 54, .inl (row r2)))] ++ [(am 4, .inl (G.2 0, 54, .inl (row r4)))]) H → va_D A (wM G am ho rn ln pl sd lt ro rf nb ++ [(am 1, .inl (G.2 0, 54, .inl (row r)))] ++ [(am 2, .inl (G.2 0, 54, .inl (row q)))] ++ [(am 3, .inl (G.2 0, 54, .inl (row r2)))] ++ [(am 4, .inl (G.2 0, 54, .inl (row r4)))]) → va_S A s.heap H locs → lv_has ls 4 [(3, .int (pLs q)), (2, .int (nI k)), (0, .ref (am 0)), (1, .int t)] → W p l e ({ frames := 4, cells := 0, slots := 0, locals := 85 } : Room) s m args below meth c H locs 0 0 Q (F0 m 49 ls []) := by
        intro n
        induction n with
        | zero => intro k q hi49_0 hi49_1 hi49_2 hi49_3; exact absurd hi49_2 (by omega)
        | succ n ih_49 =>
          intro k q hi49_0 hi49_1 hi49_2 hi49_3 H locs ls hP hD hS hl
          refine lv_iload_n hx hb dX9_rebuild_49 rfl (lv_at hl 0 rfl) ?_
          refine lv_if_lt (tgt := 78) hx hb dX9_rebuild_50 (by decide) (fun c_6 => ?_) (fun c_6 => ?_)
          · skip
            refine lv_iload_n hx hb dX9_rebuild_78 rfl (lv_at hl 1 rfl) ?_
            have hE : eS (inR t 0 1) (-2) 0 = 0 := by rw [eS_t (show inR t 0 1 = true from (by have h9 := c_2; simpa [bI_0] using h9))]
            have hP : va_P G.1 vwCl (wM G am ho rn ln pl sd lt ro (sel (eS (inR t 0 1) (-2) 0) rf (rfU rf (eS (inR t 0 1) (-2) 0))) nb ++ [(am 1, .inl (G.2 0, 54, .inl (row r)))] ++ [(am 2, .inl (G.2 0, 54, .inl (row q)))] ++ [(am 3, .inl (G.2 0, 54, .inl (row r2)))] ++ [(am 4, .inl (G.2 0, 54, .inl (row r4)))]) H := by rw [hE]; simp only [sel_0 rfl]; exact hP
            have hD : va_D A (wM G am ho rn ln pl sd lt ro (sel (eS (inR t 0 1) (-2) 0) rf (rfU rf (eS (inR t 0 1) (-2) 0))) nb ++ [(am 1, .inl (G.2 0, 54, .inl (row r)))] ++ [(am 2, .inl (G.2 0, 54, .inl (row q)))] ++ [(am 3, .inl (G.2 0, 54, .inl (row r2)))] ++ [(am 4, .inl (G.2 0, 54, .inl (row r4)))]) := by rw [hE]; simp only [sel_0 rfl]; exact hD
            refine hret _ _ _ _ _ _ (nI k) q dX9_rebuild_79 ?_ hP hD hS (Nat.le_of_ble_eq_true rfl) (Nat.le_of_ble_eq_true rfl)
            rw [hE, sel_0 rfl]
            unfold pReb
            have e0 : pReN (n + 1) q = 0 := if_neg (pLs_n hi49_0.le (pLs_9 hi49_0.le c_6))
            rw [if_neg c_3, ← hi49_3, e0, Nat.add_zero]
          · skip
            obtain ⟨hls, els⟩ := pLs_y (pLs_nn hi49_0.le c_6)
            have hNq := hi49_0.le
            rw [els] at hl
            refine lv_aload_n hx hb dX9_rebuild_53 rfl (lv_at hl 2 rfl) ?_
            refine va_get (D := G.1) (ci := 8) (v := .ref (am 2)) (C := RX9) (T := TX9) (N := 13) hx hb hts in_X9 hown hK.1 hP 0 rfl rfl 1 (by decide) (hts _ q1163) (fun _ h9 => h9) rfl dX9_rebuild_54 ?_
            refine lv_iload_n hx hb dX9_rebuild_57 rfl (lv_at hl 0 rfl) ?_
            refine lv_iconst (v := 3) hx hb dX9_rebuild_58 (by decide) ?_
            refine x_Si (wN := fun _ => (wM G am ho rn ln pl sd lt ro rf nb ++ [(am 1, .inl (G.2 0, 54, .inl (row r)))] ++ [(am 2, .inl (G.2 0, 54, .inl (row q)))] ++ [(am 3, .inl (G.2 0, 54, .inl (row r2)))] ++ [(am 4, .inl (G.2 0, 54, .inl (row r4)))])) ⟨C0, hK, hP, hD, hS, hA⟩ ((m9_of l G (pLsN q) 3)) (va_cwS 2 hts (lw_S q1254 q1255 q95 q1256) rfl rfl rfl (by decide +kernel) ⟨Nat.le_of_ble_eq_true rfl, Nat.le_of_ble_eq_true rfl⟩) [] [0, 2, 4, 6, 8, 10, 12, 14, 16] rfl (fun _ => rfl) rfl rfl hl.1 rfl (Nat.le_of_ble_eq_true rfl) dX9_rebuild_59 ⟨(Nat.le_of_ble_eq_true rfl), (Nat.le_of_ble_eq_true rfl)⟩ (fun r_7 u_7 H locs hw_7 hP hD hS => ?_)
            have hw_7 : (nI (4 + 5 * (pLsN q) + 3) : Int32) = r_7 := hw_7.symm
            subst hw_7
            refine lv_iconst (v := 0) hx hb dX9_rebuild_62 (by decide) ?_
            refine x_iastn (k := (4 + 5 * (pLsN q) + 3)) hx hb hK.1 hP hD hS 6 0 rfl rfl (by omega) (by decide) (g := row (sf q 3 (upd (q 3) (pLsN q) 0))) (row_up _ (by decide) _) dX9_rebuild_63 (fun H locs hP hD hS => ?_)
            have hP : va_P G.1 vwCl (wM G am ho rn ln pl sd lt ro rf nb ++ [(am 1, .inl (G.2 0, 54, .inl (row r)))] ++ [(am 2, .inl (G.2 0, 54, .inl (row (sf q 3 (upd (q 3) (pLsN q) 0)))))] ++ [(am 3, .inl (G.2 0, 54, .inl (row r2)))] ++ [(am 4, .inl (G.2 0, 54, .inl (row r4)))]) H := hP
            have hD : va_D A (wM G am ho rn ln pl sd lt ro rf nb ++ [(am 1, .inl (G.2 0, 54, .inl (row r)))] ++ [(am 2, .inl (G.2 0, 54, .inl (row (sf q 3 (upd (q 3) (pLsN q) 0)))))] ++ [(am 3, .inl (G.2 0, 54, .inl (row r2)))] ++ [(am 4, .inl (G.2 0, 54, .inl (row r4)))]) := hD
            refine lv_iinc (v := nI (k + 1)) (lv' := [(2, .int (nI (k + 1))), (3, .int (nI (pLsN q))), (0, .ref (am 0)), (1, .int t)]) hx hb dX9_rebuild_64 hl (k := 1) rfl (x_inc1 _) (by decide) rfl (fun ls hl => ?_)
            refine lv_aload_n hx hb dX9_rebuild_67 rfl (lv_at hl 2 rfl) ?_
            refine va_get (D := G.1) (ci := 8) (v := .ref (am 2)) (C := RX9) (T := TX9) (N := 13) hx hb hts in_X9 hown hK.1 hP 0 rfl rfl 1 (by decide) (hts _ q1163) (fun _ h9 => h9) rfl dX9_rebuild_68 ?_
            refine x_Si (wN := fun _ => (wM G am ho rn ln pl sd lt ro rf nb ++ [(am 1, .inl (G.2 0, 54, .inl (row r)))] ++ [(am 2, .inl (G.2 0, 54, .inl (row (sf q 3 (upd (q 3) (pLsN q) 0)))))] ++ [(am 3, .inl (G.2 0, 54, .inl (row r2)))] ++ [(am 4, .inl (G.2 0, 54, .inl (row r4)))])) ⟨C0, hK, hP, hD, hS, hA⟩ ((m9_rebuilt l G (am 2) (sf q 3 (upd (q 3) (pLsN q) 0)) hi49_0 hi49_1)) (va_cwS 1 hts (lw_S q1417 q1418 q95 q1419) rfl rfl rfl (by decide +kernel) ⟨Nat.le_of_ble_eq_true rfl, Nat.le_of_ble_eq_true rfl⟩) [6] [0, 2, 4, 6, 8, 10, 1, 14, 16] rfl (fun _ => rfl) rfl rfl hl.1 rfl (Nat.le_of_ble_eq_true rfl) dX9_rebuild_71 ⟨(Nat.le_of_ble_eq_true rfl), (Nat.le_of_ble_eq_true rfl)⟩ (fun r_8 u_8 H locs hw_8 hP hD hS => ?_)
            have hw_8 : (pLs (sf q 3 (upd (q 3) (pLsN q) 0)) : Int32) = r_8 := hw_8.symm
            subst hw_8
            refine lv_istore_n (lv' := [(3, .int (pLs (sf q 3 (upd (q 3) (pLsN q) 0)))), (2, .int (nI (k + 1))), (0, .ref (am 0)), (1, .int t)]) hx hb dX9_rebuild_74 rfl hl (by decide) rfl (fun ls hl => ?_)
            refine lv_goto (tgt := 49) hx hb dX9_rebuild_75 (by decide) ?_
            exact ih_49 (k + 1) (sf q 3 (upd (q 3) (pLsN q) 0)) hi49_0 hi49_1 (by have h9 := pLyN_s hls; rw [pLyN_m]; omega) (by rw [← hi49_3, show pReN (n + 1) q = pReN n (pSetUp q (pLsN q)) + 1 from if_pos hls, pReN_m]; omega) _ _ _ hP hD hS (lv_sub hl [0, 1, 2, 3] rfl)
      exact loop_49 11 0 r hr hp (Nat.lt_of_le_of_lt (cn_le _ _) (by omega)) (Nat.zero_add _) _ _ _ hP hD hS (lv_sub hl [0, 1, 2, 3] rfl)
    · skip
      refine lv_aload_n hx hb dX9_rebuild_20 rfl (lv_at hl 0 rfl) ?_
      refine va_get (D := G.1) (ci := 8) (v := .ref (am 1)) (C := RX9) (T := TX9) (N := 13) hx hb hts in_X9 hown hK.1 hP 0 rfl rfl 0 (by decide) (hts _ q1162) (fun _ h9 => h9) rfl dX9_rebuild_21 ?_
      refine x_Si (wN := fun _ => (wM G am ho rn ln pl sd lt ro rf nb ++ [(am 1, .inl (G.2 0, 54, .inl (row r)))] ++ [(am 2, .inl (G.2 0, 54, .inl (row rm)))] ++ [(am 3, .inl (G.2 0, 54, .inl (row r2)))] ++ [(am 4, .inl (G.2 0, 54, .inl (row r4)))])) ⟨C0, hK, hP, hD, hS, hA⟩ ((m9_rebuilt l G (am 1) r hr hp)) (va_cwS 1 hts (lw_S q1417 q1418 q95 q1419) rfl rfl rfl (by decide +kernel) ⟨Nat.le_of_ble_eq_true rfl, Nat.le_of_ble_eq_true rfl⟩) [5] [0, 2, 4, 6, 8, 1, 12, 14, 16] rfl (fun _ => rfl) rfl rfl hl.1 rfl (Nat.le_of_ble_eq_true rfl) dX9_rebuild_24 ⟨(Nat.le_of_ble_eq_true rfl), (Nat.le_of_ble_eq_true rfl)⟩ (fun r_9 u_9 H locs hw_9 hP hD hS => ?_)
      have hw_9 : (pLs r : Int32) = r_9 := hw_9.symm
      subst hw_9
      have hE : eS (inR t 0 1) (-2) 0 = 0 := by rw [eS_t (show inR t 0 1 = true from (by have h9 := c_2; simpa [bI_0] using h9))]
      have hP : va_P G.1 vwCl (wM G am ho rn ln pl sd lt ro (sel (eS (inR t 0 1) (-2) 0) rf (rfU rf (eS (inR t 0 1) (-2) 0))) nb ++ [(am 1, .inl (G.2 0, 54, .inl (row r)))] ++ [(am 2, .inl (G.2 0, 54, .inl (row rm)))] ++ [(am 3, .inl (G.2 0, 54, .inl (row r2)))] ++ [(am 4, .inl (G.2 0, 54, .inl (row r4)))]) H := by rw [hE]; simp only [sel_0 rfl]; exact hP
      have hD : va_D A (wM G am ho rn ln pl sd lt ro (sel (eS (inR t 0 1) (-2) 0) rf (rfU rf (eS (inR t 0 1) (-2) 0))) nb ++ [(am 1, .inl (G.2 0, 54, .inl (row r)))] ++ [(am 2, .inl (G.2 0, 54, .inl (row rm)))] ++ [(am 3, .inl (G.2 0, 54, .inl (row r2)))] ++ [(am 4, .inl (G.2 0, 54, .inl (row r4)))]) := by rw [hE]; simp only [sel_0 rfl]; exact hD
      refine hret _ _ _ _ _ _ (pLs r) rm dX9_rebuild_27 ?_ hP hD hS (Nat.le_of_ble_eq_true rfl) (Nat.le_of_ble_eq_true rfl)
      rw [hE, sel_0 rfl]
      unfold pReb
      exact (if_pos c_3).symm
  · skip
    refine lv_aload_n hx hb dX9_rebuild_9 rfl (lv_at hl 0 rfl) ?_
    refine lv_bipush (v := (-2)) hx hb dX9_rebuild_10 (by decide) ?_
    refine x_Vi (wN := fun _ => (wM G am ho rn ln pl sd lt ro (rfU rf (-2)) nb ++ [(am 1, .inl (G.2 0, 54, .inl (row r)))] ++ [(am 2, .inl (G.2 0, 54, .inl (row rm)))] ++ [(am 3, .inl (G.2 0, 54, .inl (row r2)))] ++ [(am 4, .inl (G.2 0, 54, .inl (row r4)))])) ⟨C0, hK, hP, hD, hS, hA⟩ 0 rfl (ci := 8) rfl rfl ((m9_no l G am ho rn ln pl sd lt ro rf nb (-2) noOk_k.2.1)) (cwV 1 hts (lw_V q1206 q1208 qs66 q95 q1209) rfl rfl rfl (by decide +kernel) ⟨Nat.le_of_ble_eq_true rfl, Nat.le_of_ble_eq_true rfl⟩) [0, 1, 2, 3, 4] [1, 3, 5, 7, 9, 10, 12, 14, 16] rfl (fun _ => rfl) rfl rfl hl.1 rfl (Nat.le_of_ble_eq_true rfl) dX9_rebuild_12 ⟨(Nat.le_of_ble_eq_true rfl), (Nat.le_of_ble_eq_true rfl)⟩ (fun r_10 u_10 H locs hw_10 hP hD hS => ?_)
    have hw_10 : ((-2) : Int32) = r_10 := hw_10.symm
    subst hw_10
    have hP : va_P G.1 vwCl (wM G am ho rn ln pl sd lt ro (rfU rf (-2)) nb ++ [(am 1, .inl (G.2 0, 54, .inl (row r)))] ++ [(am 2, .inl (G.2 0, 54, .inl (row rm)))] ++ [(am 3, .inl (G.2 0, 54, .inl (row r2)))] ++ [(am 4, .inl (G.2 0, 54, .inl (row r4)))]) H := hP
    have hD : va_D A (wM G am ho rn ln pl sd lt ro (rfU rf (-2)) nb ++ [(am 1, .inl (G.2 0, 54, .inl (row r)))] ++ [(am 2, .inl (G.2 0, 54, .inl (row rm)))] ++ [(am 3, .inl (G.2 0, 54, .inl (row r2)))] ++ [(am 4, .inl (G.2 0, 54, .inl (row r4)))]) := hD
    have hE : eS (inR t 0 1) (-2) 0 = (-2) := by rw [eS_f (show inR t 0 1 = false from (by have h9 := c_2; simpa [bI_0] using h9))]
    have hne : ((-2) : Int32) ≠ 0 := (by decide)
    have hP : va_P G.1 vwCl (wM G am ho rn ln pl sd lt ro (sel (eS (inR t 0 1) (-2) 0) rf (rfU rf (eS (inR t 0 1) (-2) 0))) nb ++ [(am 1, .inl (G.2 0, 54, .inl (row r)))] ++ [(am 2, .inl (G.2 0, 54, .inl (row rm)))] ++ [(am 3, .inl (G.2 0, 54, .inl (row r2)))] ++ [(am 4, .inl (G.2 0, 54, .inl (row r4)))]) H := by rw [hE]; simp only [sel_n hne]; exact hP
    have hD : va_D A (wM G am ho rn ln pl sd lt ro (sel (eS (inR t 0 1) (-2) 0) rf (rfU rf (eS (inR t 0 1) (-2) 0))) nb ++ [(am 1, .inl (G.2 0, 54, .inl (row r)))] ++ [(am 2, .inl (G.2 0, 54, .inl (row rm)))] ++ [(am 3, .inl (G.2 0, 54, .inl (row r2)))] ++ [(am 4, .inl (G.2 0, 54, .inl (row r4)))]) := by rw [hE]; simp only [sel_n hne]; exact hD
    refine hret _ _ _ _ _ _ (-2) rm dX9_rebuild_15 ?_ hP hD hS (Nat.le_of_ble_eq_true rfl) (Nat.le_of_ble_eq_true rfl)
    rw [hE, sel_n hne]
/-- three things, as they are pulled -/
def f3 (k1 k2 k3 : Nat) (j : Nat) : Nat := if j = 0 then k1 else if j = 1 then k2 else k3
set_option maxHeartbeats 4000000 in
set_option maxRecDepth 100000 in
theorem m9_standingBy (l : Launch) (G : xG) (am : Nat → Nat) (r rm r2 r4 : Rw) (ho rn ln pl sd : Int32) (lt ro rf nb : Nat → Int32) (hr : Ok r) (hp : r 5 3 = 0) (k1 k2 k3 : Nat) (sp : Int32) (h1 : k1 < mny r) (h2 : k2 < mny r) (h3 : k3 < mny r) : xCi l G yX9_standingBy cX9_standingBy 8 (some .int) ({ frames := 4, cells := 0, slots := 0, locals := 91 } : Room) [.ref (am 0), .int (nI k1), .int (nI k2), .int (nI k3), .int sp] (wM G am ho rn ln pl sd lt ro rf nb ++ [(am 1, .inl (G.2 0, 54, .inl (row r)))] ++ [(am 2, .inl (G.2 0, 54, .inl (row rm)))] ++ [(am 3, .inl (G.2 0, 54, .inl (row r2)))] ++ [(am 4, .inl (G.2 0, 54, .inl (row r4)))]) (S := Rw) (fun v _ => v = pStN (pOR r (f3 k1 k2 k3) sp 10)) (fun u => (wM G am ho rn ln pl sd lt ro rf nb ++ [(am 1, .inl (G.2 0, 54, .inl (row r)))] ++ [(am 2, .inl (G.2 0, 54, .inl (row u)))] ++ [(am 3, .inl (G.2 0, 54, .inl (row r2)))] ++ [(am 4, .inl (G.2 0, 54, .inl (row r4)))])) := by
  refine x_openi (by decide) (Nat.le_of_ble_eq_true rfl) (fun _ _ _ => rfl) ?_
  intro p e s m args below meth c A Q ls C0 hK hP hD hA hl hret
  obtain ⟨hx, hb, hml, hown, hts⟩ := id C0
  have hS : va_S A s.heap s.heap [] := va_S.rf
  have hP : va_P G.1 vwCl (wM G am ho rn ln pl sd lt ro rf nb ++ [(am 1, .inl (G.2 0, 54, .inl (row r)))] ++ [(am 2, .inl (G.2 0, 54, .inl (row rm)))] ++ [(am 3, .inl (G.2 0, 54, .inl (row r2)))] ++ [(am 4, .inl (G.2 0, 54, .inl (row r4)))]) s.heap := hP
  have hD : va_D A (wM G am ho rn ln pl sd lt ro rf nb ++ [(am 1, .inl (G.2 0, 54, .inl (row r)))] ++ [(am 2, .inl (G.2 0, 54, .inl (row rm)))] ++ [(am 3, .inl (G.2 0, 54, .inl (row r2)))] ++ [(am 4, .inl (G.2 0, 54, .inl (row r4)))]) := hD
  have hl : lv_has ls 8 [(0, .ref (am 0)), (1, .int (nI k1)), (2, .int (nI k2)), (3, .int (nI k3)), (4, .int sp)] := hl
  have hr0 := hr.n
  have hN := hr.le
  refine lv_aload_n hx hb dX9_standingBy_0 rfl (lv_at hl 0 rfl) ?_
  refine va_get (D := G.1) (ci := 8) (v := .ref (am 1)) (C := RX9) (T := TX9) (N := 13) hx hb hts in_X9 hown hK.1 hP 0 rfl rfl 0 (by decide) (hts _ q1162) (fun _ h9 => h9) rfl dX9_standingBy_1 ?_
  refine lv_aload_n hx hb dX9_standingBy_4 rfl (lv_at hl 0 rfl) ?_
  refine va_get (D := G.1) (ci := 8) (v := .ref (am 2)) (C := RX9) (T := TX9) (N := 13) hx hb hts in_X9 hown hK.1 hP 0 rfl rfl 1 (by decide) (hts _ q1163) (fun _ h9 => h9) rfl dX9_standingBy_5 ?_
  refine x_Sv (wN := fun _ => (wM G am ho rn ln pl sd lt ro rf nb ++ [(am 1, .inl (G.2 0, 54, .inl (row r)))] ++ [(am 2, .inl (G.2 0, 54, .inl (row r)))] ++ [(am 3, .inl (G.2 0, 54, .inl (row r2)))] ++ [(am 4, .inl (G.2 0, 54, .inl (row r4)))])) ⟨C0, hK, hP, hD, hS, hA⟩ ((m9_copies l G (am 1) (am 2) (row r) (row rm))) (va_cwS 2 hts (lw_S q1236 q1237 q95 q1238) rfl rfl rfl (by decide +kernel) ⟨Nat.le_of_ble_eq_true rfl, Nat.le_of_ble_eq_true rfl⟩) [5, 6] [0, 2, 4, 6, 8, 1, 3, 14, 16] rfl (fun _ => rfl) rfl rfl hl.1 rfl (Nat.le_of_ble_eq_true rfl) dX9_standingBy_8 ⟨(Nat.le_of_ble_eq_true rfl), (Nat.le_of_ble_eq_true rfl)⟩ (fun u_1 H locs hw_1 hP hD hS => ?_)
  have hP : va_P G.1 vwCl (wM G am ho rn ln pl sd lt ro rf nb ++ [(am 1, .inl (G.2 0, 54, .inl (row r)))] ++ [(am 2, .inl (G.2 0, 54, .inl (row r)))] ++ [(am 3, .inl (G.2 0, 54, .inl (row r2)))] ++ [(am 4, .inl (G.2 0, 54, .inl (row r4)))]) H := hP
  have hD : va_D A (wM G am ho rn ln pl sd lt ro rf nb ++ [(am 1, .inl (G.2 0, 54, .inl (row r)))] ++ [(am 2, .inl (G.2 0, 54, .inl (row r)))] ++ [(am 3, .inl (G.2 0, 54, .inl (row r2)))] ++ [(am 4, .inl (G.2 0, 54, .inl (row r4)))]) := hD
  refine lv_iconst (v := 0) hx hb dX9_standingBy_11 (by decide) ?_
  refine lv_istore (lv' := [(5, .int 0), (0, .ref (am 0)), (1, .int (nI k1)), (2, .int (nI k2)), (3, .int (nI k3)), (4, .int sp)]) hx hb dX9_standingBy_12 hl (by decide) rfl (fun ls hl => ?_)
  have loop_14 : ∀ (n : Nat) (i : Nat) (q : Rw), (i ≤ 10) → (10 < i + n) → (pOR r (f3 k1 k2 k3) sp i = q) → (Ok q) → (mny q = mny r) → ∀ (H : Heap) (locs : List Loc) (ls : Array Slot), va_P G.1 vwCl (wM G am ho rn ln pl sd lt ro rf nb ++ [(am 1, .inl (G.2 0, 54, .inl (row r)))] ++ [(am 2, .inl (G.2 0, 54, .inl (row q)))] ++ [(am 3, .inl (G.2 0, 54, .inl (row r2)))] ++ [(am 4, .inl (G.2 0, 54, .inl (row r4)))]) H → va_D A (wM G am ho rn ln pl sd lt ro rf nb ++ [(am 1, .inl (G.2 0, 54, .inl (row r)))] ++ [(am 2, .inl (G.2 0, 54, .inl (row q)))] ++ [(am 3, .inl (G.2 0, 54, .inl (row r2)))] ++ [(am 4, .inl (G.2 0, 54, .inl (row r4)))]) → va_S A s.heap H locs → lv_has ls 8 [(5, .int (nI i)), (0, .ref (am 0)), (1, .int (nI k1)), (2, .int (nI k2)), (3, .int (nI k3)), (4, .int sp)] → W p l e ({ frames := 4, cells := 0, slots := 0, locals := 91 } : Room) s m args below meth c H locs 0 0 Q (F0 m 14 ls []) := by
    intro n
    induction n with
    | zero => intro i q hi14_0 hi14_1 hi14_2 hi14_3 hi14_4; exact absurd hi14_1 (by omega)
    | succ n ih_14 =>
      intro i q hi14_0 hi14_1 hi14_2 hi14_3 hi14_4 H locs ls hP hD hS hl
      refine lv_iload hx hb dX9_standingBy_14 (lv_at hl 0 rfl) ?_
      refine lv_bipush (v := 10) hx hb dX9_standingBy_16 (by decide) ?_
      refine lv_icmp_ge (tgt := 102) hx hb dX9_standingBy_18 (by decide) (fun c_2 => ?_) (fun c_2 => ?_)
      · skip
        have g_2 := (nI_leI (by omega) (by omega)).mp (show nI i ≥ nI 10 from c_2)
        refine lv_aload_n hx hb dX9_standingBy_102 rfl (lv_at hl 1 rfl) ?_
        refine x_Vi (wN := fun _ => (wM G am ho rn ln pl sd lt ro rf nb ++ [(am 1, .inl (G.2 0, 54, .inl (row r)))] ++ [(am 2, .inl (G.2 0, 54, .inl (row q)))] ++ [(am 3, .inl (G.2 0, 54, .inl (row r2)))] ++ [(am 4, .inl (G.2 0, 54, .inl (row r4)))])) ⟨C0, hK, hP, hD, hS, hA⟩ 0 rfl (ci := 8) rfl rfl ((m9_standingIn l G am r q r2 r4 ho rn ln pl sd lt ro rf nb hr hp hi14_3)) (cwV 0 hts (lw_V q1333 q1335 qs76 q95 q1336) rfl rfl rfl (by decide +kernel) ⟨Nat.le_of_ble_eq_true rfl, Nat.le_of_ble_eq_true rfl⟩) [0, 1, 2, 3, 4, 5, 6, 7, 8] [1, 3, 5, 7, 9, 11, 13, 15, 17] rfl (fun _ => rfl) rfl rfl hl.1 rfl (Nat.le_of_ble_eq_true rfl) dX9_standingBy_103 ⟨(Nat.le_of_ble_eq_true rfl), (Nat.le_of_ble_eq_true rfl)⟩ (fun r_3 u_3 H locs hw_3 hP hD hS => ?_)
        have hw_3 : (pStN q : Int32) = r_3 := hw_3.symm
        subst hw_3
        refine hret _ _ _ _ _ _ (pStN q) q dX9_standingBy_106 ?_ hP hD hS (Nat.le_of_ble_eq_true rfl) (Nat.le_of_ble_eq_true rfl)
        obtain rfl : i = 10 := by omega
        rw [hi14_2]
      · skip
        have g_2 := mt (nI_leI (by omega) (by omega)).mpr (show ¬ (nI i ≥ nI 10) from c_2)
        rcases (show i = 0 ∨ i = 1 ∨ i = 2 ∨ 3 ≤ i by omega) with rfl | rfl | rfl | h3
        · skip
          refine lv_iload hx hb dX9_standingBy_21 (lv_at hl 0 rfl) ?_
          refine lv_if_ne (tgt := 30) hx hb dX9_standingBy_23 (by decide) (fun c_4 => ?_) (fun c_4 => ?_)
          · skip
            exact absurd rfl c_4
          · skip
            have g_4 := (nI_eq (by omega) (by omega)).mp (show nI 0 = nI 0 from c_4)
            refine lv_iload_n hx hb dX9_standingBy_26 rfl (lv_at hl 2 rfl) ?_
            refine lv_goto (tgt := 52) hx hb dX9_standingBy_27 (by decide) ?_
            refine lv_istore (lv' := [(6, .int (nI k1)), (5, .int (nI 0)), (0, .ref (am 0)), (1, .int (nI k1)), (2, .int (nI k2)), (3, .int (nI k3)), (4, .int sp)]) hx hb dX9_standingBy_52 hl (by decide) rfl (fun ls hl => ?_)
            refine lv_iload hx hb dX9_standingBy_54 (lv_at hl 0 rfl) ?_
            refine lv_if_lt (tgt := 85) hx hb dX9_standingBy_56 (by decide) (fun c_5 => ?_) (fun c_5 => ?_)
            · skip
              exact absurd c_5 (nI_nn (by omega))
            · skip
              have g_5 := mt (nI_ltI (by omega) (by omega)).mpr (show ¬ (nI k1 < nI 0) from c_5)
              refine lv_aload_n hx hb dX9_standingBy_59 rfl (lv_at hl 2 rfl) ?_
              refine va_get (D := G.1) (ci := 8) (v := .ref (am 2)) (C := RX9) (T := TX9) (N := 13) hx hb hts in_X9 hown hK.1 hP 0 rfl rfl 1 (by decide) (hts _ q1163) (fun _ h9 => h9) rfl dX9_standingBy_60 ?_
              refine lv_iload hx hb dX9_standingBy_63 (lv_at hl 0 rfl) ?_
              refine x_Si (wN := fun _ => (wM G am ho rn ln pl sd lt ro rf nb ++ [(am 1, .inl (G.2 0, 54, .inl (row r)))] ++ [(am 2, .inl (G.2 0, 54, .inl (row q)))] ++ [(am 3, .inl (G.2 0, 54, .inl (row r2)))] ++ [(am 4, .inl (G.2 0, 54, .inl (row r4)))])) ⟨C0, hK, hP, hD, hS, hA⟩ ((m9_stands l G (am 2) q hi14_3 k1 (by omega))) (va_cwS 2 hts (lw_S q1251 q1252 q95 q1253) rfl rfl rfl (by decide +kernel) ⟨Nat.le_of_ble_eq_true rfl, Nat.le_of_ble_eq_true rfl⟩) [6] [0, 2, 4, 6, 8, 10, 1, 14, 16] rfl (fun _ => rfl) rfl rfl hl.1 rfl (Nat.le_of_ble_eq_true rfl) dX9_standingBy_65 ⟨(Nat.le_of_ble_eq_true rfl), (Nat.le_of_ble_eq_true rfl)⟩ (fun r_6 u_6 H locs hw_6 hP hD hS => ?_)
              have hw_6 : (bI (pSt q k1) : Int32) = r_6 := hw_6.symm
              subst hw_6
              refine lv_if_eq (tgt := 85) hx hb dX9_standingBy_68 (by decide) (fun c_7 => ?_) (fun c_7 => ?_)
              · skip
                refine lv_iconst (v := 0) hx hb dX9_standingBy_85 (by decide) ?_
                refine lv_istore (lv' := [(7, .int 0), (6, .int (nI k1)), (5, .int (nI 0)), (0, .ref (am 0)), (1, .int (nI k1)), (2, .int (nI k2)), (3, .int (nI k3)), (4, .int sp)]) hx hb dX9_standingBy_86 hl (by decide) rfl (fun ls hl => ?_)
                refine lv_aload_n hx hb dX9_standingBy_88 rfl (lv_at hl 3 rfl) ?_
                refine va_get (D := G.1) (ci := 8) (v := .ref (am 2)) (C := RX9) (T := TX9) (N := 13) hx hb hts in_X9 hown hK.1 hP 0 rfl rfl 1 (by decide) (hts _ q1163) (fun _ h9 => h9) rfl dX9_standingBy_89 ?_
                refine lv_iconst (v := 0) hx hb dX9_standingBy_92 (by decide) ?_
                refine x_Sv (wN := fun _ => (wM G am ho rn ln pl sd lt ro rf nb ++ [(am 1, .inl (G.2 0, 54, .inl (row r)))] ++ [(am 2, .inl (G.2 0, 54, .inl (row (pMin q 0))))] ++ [(am 3, .inl (G.2 0, 54, .inl (row r2)))] ++ [(am 4, .inl (G.2 0, 54, .inl (row r4)))])) ⟨C0, hK, hP, hD, hS, hA⟩ ((m9_minute l G (am 2) q hi14_3 0)) (va_cwS 2 hts (lw_S q1275 q1276 q95 q1277) rfl rfl rfl (by decide +kernel) ⟨Nat.le_of_ble_eq_true rfl, Nat.le_of_ble_eq_true rfl⟩) [6] [0, 2, 4, 6, 8, 10, 1, 14, 16] rfl (fun _ => rfl) rfl rfl hl.1 rfl (Nat.le_of_ble_eq_true rfl) dX9_standingBy_93 ⟨(Nat.le_of_ble_eq_true rfl), (Nat.le_of_ble_eq_true rfl)⟩ (fun u_8 H locs hw_8 hP hD hS => ?_)
                have hP : va_P G.1 vwCl (wM G am ho rn ln pl sd lt ro rf nb ++ [(am 1, .inl (G.2 0, 54, .inl (row r)))] ++ [(am 2, .inl (G.2 0, 54, .inl (row (pMin q 0))))] ++ [(am 3, .inl (G.2 0, 54, .inl (row r2)))] ++ [(am 4, .inl (G.2 0, 54, .inl (row r4)))]) H := hP
                have hD : va_D A (wM G am ho rn ln pl sd lt ro rf nb ++ [(am 1, .inl (G.2 0, 54, .inl (row r)))] ++ [(am 2, .inl (G.2 0, 54, .inl (row (pMin q 0))))] ++ [(am 3, .inl (G.2 0, 54, .inl (row r2)))] ++ [(am 4, .inl (G.2 0, 54, .inl (row r4)))]) := hD
                refine lv_iinc (v := nI (0 + 1)) (lv' := [(5, .int (nI (0 + 1))), (7, .int 0), (6, .int (nI k1)), (0, .ref (am 0)), (1, .int (nI k1)), (2, .int (nI k2)), (3, .int (nI k3)), (4, .int sp)]) hx hb dX9_standingBy_96 hl (k := 2) rfl (x_inc1 _) (by decide) rfl (fun ls hl => ?_)
                refine lv_goto (tgt := 14) hx hb dX9_standingBy_99 (by decide) ?_
                exact ih_14 (0 + 1) (pMin q 0) (by omega) (by omega) (by show pOS (pOR r (f3 k1 k2 k3) sp 0) _ sp 0 = _; rw [hi14_2]; exact pOS_n (fun _ => show pSt q k1 = false from (by first | exact bI_n0 c_7 | exact bI_0.mp c_7))) (Ok.min hi14_3) hi14_4 _ _ _ hP hD hS (lv_sub hl [0, 3, 4, 5, 6, 7] rfl)
              · skip
                refine lv_aload_n hx hb dX9_standingBy_71 rfl (lv_at hl 2 rfl) ?_
                refine va_get (D := G.1) (ci := 8) (v := .ref (am 2)) (C := RX9) (T := TX9) (N := 13) hx hb hts in_X9 hown hK.1 hP 0 rfl rfl 1 (by decide) (hts _ q1163) (fun _ h9 => h9) rfl dX9_standingBy_72 ?_
                refine lv_iload hx hb dX9_standingBy_75 (lv_at hl 0 rfl) ?_
                refine lv_iload hx hb dX9_standingBy_77 (lv_at hl 6 rfl) ?_
                refine x_Si (wN := fun _ => (wM G am ho rn ln pl sd lt ro rf nb ++ [(am 1, .inl (G.2 0, 54, .inl (row r)))] ++ [(am 2, .inl (G.2 0, 54, .inl (row (pPull q k1 sp))))] ++ [(am 3, .inl (G.2 0, 54, .inl (row r2)))] ++ [(am 4, .inl (G.2 0, 54, .inl (row r4)))])) ⟨C0, hK, hP, hD, hS, hA⟩ ((m9_pull l G (am 2) q hi14_3 k1 sp (by omega))) (va_cwS 3 hts (lw_S q1257 q1258 q95 q1259) rfl rfl rfl (by decide +kernel) ⟨Nat.le_of_ble_eq_true rfl, Nat.le_of_ble_eq_true rfl⟩) [6] [0, 2, 4, 6, 8, 10, 1, 14, 16] rfl (fun _ => rfl) rfl rfl hl.1 rfl (Nat.le_of_ble_eq_true rfl) dX9_standingBy_79 ⟨(Nat.le_of_ble_eq_true rfl), (Nat.le_of_ble_eq_true rfl)⟩ (fun r_9 u_9 H locs hw_9 hP hD hS => ?_)
                have hw_9 : (pPullN q k1 sp : Int32) = r_9 := hw_9.symm
                subst hw_9
                have hP : va_P G.1 vwCl (wM G am ho rn ln pl sd lt ro rf nb ++ [(am 1, .inl (G.2 0, 54, .inl (row r)))] ++ [(am 2, .inl (G.2 0, 54, .inl (row (pPull q k1 sp))))] ++ [(am 3, .inl (G.2 0, 54, .inl (row r2)))] ++ [(am 4, .inl (G.2 0, 54, .inl (row r4)))]) H := hP
                have hD : va_D A (wM G am ho rn ln pl sd lt ro rf nb ++ [(am 1, .inl (G.2 0, 54, .inl (row r)))] ++ [(am 2, .inl (G.2 0, 54, .inl (row (pPull q k1 sp))))] ++ [(am 3, .inl (G.2 0, 54, .inl (row r2)))] ++ [(am 4, .inl (G.2 0, 54, .inl (row r4)))]) := hD
                refine lv_goto (tgt := 86) hx hb dX9_standingBy_82 (by decide) ?_
                refine lv_istore (lv' := [(7, .int (pPullN q k1 sp)), (6, .int (nI k1)), (5, .int (nI 0)), (0, .ref (am 0)), (1, .int (nI k1)), (2, .int (nI k2)), (3, .int (nI k3)), (4, .int sp)]) hx hb dX9_standingBy_86 hl (by decide) rfl (fun ls hl => ?_)
                refine lv_aload_n hx hb dX9_standingBy_88 rfl (lv_at hl 3 rfl) ?_
                refine va_get (D := G.1) (ci := 8) (v := .ref (am 2)) (C := RX9) (T := TX9) (N := 13) hx hb hts in_X9 hown hK.1 hP 0 rfl rfl 1 (by decide) (hts _ q1163) (fun _ h9 => h9) rfl dX9_standingBy_89 ?_
                refine lv_iconst (v := 0) hx hb dX9_standingBy_92 (by decide) ?_
                refine x_Sv (wN := fun _ => (wM G am ho rn ln pl sd lt ro rf nb ++ [(am 1, .inl (G.2 0, 54, .inl (row r)))] ++ [(am 2, .inl (G.2 0, 54, .inl (row (pMin (pPull q k1 sp) 0))))] ++ [(am 3, .inl (G.2 0, 54, .inl (row r2)))] ++ [(am 4, .inl (G.2 0, 54, .inl (row r4)))])) ⟨C0, hK, hP, hD, hS, hA⟩ ((m9_minute l G (am 2) (pPull q k1 sp) (Ok.pull hi14_3) 0)) (va_cwS 2 hts (lw_S q1275 q1276 q95 q1277) rfl rfl rfl (by decide +kernel) ⟨Nat.le_of_ble_eq_true rfl, Nat.le_of_ble_eq_true rfl⟩) [6] [0, 2, 4, 6, 8, 10, 1, 14, 16] rfl (fun _ => rfl) rfl rfl hl.1 rfl (Nat.le_of_ble_eq_true rfl) dX9_standingBy_93 ⟨(Nat.le_of_ble_eq_true rfl), (Nat.le_of_ble_eq_true rfl)⟩ (fun u_10 H locs hw_10 hP hD hS => ?_)
                have hP : va_P G.1 vwCl (wM G am ho rn ln pl sd lt ro rf nb ++ [(am 1, .inl (G.2 0, 54, .inl (row r)))] ++ [(am 2, .inl (G.2 0, 54, .inl (row (pMin (pPull q k1 sp) 0))))] ++ [(am 3, .inl (G.2 0, 54, .inl (row r2)))] ++ [(am 4, .inl (G.2 0, 54, .inl (row r4)))]) H := hP
                have hD : va_D A (wM G am ho rn ln pl sd lt ro rf nb ++ [(am 1, .inl (G.2 0, 54, .inl (row r)))] ++ [(am 2, .inl (G.2 0, 54, .inl (row (pMin (pPull q k1 sp) 0))))] ++ [(am 3, .inl (G.2 0, 54, .inl (row r2)))] ++ [(am 4, .inl (G.2 0, 54, .inl (row r4)))]) := hD
                refine lv_iinc (v := nI (0 + 1)) (lv' := [(5, .int (nI (0 + 1))), (7, .int (pPullN q k1 sp)), (6, .int (nI k1)), (0, .ref (am 0)), (1, .int (nI k1)), (2, .int (nI k2)), (3, .int (nI k3)), (4, .int sp)]) hx hb dX9_standingBy_96 hl (k := 2) rfl (x_inc1 _) (by decide) rfl (fun ls hl => ?_)
                refine lv_goto (tgt := 14) hx hb dX9_standingBy_99 (by decide) ?_
                exact ih_14 (0 + 1) (pMin (pPull q k1 sp) 0) (by omega) (by omega) (by show pOS (pOR r (f3 k1 k2 k3) sp 0) _ sp 0 = _; rw [hi14_2]; exact pOS_y (by omega) (show pSt q k1 = true from (by first | exact bI_n0 c_7 | exact bI_0.mp c_7))) (Ok.min (Ok.pull hi14_3)) hi14_4 _ _ _ hP hD hS (lv_sub hl [0, 3, 4, 5, 6, 7] rfl)
        · skip
          refine lv_iload hx hb dX9_standingBy_21 (lv_at hl 0 rfl) ?_
          refine lv_if_ne (tgt := 30) hx hb dX9_standingBy_23 (by decide) (fun c_11 => ?_) (fun c_11 => ?_)
          · skip
            have g_11 := mt (nI_eq (by omega) (by omega)).mpr (show ¬ (nI 1 = nI 0) from c_11)
            refine lv_iload hx hb dX9_standingBy_30 (lv_at hl 0 rfl) ?_
            refine lv_iconst (v := 1) hx hb dX9_standingBy_32 (by decide) ?_
            refine lv_icmp_ne (tgt := 40) hx hb dX9_standingBy_33 (by decide) (fun c_12 => ?_) (fun c_12 => ?_)
            · skip
              exact absurd rfl c_12
            · skip
              have g_12 := (nI_eq (by omega) (by omega)).mp (show nI 1 = nI 1 from c_12)
              refine lv_iload_n hx hb dX9_standingBy_36 rfl (lv_at hl 3 rfl) ?_
              refine lv_goto (tgt := 52) hx hb dX9_standingBy_37 (by decide) ?_
              refine lv_istore (lv' := [(6, .int (nI k2)), (5, .int (nI 1)), (0, .ref (am 0)), (1, .int (nI k1)), (2, .int (nI k2)), (3, .int (nI k3)), (4, .int sp)]) hx hb dX9_standingBy_52 hl (by decide) rfl (fun ls hl => ?_)
              refine lv_iload hx hb dX9_standingBy_54 (lv_at hl 0 rfl) ?_
              refine lv_if_lt (tgt := 85) hx hb dX9_standingBy_56 (by decide) (fun c_13 => ?_) (fun c_13 => ?_)
              · skip
                exact absurd c_13 (nI_nn (by omega))
              · skip
                have g_13 := mt (nI_ltI (by omega) (by omega)).mpr (show ¬ (nI k2 < nI 0) from c_13)
                refine lv_aload_n hx hb dX9_standingBy_59 rfl (lv_at hl 2 rfl) ?_
                refine va_get (D := G.1) (ci := 8) (v := .ref (am 2)) (C := RX9) (T := TX9) (N := 13) hx hb hts in_X9 hown hK.1 hP 0 rfl rfl 1 (by decide) (hts _ q1163) (fun _ h9 => h9) rfl dX9_standingBy_60 ?_
                refine lv_iload hx hb dX9_standingBy_63 (lv_at hl 0 rfl) ?_
                refine x_Si (wN := fun _ => (wM G am ho rn ln pl sd lt ro rf nb ++ [(am 1, .inl (G.2 0, 54, .inl (row r)))] ++ [(am 2, .inl (G.2 0, 54, .inl (row q)))] ++ [(am 3, .inl (G.2 0, 54, .inl (row r2)))] ++ [(am 4, .inl (G.2 0, 54, .inl (row r4)))])) ⟨C0, hK, hP, hD, hS, hA⟩ ((m9_stands l G (am 2) q hi14_3 k2 (by omega))) (va_cwS 2 hts (lw_S q1251 q1252 q95 q1253) rfl rfl rfl (by decide +kernel) ⟨Nat.le_of_ble_eq_true rfl, Nat.le_of_ble_eq_true rfl⟩) [6] [0, 2, 4, 6, 8, 10, 1, 14, 16] rfl (fun _ => rfl) rfl rfl hl.1 rfl (Nat.le_of_ble_eq_true rfl) dX9_standingBy_65 ⟨(Nat.le_of_ble_eq_true rfl), (Nat.le_of_ble_eq_true rfl)⟩ (fun r_14 u_14 H locs hw_14 hP hD hS => ?_)
                have hw_14 : (bI (pSt q k2) : Int32) = r_14 := hw_14.symm
                subst hw_14
                refine lv_if_eq (tgt := 85) hx hb dX9_standingBy_68 (by decide) (fun c_15 => ?_) (fun c_15 => ?_)
                · skip
                  refine lv_iconst (v := 0) hx hb dX9_standingBy_85 (by decide) ?_
                  refine lv_istore (lv' := [(7, .int 0), (6, .int (nI k2)), (5, .int (nI 1)), (0, .ref (am 0)), (1, .int (nI k1)), (2, .int (nI k2)), (3, .int (nI k3)), (4, .int sp)]) hx hb dX9_standingBy_86 hl (by decide) rfl (fun ls hl => ?_)
                  refine lv_aload_n hx hb dX9_standingBy_88 rfl (lv_at hl 3 rfl) ?_
                  refine va_get (D := G.1) (ci := 8) (v := .ref (am 2)) (C := RX9) (T := TX9) (N := 13) hx hb hts in_X9 hown hK.1 hP 0 rfl rfl 1 (by decide) (hts _ q1163) (fun _ h9 => h9) rfl dX9_standingBy_89 ?_
                  refine lv_iconst (v := 0) hx hb dX9_standingBy_92 (by decide) ?_
                  refine x_Sv (wN := fun _ => (wM G am ho rn ln pl sd lt ro rf nb ++ [(am 1, .inl (G.2 0, 54, .inl (row r)))] ++ [(am 2, .inl (G.2 0, 54, .inl (row (pMin q 0))))] ++ [(am 3, .inl (G.2 0, 54, .inl (row r2)))] ++ [(am 4, .inl (G.2 0, 54, .inl (row r4)))])) ⟨C0, hK, hP, hD, hS, hA⟩ ((m9_minute l G (am 2) q hi14_3 0)) (va_cwS 2 hts (lw_S q1275 q1276 q95 q1277) rfl rfl rfl (by decide +kernel) ⟨Nat.le_of_ble_eq_true rfl, Nat.le_of_ble_eq_true rfl⟩) [6] [0, 2, 4, 6, 8, 10, 1, 14, 16] rfl (fun _ => rfl) rfl rfl hl.1 rfl (Nat.le_of_ble_eq_true rfl) dX9_standingBy_93 ⟨(Nat.le_of_ble_eq_true rfl), (Nat.le_of_ble_eq_true rfl)⟩ (fun u_16 H locs hw_16 hP hD hS => ?_)
                  have hP : va_P G.1 vwCl (wM G am ho rn ln pl sd lt ro rf nb ++ [(am 1, .inl (G.2 0, 54, .inl (row r)))] ++ [(am 2, .inl (G.2 0, 54, .inl (row (pMin q 0))))] ++ [(am 3, .inl (G.2 0, 54, .inl (row r2)))] ++ [(am 4, .inl (G.2 0, 54, .inl (row r4)))]) H := hP
                  have hD : va_D A (wM G am ho rn ln pl sd lt ro rf nb ++ [(am 1, .inl (G.2 0, 54, .inl (row r)))] ++ [(am 2, .inl (G.2 0, 54, .inl (row (pMin q 0))))] ++ [(am 3, .inl (G.2 0, 54, .inl (row r2)))] ++ [(am 4, .inl (G.2 0, 54, .inl (row r4)))]) := hD
                  refine lv_iinc (v := nI (1 + 1)) (lv' := [(5, .int (nI (1 + 1))), (7, .int 0), (6, .int (nI k2)), (0, .ref (am 0)), (1, .int (nI k1)), (2, .int (nI k2)), (3, .int (nI k3)), (4, .int sp)]) hx hb dX9_standingBy_96 hl (k := 2) rfl (x_inc1 _) (by decide) rfl (fun ls hl => ?_)
                  refine lv_goto (tgt := 14) hx hb dX9_standingBy_99 (by decide) ?_
                  exact ih_14 (1 + 1) (pMin q 0) (by omega) (by omega) (by show pOS (pOR r (f3 k1 k2 k3) sp 1) _ sp 1 = _; rw [hi14_2]; exact pOS_n (fun _ => show pSt q k2 = false from (by first | exact bI_n0 c_15 | exact bI_0.mp c_15))) (Ok.min hi14_3) hi14_4 _ _ _ hP hD hS (lv_sub hl [0, 3, 4, 5, 6, 7] rfl)
                · skip
                  refine lv_aload_n hx hb dX9_standingBy_71 rfl (lv_at hl 2 rfl) ?_
                  refine va_get (D := G.1) (ci := 8) (v := .ref (am 2)) (C := RX9) (T := TX9) (N := 13) hx hb hts in_X9 hown hK.1 hP 0 rfl rfl 1 (by decide) (hts _ q1163) (fun _ h9 => h9) rfl dX9_standingBy_72 ?_
                  refine lv_iload hx hb dX9_standingBy_75 (lv_at hl 0 rfl) ?_
                  refine lv_iload hx hb dX9_standingBy_77 (lv_at hl 6 rfl) ?_
                  refine x_Si (wN := fun _ => (wM G am ho rn ln pl sd lt ro rf nb ++ [(am 1, .inl (G.2 0, 54, .inl (row r)))] ++ [(am 2, .inl (G.2 0, 54, .inl (row (pPull q k2 sp))))] ++ [(am 3, .inl (G.2 0, 54, .inl (row r2)))] ++ [(am 4, .inl (G.2 0, 54, .inl (row r4)))])) ⟨C0, hK, hP, hD, hS, hA⟩ ((m9_pull l G (am 2) q hi14_3 k2 sp (by omega))) (va_cwS 3 hts (lw_S q1257 q1258 q95 q1259) rfl rfl rfl (by decide +kernel) ⟨Nat.le_of_ble_eq_true rfl, Nat.le_of_ble_eq_true rfl⟩) [6] [0, 2, 4, 6, 8, 10, 1, 14, 16] rfl (fun _ => rfl) rfl rfl hl.1 rfl (Nat.le_of_ble_eq_true rfl) dX9_standingBy_79 ⟨(Nat.le_of_ble_eq_true rfl), (Nat.le_of_ble_eq_true rfl)⟩ (fun r_17 u_17 H locs hw_17 hP hD hS => ?_)
                  have hw_17 : (pPullN q k2 sp : Int32) = r_17 := hw_17.symm
                  subst hw_17
                  have hP : va_P G.1 vwCl (wM G am ho rn ln pl sd lt ro rf nb ++ [(am 1, .inl (G.2 0, 54, .inl (row r)))] ++ [(am 2, .inl (G.2 0, 54, .inl (row (pPull q k2 sp))))] ++ [(am 3, .inl (G.2 0, 54, .inl (row r2)))] ++ [(am 4, .inl (G.2 0, 54, .inl (row r4)))]) H := hP
                  have hD : va_D A (wM G am ho rn ln pl sd lt ro rf nb ++ [(am 1, .inl (G.2 0, 54, .inl (row r)))] ++ [(am 2, .inl (G.2 0, 54, .inl (row (pPull q k2 sp))))] ++ [(am 3, .inl (G.2 0, 54, .inl (row r2)))] ++ [(am 4, .inl (G.2 0, 54, .inl (row r4)))]) := hD
                  refine lv_goto (tgt := 86) hx hb dX9_standingBy_82 (by decide) ?_
                  refine lv_istore (lv' := [(7, .int (pPullN q k2 sp)), (6, .int (nI k2)), (5, .int (nI 1)), (0, .ref (am 0)), (1, .int (nI k1)), (2, .int (nI k2)), (3, .int (nI k3)), (4, .int sp)]) hx hb dX9_standingBy_86 hl (by decide) rfl (fun ls hl => ?_)
                  refine lv_aload_n hx hb dX9_standingBy_88 rfl (lv_at hl 3 rfl) ?_
                  refine va_get (D := G.1) (ci := 8) (v := .ref (am 2)) (C := RX9) (T := TX9) (N := 13) hx hb hts in_X9 hown hK.1 hP 0 rfl rfl 1 (by decide) (hts _ q1163) (fun _ h9 => h9) rfl dX9_standingBy_89 ?_
                  refine lv_iconst (v := 0) hx hb dX9_standingBy_92 (by decide) ?_
                  refine x_Sv (wN := fun _ => (wM G am ho rn ln pl sd lt ro rf nb ++ [(am 1, .inl (G.2 0, 54, .inl (row r)))] ++ [(am 2, .inl (G.2 0, 54, .inl (row (pMin (pPull q k2 sp) 0))))] ++ [(am 3, .inl (G.2 0, 54, .inl (row r2)))] ++ [(am 4, .inl (G.2 0, 54, .inl (row r4)))])) ⟨C0, hK, hP, hD, hS, hA⟩ ((m9_minute l G (am 2) (pPull q k2 sp) (Ok.pull hi14_3) 0)) (va_cwS 2 hts (lw_S q1275 q1276 q95 q1277) rfl rfl rfl (by decide +kernel) ⟨Nat.le_of_ble_eq_true rfl, Nat.le_of_ble_eq_true rfl⟩) [6] [0, 2, 4, 6, 8, 10, 1, 14, 16] rfl (fun _ => rfl) rfl rfl hl.1 rfl (Nat.le_of_ble_eq_true rfl) dX9_standingBy_93 ⟨(Nat.le_of_ble_eq_true rfl), (Nat.le_of_ble_eq_true rfl)⟩ (fun u_18 H locs hw_18 hP hD hS => ?_)
                  have hP : va_P G.1 vwCl (wM G am ho rn ln pl sd lt ro rf nb ++ [(am 1, .inl (G.2 0, 54, .inl (row r)))] ++ [(am 2, .inl (G.2 0, 54, .inl (row (pMin (pPull q k2 sp) 0))))] ++ [(am 3, .inl (G.2 0, 54, .inl (row r2)))] ++ [(am 4, .inl (G.2 0, 54, .inl (row r4)))]) H := hP
                  have hD : va_D A (wM G am ho rn ln pl sd lt ro rf nb ++ [(am 1, .inl (G.2 0, 54, .inl (row r)))] ++ [(am 2, .inl (G.2 0, 54, .inl (row (pMin (pPull q k2 sp) 0))))] ++ [(am 3, .inl (G.2 0, 54, .inl (row r2)))] ++ [(am 4, .inl (G.2 0, 54, .inl (row r4)))]) := hD
                  refine lv_iinc (v := nI (1 + 1)) (lv' := [(5, .int (nI (1 + 1))), (7, .int (pPullN q k2 sp)), (6, .int (nI k2)), (0, .ref (am 0)), (1, .int (nI k1)), (2, .int (nI k2)), (3, .int (nI k3)), (4, .int sp)]) hx hb dX9_standingBy_96 hl (k := 2) rfl (x_inc1 _) (by decide) rfl (fun ls hl => ?_)
                  refine lv_goto (tgt := 14) hx hb dX9_standingBy_99 (by decide) ?_
                  exact ih_14 (1 + 1) (pMin (pPull q k2 sp) 0) (by omega) (by omega) (by show pOS (pOR r (f3 k1 k2 k3) sp 1) _ sp 1 = _; rw [hi14_2]; exact pOS_y (by omega) (show pSt q k2 = true from (by first | exact bI_n0 c_15 | exact bI_0.mp c_15))) (Ok.min (Ok.pull hi14_3)) hi14_4 _ _ _ hP hD hS (lv_sub hl [0, 3, 4, 5, 6, 7] rfl)
          · skip
            exact absurd c_11 (by decide)
        · skip
          refine lv_iload hx hb dX9_standingBy_21 (lv_at hl 0 rfl) ?_
          refine lv_if_ne (tgt := 30) hx hb dX9_standingBy_23 (by decide) (fun c_19 => ?_) (fun c_19 => ?_)
          · skip
            have g_19 := mt (nI_eq (by omega) (by omega)).mpr (show ¬ (nI 2 = nI 0) from c_19)
            refine lv_iload hx hb dX9_standingBy_30 (lv_at hl 0 rfl) ?_
            refine lv_iconst (v := 1) hx hb dX9_standingBy_32 (by decide) ?_
            refine lv_icmp_ne (tgt := 40) hx hb dX9_standingBy_33 (by decide) (fun c_20 => ?_) (fun c_20 => ?_)
            · skip
              have g_20 := mt (nI_eq (by omega) (by omega)).mpr (show ¬ (nI 2 = nI 1) from c_20)
              refine lv_iload hx hb dX9_standingBy_40 (lv_at hl 0 rfl) ?_
              refine lv_iconst (v := 2) hx hb dX9_standingBy_42 (by decide) ?_
              refine lv_icmp_ne (tgt := 50) hx hb dX9_standingBy_43 (by decide) (fun c_21 => ?_) (fun c_21 => ?_)
              · skip
                exact absurd rfl c_21
              · skip
                have g_21 := (nI_eq (by omega) (by omega)).mp (show nI 2 = nI 2 from c_21)
                refine lv_iload_n hx hb dX9_standingBy_46 rfl (lv_at hl 4 rfl) ?_
                refine lv_goto (tgt := 52) hx hb dX9_standingBy_47 (by decide) ?_
                refine lv_istore (lv' := [(6, .int (nI k3)), (5, .int (nI 2)), (0, .ref (am 0)), (1, .int (nI k1)), (2, .int (nI k2)), (3, .int (nI k3)), (4, .int sp)]) hx hb dX9_standingBy_52 hl (by decide) rfl (fun ls hl => ?_)
                refine lv_iload hx hb dX9_standingBy_54 (lv_at hl 0 rfl) ?_
                refine lv_if_lt (tgt := 85) hx hb dX9_standingBy_56 (by decide) (fun c_22 => ?_) (fun c_22 => ?_)
                · skip
                  exact absurd c_22 (nI_nn (by omega))
                · skip
                  have g_22 := mt (nI_ltI (by omega) (by omega)).mpr (show ¬ (nI k3 < nI 0) from c_22)
                  refine lv_aload_n hx hb dX9_standingBy_59 rfl (lv_at hl 2 rfl) ?_
                  refine va_get (D := G.1) (ci := 8) (v := .ref (am 2)) (C := RX9) (T := TX9) (N := 13) hx hb hts in_X9 hown hK.1 hP 0 rfl rfl 1 (by decide) (hts _ q1163) (fun _ h9 => h9) rfl dX9_standingBy_60 ?_
                  refine lv_iload hx hb dX9_standingBy_63 (lv_at hl 0 rfl) ?_
                  refine x_Si (wN := fun _ => (wM G am ho rn ln pl sd lt ro rf nb ++ [(am 1, .inl (G.2 0, 54, .inl (row r)))] ++ [(am 2, .inl (G.2 0, 54, .inl (row q)))] ++ [(am 3, .inl (G.2 0, 54, .inl (row r2)))] ++ [(am 4, .inl (G.2 0, 54, .inl (row r4)))])) ⟨C0, hK, hP, hD, hS, hA⟩ ((m9_stands l G (am 2) q hi14_3 k3 (by omega))) (va_cwS 2 hts (lw_S q1251 q1252 q95 q1253) rfl rfl rfl (by decide +kernel) ⟨Nat.le_of_ble_eq_true rfl, Nat.le_of_ble_eq_true rfl⟩) [6] [0, 2, 4, 6, 8, 10, 1, 14, 16] rfl (fun _ => rfl) rfl rfl hl.1 rfl (Nat.le_of_ble_eq_true rfl) dX9_standingBy_65 ⟨(Nat.le_of_ble_eq_true rfl), (Nat.le_of_ble_eq_true rfl)⟩ (fun r_23 u_23 H locs hw_23 hP hD hS => ?_)
                  have hw_23 : (bI (pSt q k3) : Int32) = r_23 := hw_23.symm
                  subst hw_23
                  refine lv_if_eq (tgt := 85) hx hb dX9_standingBy_68 (by decide) (fun c_24 => ?_) (fun c_24 => ?_)
                  · skip
                    refine lv_iconst (v := 0) hx hb dX9_standingBy_85 (by decide) ?_
                    refine lv_istore (lv' := [(7, .int 0), (6, .int (nI k3)), (5, .int (nI 2)), (0, .ref (am 0)), (1, .int (nI k1)), (2, .int (nI k2)), (3, .int (nI k3)), (4, .int sp)]) hx hb dX9_standingBy_86 hl (by decide) rfl (fun ls hl => ?_)
                    refine lv_aload_n hx hb dX9_standingBy_88 rfl (lv_at hl 3 rfl) ?_
                    refine va_get (D := G.1) (ci := 8) (v := .ref (am 2)) (C := RX9) (T := TX9) (N := 13) hx hb hts in_X9 hown hK.1 hP 0 rfl rfl 1 (by decide) (hts _ q1163) (fun _ h9 => h9) rfl dX9_standingBy_89 ?_
                    refine lv_iconst (v := 0) hx hb dX9_standingBy_92 (by decide) ?_
                    refine x_Sv (wN := fun _ => (wM G am ho rn ln pl sd lt ro rf nb ++ [(am 1, .inl (G.2 0, 54, .inl (row r)))] ++ [(am 2, .inl (G.2 0, 54, .inl (row (pMin q 0))))] ++ [(am 3, .inl (G.2 0, 54, .inl (row r2)))] ++ [(am 4, .inl (G.2 0, 54, .inl (row r4)))])) ⟨C0, hK, hP, hD, hS, hA⟩ ((m9_minute l G (am 2) q hi14_3 0)) (va_cwS 2 hts (lw_S q1275 q1276 q95 q1277) rfl rfl rfl (by decide +kernel) ⟨Nat.le_of_ble_eq_true rfl, Nat.le_of_ble_eq_true rfl⟩) [6] [0, 2, 4, 6, 8, 10, 1, 14, 16] rfl (fun _ => rfl) rfl rfl hl.1 rfl (Nat.le_of_ble_eq_true rfl) dX9_standingBy_93 ⟨(Nat.le_of_ble_eq_true rfl), (Nat.le_of_ble_eq_true rfl)⟩ (fun u_25 H locs hw_25 hP hD hS => ?_)
                    have hP : va_P G.1 vwCl (wM G am ho rn ln pl sd lt ro rf nb ++ [(am 1, .inl (G.2 0, 54, .inl (row r)))] ++ [(am 2, .inl (G.2 0, 54, .inl (row (pMin q 0))))] ++ [(am 3, .inl (G.2 0, 54, .inl (row r2)))] ++ [(am 4, .inl (G.2 0, 54, .inl (row r4)))]) H := hP
                    have hD : va_D A (wM G am ho rn ln pl sd lt ro rf nb ++ [(am 1, .inl (G.2 0, 54, .inl (row r)))] ++ [(am 2, .inl (G.2 0, 54, .inl (row (pMin q 0))))] ++ [(am 3, .inl (G.2 0, 54, .inl (row r2)))] ++ [(am 4, .inl (G.2 0, 54, .inl (row r4)))]) := hD
                    refine lv_iinc (v := nI (2 + 1)) (lv' := [(5, .int (nI (2 + 1))), (7, .int 0), (6, .int (nI k3)), (0, .ref (am 0)), (1, .int (nI k1)), (2, .int (nI k2)), (3, .int (nI k3)), (4, .int sp)]) hx hb dX9_standingBy_96 hl (k := 2) rfl (x_inc1 _) (by decide) rfl (fun ls hl => ?_)
                    refine lv_goto (tgt := 14) hx hb dX9_standingBy_99 (by decide) ?_
                    exact ih_14 (2 + 1) (pMin q 0) (by omega) (by omega) (by show pOS (pOR r (f3 k1 k2 k3) sp 2) _ sp 2 = _; rw [hi14_2]; exact pOS_n (fun _ => show pSt q k3 = false from (by first | exact bI_n0 c_24 | exact bI_0.mp c_24))) (Ok.min hi14_3) hi14_4 _ _ _ hP hD hS (lv_sub hl [0, 3, 4, 5, 6, 7] rfl)
                  · skip
                    refine lv_aload_n hx hb dX9_standingBy_71 rfl (lv_at hl 2 rfl) ?_
                    refine va_get (D := G.1) (ci := 8) (v := .ref (am 2)) (C := RX9) (T := TX9) (N := 13) hx hb hts in_X9 hown hK.1 hP 0 rfl rfl 1 (by decide) (hts _ q1163) (fun _ h9 => h9) rfl dX9_standingBy_72 ?_
                    refine lv_iload hx hb dX9_standingBy_75 (lv_at hl 0 rfl) ?_
                    refine lv_iload hx hb dX9_standingBy_77 (lv_at hl 6 rfl) ?_
                    refine x_Si (wN := fun _ => (wM G am ho rn ln pl sd lt ro rf nb ++ [(am 1, .inl (G.2 0, 54, .inl (row r)))] ++ [(am 2, .inl (G.2 0, 54, .inl (row (pPull q k3 sp))))] ++ [(am 3, .inl (G.2 0, 54, .inl (row r2)))] ++ [(am 4, .inl (G.2 0, 54, .inl (row r4)))])) ⟨C0, hK, hP, hD, hS, hA⟩ ((m9_pull l G (am 2) q hi14_3 k3 sp (by omega))) (va_cwS 3 hts (lw_S q1257 q1258 q95 q1259) rfl rfl rfl (by decide +kernel) ⟨Nat.le_of_ble_eq_true rfl, Nat.le_of_ble_eq_true rfl⟩) [6] [0, 2, 4, 6, 8, 10, 1, 14, 16] rfl (fun _ => rfl) rfl rfl hl.1 rfl (Nat.le_of_ble_eq_true rfl) dX9_standingBy_79 ⟨(Nat.le_of_ble_eq_true rfl), (Nat.le_of_ble_eq_true rfl)⟩ (fun r_26 u_26 H locs hw_26 hP hD hS => ?_)
                    have hw_26 : (pPullN q k3 sp : Int32) = r_26 := hw_26.symm
                    subst hw_26
                    have hP : va_P G.1 vwCl (wM G am ho rn ln pl sd lt ro rf nb ++ [(am 1, .inl (G.2 0, 54, .inl (row r)))] ++ [(am 2, .inl (G.2 0, 54, .inl (row (pPull q k3 sp))))] ++ [(am 3, .inl (G.2 0, 54, .inl (row r2)))] ++ [(am 4, .inl (G.2 0, 54, .inl (row r4)))]) H := hP
                    have hD : va_D A (wM G am ho rn ln pl sd lt ro rf nb ++ [(am 1, .inl (G.2 0, 54, .inl (row r)))] ++ [(am 2, .inl (G.2 0, 54, .inl (row (pPull q k3 sp))))] ++ [(am 3, .inl (G.2 0, 54, .inl (row r2)))] ++ [(am 4, .inl (G.2 0, 54, .inl (row r4)))]) := hD
                    refine lv_goto (tgt := 86) hx hb dX9_standingBy_82 (by decide) ?_
                    refine lv_istore (lv' := [(7, .int (pPullN q k3 sp)), (6, .int (nI k3)), (5, .int (nI 2)), (0, .ref (am 0)), (1, .int (nI k1)), (2, .int (nI k2)), (3, .int (nI k3)), (4, .int sp)]) hx hb dX9_standingBy_86 hl (by decide) rfl (fun ls hl => ?_)
                    refine lv_aload_n hx hb dX9_standingBy_88 rfl (lv_at hl 3 rfl) ?_
                    refine va_get (D := G.1) (ci := 8) (v := .ref (am 2)) (C := RX9) (T := TX9) (N := 13) hx hb hts in_X9 hown hK.1 hP 0 rfl rfl 1 (by decide) (hts _ q1163) (fun _ h9 => h9) rfl dX9_standingBy_89 ?_
                    refine lv_iconst (v := 0) hx hb dX9_standingBy_92 (by decide) ?_
                    refine x_Sv (wN := fun _ => (wM G am ho rn ln pl sd lt ro rf nb ++ [(am 1, .inl (G.2 0, 54, .inl (row r)))] ++ [(am 2, .inl (G.2 0, 54, .inl (row (pMin (pPull q k3 sp) 0))))] ++ [(am 3, .inl (G.2 0, 54, .inl (row r2)))] ++ [(am 4, .inl (G.2 0, 54, .inl (row r4)))])) ⟨C0, hK, hP, hD, hS, hA⟩ ((m9_minute l G (am 2) (pPull q k3 sp) (Ok.pull hi14_3) 0)) (va_cwS 2 hts (lw_S q1275 q1276 q95 q1277) rfl rfl rfl (by decide +kernel) ⟨Nat.le_of_ble_eq_true rfl, Nat.le_of_ble_eq_true rfl⟩) [6] [0, 2, 4, 6, 8, 10, 1, 14, 16] rfl (fun _ => rfl) rfl rfl hl.1 rfl (Nat.le_of_ble_eq_true rfl) dX9_standingBy_93 ⟨(Nat.le_of_ble_eq_true rfl), (Nat.le_of_ble_eq_true rfl)⟩ (fun u_27 H locs hw_27 hP hD hS => ?_)
                    have hP : va_P G.1 vwCl (wM G am ho rn ln pl sd lt ro rf nb ++ [(am 1, .inl (G.2 0, 54, .inl (row r)))] ++ [(am 2, .inl (G.2 0, 54, .inl (row (pMin (pPull q k3 sp) 0))))] ++ [(am 3, .inl (G.2 0, 54, .inl (row r2)))] ++ [(am 4, .inl (G.2 0, 54, .inl (row r4)))]) H := hP
                    have hD : va_D A (wM G am ho rn ln pl sd lt ro rf nb ++ [(am 1, .inl (G.2 0, 54, .inl (row r)))] ++ [(am 2, .inl (G.2 0, 54, .inl (row (pMin (pPull q k3 sp) 0))))] ++ [(am 3, .inl (G.2 0, 54, .inl (row r2)))] ++ [(am 4, .inl (G.2 0, 54, .inl (row r4)))]) := hD
                    refine lv_iinc (v := nI (2 + 1)) (lv' := [(5, .int (nI (2 + 1))), (7, .int (pPullN q k3 sp)), (6, .int (nI k3)), (0, .ref (am 0)), (1, .int (nI k1)), (2, .int (nI k2)), (3, .int (nI k3)), (4, .int sp)]) hx hb dX9_standingBy_96 hl (k := 2) rfl (x_inc1 _) (by decide) rfl (fun ls hl => ?_)
                    refine lv_goto (tgt := 14) hx hb dX9_standingBy_99 (by decide) ?_
                    exact ih_14 (2 + 1) (pMin (pPull q k3 sp) 0) (by omega) (by omega) (by show pOS (pOR r (f3 k1 k2 k3) sp 2) _ sp 2 = _; rw [hi14_2]; exact pOS_y (by omega) (show pSt q k3 = true from (by first | exact bI_n0 c_24 | exact bI_0.mp c_24))) (Ok.min (Ok.pull hi14_3)) hi14_4 _ _ _ hP hD hS (lv_sub hl [0, 3, 4, 5, 6, 7] rfl)
            · skip
              exact absurd c_20 (by decide)
          · skip
            exact absurd c_19 (by decide)
        · skip
          refine lv_iload hx hb dX9_standingBy_21 (lv_at hl 0 rfl) ?_
          refine lv_if_ne (tgt := 30) hx hb dX9_standingBy_23 (by decide) (fun c_28 => ?_) (fun c_28 => ?_)
          · skip
            have g_28 := mt (nI_eq (by omega) (by omega)).mpr (show ¬ (nI i = nI 0) from c_28)
            refine lv_iload hx hb dX9_standingBy_30 (lv_at hl 0 rfl) ?_
            refine lv_iconst (v := 1) hx hb dX9_standingBy_32 (by decide) ?_
            refine lv_icmp_ne (tgt := 40) hx hb dX9_standingBy_33 (by decide) (fun c_29 => ?_) (fun c_29 => ?_)
            · skip
              have g_29 := mt (nI_eq (by omega) (by omega)).mpr (show ¬ (nI i = nI 1) from c_29)
              refine lv_iload hx hb dX9_standingBy_40 (lv_at hl 0 rfl) ?_
              refine lv_iconst (v := 2) hx hb dX9_standingBy_42 (by decide) ?_
              refine lv_icmp_ne (tgt := 50) hx hb dX9_standingBy_43 (by decide) (fun c_30 => ?_) (fun c_30 => ?_)
              · skip
                have g_30 := mt (nI_eq (by omega) (by omega)).mpr (show ¬ (nI i = nI 2) from c_30)
                refine lv_bipush (v := (-9)) hx hb dX9_standingBy_50 (by decide) ?_
                refine lv_istore (lv' := [(6, .int (-9)), (5, .int (nI i)), (0, .ref (am 0)), (1, .int (nI k1)), (2, .int (nI k2)), (3, .int (nI k3)), (4, .int sp)]) hx hb dX9_standingBy_52 hl (by decide) rfl (fun ls hl => ?_)
                refine lv_iload hx hb dX9_standingBy_54 (lv_at hl 0 rfl) ?_
                refine lv_if_lt (tgt := 85) hx hb dX9_standingBy_56 (by decide) (fun c_31 => ?_) (fun c_31 => ?_)
                · skip
                  refine lv_iconst (v := 0) hx hb dX9_standingBy_85 (by decide) ?_
                  refine lv_istore (lv' := [(7, .int 0), (6, .int (-9)), (5, .int (nI i)), (0, .ref (am 0)), (1, .int (nI k1)), (2, .int (nI k2)), (3, .int (nI k3)), (4, .int sp)]) hx hb dX9_standingBy_86 hl (by decide) rfl (fun ls hl => ?_)
                  refine lv_aload_n hx hb dX9_standingBy_88 rfl (lv_at hl 3 rfl) ?_
                  refine va_get (D := G.1) (ci := 8) (v := .ref (am 2)) (C := RX9) (T := TX9) (N := 13) hx hb hts in_X9 hown hK.1 hP 0 rfl rfl 1 (by decide) (hts _ q1163) (fun _ h9 => h9) rfl dX9_standingBy_89 ?_
                  refine lv_iconst (v := 0) hx hb dX9_standingBy_92 (by decide) ?_
                  refine x_Sv (wN := fun _ => (wM G am ho rn ln pl sd lt ro rf nb ++ [(am 1, .inl (G.2 0, 54, .inl (row r)))] ++ [(am 2, .inl (G.2 0, 54, .inl (row (pMin q 0))))] ++ [(am 3, .inl (G.2 0, 54, .inl (row r2)))] ++ [(am 4, .inl (G.2 0, 54, .inl (row r4)))])) ⟨C0, hK, hP, hD, hS, hA⟩ ((m9_minute l G (am 2) q hi14_3 0)) (va_cwS 2 hts (lw_S q1275 q1276 q95 q1277) rfl rfl rfl (by decide +kernel) ⟨Nat.le_of_ble_eq_true rfl, Nat.le_of_ble_eq_true rfl⟩) [6] [0, 2, 4, 6, 8, 10, 1, 14, 16] rfl (fun _ => rfl) rfl rfl hl.1 rfl (Nat.le_of_ble_eq_true rfl) dX9_standingBy_93 ⟨(Nat.le_of_ble_eq_true rfl), (Nat.le_of_ble_eq_true rfl)⟩ (fun u_32 H locs hw_32 hP hD hS => ?_)
                  have hP : va_P G.1 vwCl (wM G am ho rn ln pl sd lt ro rf nb ++ [(am 1, .inl (G.2 0, 54, .inl (row r)))] ++ [(am 2, .inl (G.2 0, 54, .inl (row (pMin q 0))))] ++ [(am 3, .inl (G.2 0, 54, .inl (row r2)))] ++ [(am 4, .inl (G.2 0, 54, .inl (row r4)))]) H := hP
                  have hD : va_D A (wM G am ho rn ln pl sd lt ro rf nb ++ [(am 1, .inl (G.2 0, 54, .inl (row r)))] ++ [(am 2, .inl (G.2 0, 54, .inl (row (pMin q 0))))] ++ [(am 3, .inl (G.2 0, 54, .inl (row r2)))] ++ [(am 4, .inl (G.2 0, 54, .inl (row r4)))]) := hD
                  refine lv_iinc (v := nI (i + 1)) (lv' := [(5, .int (nI (i + 1))), (7, .int 0), (6, .int (-9)), (0, .ref (am 0)), (1, .int (nI k1)), (2, .int (nI k2)), (3, .int (nI k3)), (4, .int sp)]) hx hb dX9_standingBy_96 hl (k := 2) rfl (x_inc1 _) (by decide) rfl (fun ls hl => ?_)
                  refine lv_goto (tgt := 14) hx hb dX9_standingBy_99 (by decide) ?_
                  exact ih_14 (i + 1) (pMin q 0) (by omega) (by omega) (by show pOS (pOR r (f3 k1 k2 k3) sp i) _ sp i = _; rw [hi14_2]; exact pOS_n (fun z => absurd z (by omega))) (Ok.min hi14_3) hi14_4 _ _ _ hP hD hS (lv_sub hl [0, 3, 4, 5, 6, 7] rfl)
                · skip
                  exact absurd c_31 (by decide)
              · skip
                exact absurd ((nI_eq (b := 2) (by omega) (by omega)).mp c_30) (by omega)
            · skip
              exact absurd ((nI_eq (b := 1) (by omega) (by omega)).mp c_29) (by omega)
          · skip
            exact absurd ((nI_eq (b := 0) (by omega) (by omega)).mp c_28) (by omega)
  exact loop_14 11 0 r (by omega) (by omega) rfl hr rfl _ _ _ hP hD hS (lv_sub hl [0, 1, 2, 3, 4, 5] rfl)

/-! the model: a room is read (printed by tools/model12.py) -/
/-! the model: a room is read -/
set_option maxRecDepth 100000
theorem m_ne9 : ∀ k, k ≤ 200 → ¬ ((-1000 : Int32) - nI k = -9) ∧ ¬ ((-2000 : Int32) - nI k = -9) := by decide +kernel
theorem sP_lt {lt : Nat → Int32} {z j : Nat} (hg : sGood lt z = true) (hj : j < sLast lt z + 1) : sPos lt z j < z := by
  have h := sR_ok (sAll hg hj)
  omega
theorem sP_ge {lt : Nat → Int32} {z : Nat} (hz : z ≤ 96) (hg : sGood lt z = true) : z ≤ sPos lt z (sLast lt z + 1) := by
  have h3 : sEnd lt z (sLast lt z) = true := (fs_spec (sEnd lt z) 40).2 (sLast_lt hz)
  unfold sEnd at h3
  rw [show (sR lt z (sPos lt z (sLast lt z))).1 = true from hg] at h3
  simpa using h3
theorem sP_b {lt : Nat → Int32} {z j : Nat} (hz : z ≤ 96) (hj : j ≤ sLast lt z + 1) : sPos lt z j ≤ 200 := by
  rcases Nat.lt_or_ge j (sLast lt z + 1) with h | h
  · have := sPos_le (lt := lt) (z := z) j (by omega)
    omega
  · rw [show j = sLast lt z + 1 by omega]
    exact sPos_b hz
theorem sLt_ok {lt : Nat → Int32} {z k : Nat} (h : (sR lt z k).1 = true) : sLt (hC lt z k) = true := by
  cases e : sLt (hC lt z k) with
  | true => rfl
  | false => rw [sR_no e] at h; cases h
set_option maxHeartbeats 4000000 in
set_option maxRecDepth 100000 in
theorem n_room (l : Launch) (G : xG) (am : Nat → Nat) (r rm r2 r4 : Rw) (ho rn ln pl sd : Int32) (lt ro rf nb : Nat → Int32) (hr : Ok r) (hp : r 5 3 = 0) (z : Nat) (hln : ln = nI z) (hz : z ≤ 96) : xCi l G yX9_room cX9_room 6 (some .int) ({ frames := 6, cells := 0, slots := 0, locals := 133 } : Room) [.ref (am 0)] (wM G am ho rn ln pl sd lt ro rf nb ++ [(am 1, .inl (G.2 0, 54, .inl (row r)))] ++ [(am 2, .inl (G.2 0, 54, .inl (row rm)))] ++ [(am 3, .inl (G.2 0, 54, .inl (row r2)))] ++ [(am 4, .inl (G.2 0, 54, .inl (row r4)))]) (S := ((Nat → Int32) × Int32)) (fun v _ => v = sel (rrE lt z r) (nI (sLast lt z + 1)) (rrE lt z r)) (fun u => (wM G am ho rn 0 u.2 sd lt ro rf u.1 ++ [(am 1, .inl (G.2 0, 54, .inl (row (sel (rrE lt z r) (rrR lt z r (sLast lt z + 1)) r))))] ++ [(am 2, .inl (G.2 0, 54, .inl (row rm)))] ++ [(am 3, .inl (G.2 0, 54, .inl (row r2)))] ++ [(am 4, .inl (G.2 0, 54, .inl (row r)))])) := by
  refine x_openi (by decide) (Nat.le_of_ble_eq_true rfl) (fun _ _ _ => rfl) ?_
  intro p e s m args below meth c A Q ls C0 hK hP hD hA hl hret
  obtain ⟨hx, hb, hml, hown, hts⟩ := id C0
  have hS : va_S A s.heap s.heap [] := va_S.rf
  have hP : va_P G.1 vwCl (wM G am ho rn ln pl sd lt ro rf nb ++ [(am 1, .inl (G.2 0, 54, .inl (row r)))] ++ [(am 2, .inl (G.2 0, 54, .inl (row rm)))] ++ [(am 3, .inl (G.2 0, 54, .inl (row r2)))] ++ [(am 4, .inl (G.2 0, 54, .inl (row r4)))]) s.heap := hP
  have hD : va_D A (wM G am ho rn ln pl sd lt ro rf nb ++ [(am 1, .inl (G.2 0, 54, .inl (row r)))] ++ [(am 2, .inl (G.2 0, 54, .inl (row rm)))] ++ [(am 3, .inl (G.2 0, 54, .inl (row r2)))] ++ [(am 4, .inl (G.2 0, 54, .inl (row r4)))]) := hD
  have hl : lv_has ls 6 [(0, .ref (am 0))] := hl
  have hr0 := hr.n
  have hN := hr.le
  have hk40 := sLast_lt (lt := lt) hz
  rw [hln] at hP hD
  have hP : va_P G.1 vwCl (wM G am ho rn (nI z) pl sd lt ro rf nb ++ [(am 1, .inl (G.2 0, 54, .inl (row r)))] ++ [(am 2, .inl (G.2 0, 54, .inl (row rm)))] ++ [(am 3, .inl (G.2 0, 54, .inl (row r2)))] ++ [(am 4, .inl (G.2 0, 54, .inl (row r4)))]) H := hP
  have hD : va_D A (wM G am ho rn (nI z) pl sd lt ro rf nb ++ [(am 1, .inl (G.2 0, 54, .inl (row r)))] ++ [(am 2, .inl (G.2 0, 54, .inl (row rm)))] ++ [(am 3, .inl (G.2 0, 54, .inl (row r2)))] ++ [(am 4, .inl (G.2 0, 54, .inl (row r4)))]) := hD
  refine lv_aload_n hx hb dX9_room_0 rfl (lv_at hl 0 rfl) ?_
  refine lv_iconst (v := 0) hx hb dX9_room_1 (by decide) ?_
  refine va_put (D := G.1) (ci := 8) (v := .int 0) (ty := .int) (C := RX9) (T := TX9) (N := 13) hx hb hts in_X9 tyX9 tyX9_ok nmX9 hown hK.1 hP hD hS 0 rfl rfl 10 (by decide) (hts _ q1172) (fun _ h9 => h9) rfl (by decide +kernel) rfl rfl (Nat.le_of_ble_eq_true rfl) dX9_room_2 (fun H locs hP hD hS => ?_)
  have hP : va_P G.1 vwCl (wM G am ho rn (nI z) 0 sd lt ro rf nb ++ [(am 1, .inl (G.2 0, 54, .inl (row r)))] ++ [(am 2, .inl (G.2 0, 54, .inl (row rm)))] ++ [(am 3, .inl (G.2 0, 54, .inl (row r2)))] ++ [(am 4, .inl (G.2 0, 54, .inl (row r4)))]) H := hP
  have hD : va_D A (wM G am ho rn (nI z) 0 sd lt ro rf nb ++ [(am 1, .inl (G.2 0, 54, .inl (row r)))] ++ [(am 2, .inl (G.2 0, 54, .inl (row rm)))] ++ [(am 3, .inl (G.2 0, 54, .inl (row r2)))] ++ [(am 4, .inl (G.2 0, 54, .inl (row r4)))]) := hD
  refine lv_iconst (v := 0) hx hb dX9_room_5 (by decide) ?_
  refine lv_istore_n (lv' := [(1, .int 0), (0, .ref (am 0))]) hx hb dX9_room_6 rfl hl (by decide) rfl (fun ls hl => ?_)
  refine lv_bipush (v := (-9)) hx hb dX9_room_7 (by decide) ?_
  refine lv_istore_n (lv' := [(2, .int (-9)), (1, .int 0), (0, .ref (am 0))]) hx hb dX9_room_9 rfl hl (by decide) rfl (fun ls hl => ?_)
  have loop_10 : ∀ (n : Nat) (i : Nat) (nb9 : Nat → Int32), (i ≤ sLast lt z) → (sLast lt z < i + n) → ∀ (H : Heap) (locs : List Loc) (ls : Array Slot), va_P G.1 vwCl (wM G am ho rn (nI z) (nI (sPos lt z i)) sd lt ro rf nb9 ++ [(am 1, .inl (G.2 0, 54, .inl (row r)))] ++ [(am 2, .inl (G.2 0, 54, .inl (row rm)))] ++ [(am 3, .inl (G.2 0, 54, .inl (row r2)))] ++ [(am 4, .inl (G.2 0, 54, .inl (row r4)))]) H → va_D A (wM G am ho rn (nI z) (nI (sPos lt z i)) sd lt ro rf nb9 ++ [(am 1, .inl (G.2 0, 54, .inl (row r)))] ++ [(am 2, .inl (G.2 0, 54, .inl (row rm)))] ++ [(am 3, .inl (G.2 0, 54, .inl (row r2)))] ++ [(am 4, .inl (G.2 0, 54, .inl (row r4)))]) → va_S A s.heap H locs → lv_has ls 6 [(2, .int (-9)), (1, .int (nI i)), (0, .ref (am 0))] → W p l e ({ frames := 6, cells := 0, slots := 0, locals := 133 } : Room) s m args below meth c H locs 0 0 Q (F0 m 10 ls []) := by
    intro n
    induction n with
    | zero => intro i nb9 hi10_0 hi10_1; exact absurd hi10_1 (by omega)
    | succ n ih_10 =>
      intro i nb9 hi10_0 hi10_1 H locs ls hP hD hS hl
      have hpi := sPos_le (lt := lt) (z := z) i hi10_0
      refine lv_aload_n hx hb dX9_room_10 rfl (lv_at hl 2 rfl) ?_
      refine x_Vi (wN := fun u_1 => (wM G am ho rn (nI z) (nI u_1.2) sd lt ro rf u_1.1 ++ [(am 1, .inl (G.2 0, 54, .inl (row r)))] ++ [(am 2, .inl (G.2 0, 54, .inl (row rm)))] ++ [(am 3, .inl (G.2 0, 54, .inl (row r2)))] ++ [(am 4, .inl (G.2 0, 54, .inl (row r4)))])) ⟨C0, hK, hP, hD, hS, hA⟩ 0 rfl (ci := 8) rfl rfl ((m9_readsStatement l G am ho rn (nI z) (nI (sPos lt z i)) sd lt ro rf nb9 z (sPos lt z i) hz (by omega) )) (cwV 0 hts (lw_V q1214 q1216 qs67 q95 q1217) rfl rfl rfl (by decide +kernel) ⟨Nat.le_of_ble_eq_true rfl, Nat.le_of_ble_eq_true rfl⟩) [0, 1, 2, 3, 4] [1, 3, 5, 7, 9, 10, 12, 14, 16] rfl (fun _ => rfl) rfl rfl hl.1 rfl (Nat.le_of_ble_eq_true rfl) dX9_room_11 ⟨(Nat.le_of_ble_eq_true rfl), (Nat.le_of_ble_eq_true rfl)⟩ (fun r_1 u_1 H locs hw_1 hP hD hS => ?_)
      have hP : va_P G.1 vwCl (wM G am ho rn (nI z) (nI u_1.2) sd lt ro rf u_1.1 ++ [(am 1, .inl (G.2 0, 54, .inl (row r)))] ++ [(am 2, .inl (G.2 0, 54, .inl (row rm)))] ++ [(am 3, .inl (G.2 0, 54, .inl (row r2)))] ++ [(am 4, .inl (G.2 0, 54, .inl (row r4)))]) H := hP
      have hD : va_D A (wM G am ho rn (nI z) (nI u_1.2) sd lt ro rf u_1.1 ++ [(am 1, .inl (G.2 0, 54, .inl (row r)))] ++ [(am 2, .inl (G.2 0, 54, .inl (row rm)))] ++ [(am 3, .inl (G.2 0, 54, .inl (row r2)))] ++ [(am 4, .inl (G.2 0, 54, .inl (row r4)))]) := hD
      obtain ⟨ev, e2, hnb⟩ := hw_1
      rw [e2] at hP hD
      cases hs : (sR lt z (sPos lt z i)).1
      · skip
        rw [hs] at ev
        subst ev
        have hP : va_P G.1 vwCl (wM G am ho rn (nI z) (nI (sPos lt z (i + 1))) sd lt ro rf u_1.1 ++ [(am 1, .inl (G.2 0, 54, .inl (row r)))] ++ [(am 2, .inl (G.2 0, 54, .inl (row rm)))] ++ [(am 3, .inl (G.2 0, 54, .inl (row r2)))] ++ [(am 4, .inl (G.2 0, 54, .inl (row r4)))]) H := hP
        have hD : va_D A (wM G am ho rn (nI z) (nI (sPos lt z (i + 1))) sd lt ro rf u_1.1 ++ [(am 1, .inl (G.2 0, 54, .inl (row r)))] ++ [(am 2, .inl (G.2 0, 54, .inl (row rm)))] ++ [(am 3, .inl (G.2 0, 54, .inl (row r2)))] ++ [(am 4, .inl (G.2 0, 54, .inl (row r4)))]) := hD
        have ei := sLast_x hi10_0 hs
        have hgf : sGood lt z = false := by unfold sGood; rw [← ei]; exact hs
        have hpb := sP_b (lt := lt) (j := i + 1) hz (by omega)
        refine lv_if_ne (tgt := 26) hx hb dX9_room_14 (by decide) (fun c_2 => ?_) (fun c_2 => ?_)
        · skip
          exact absurd c_2 (by decide)
        · skip
          refine lv_sipush (v := (-1000)) hx hb dX9_room_17 (by decide) ?_
          refine lv_aload_n hx hb dX9_room_20 rfl (lv_at hl 2 rfl) ?_
          refine va_get (D := G.1) (ci := 8) (v := .int (nI (sPos lt z (i + 1)))) (C := RX9) (T := TX9) (N := 13) hx hb hts in_X9 hown hK.1 hP 0 rfl rfl 10 (by decide) (hts _ q1172) (fun _ h9 => h9) rfl dX9_room_21 ?_
          refine x_isub hx hb dX9_room_24 (v := (-1000) - (nI (sPos lt z (i + 1)))) rfl ?_
          refine lv_istore_n (lv' := [(2, .int ((-1000) - (nI (sPos lt z (i + 1))))), (1, .int (nI i)), (0, .ref (am 0))]) hx hb dX9_room_25 rfl hl (by decide) rfl (fun ls hl => ?_)
          refine lv_iinc (v := nI (i + 1)) (lv' := [(1, .int (nI (i + 1))), (2, .int ((-1000) - (nI (sPos lt z (i + 1))))), (0, .ref (am 0))]) hx hb dX9_room_26 hl (k := 1) rfl (x_inc1 _) (by decide) rfl (fun ls hl => ?_)
          refine lv_iload_n hx hb dX9_room_29 rfl (lv_at hl 1 rfl) ?_
          refine lv_bipush (v := (-9)) hx hb dX9_room_30 (by decide) ?_
          refine lv_icmp_ne (tgt := 46) hx hb dX9_room_32 (by decide) (fun c_3 => ?_) (fun c_3 => ?_)
          · skip
            refine lv_aload_n hx hb dX9_room_46 rfl (lv_at hl 2 rfl) ?_
            refine va_get (D := G.1) (ci := 8) (v := .ref (am 1)) (C := RX9) (T := TX9) (N := 13) hx hb hts in_X9 hown hK.1 hP 0 rfl rfl 0 (by decide) (hts _ q1162) (fun _ h9 => h9) rfl dX9_room_47 ?_
            refine lv_aload_n hx hb dX9_room_50 rfl (lv_at hl 2 rfl) ?_
            refine va_get (D := G.1) (ci := 8) (v := .ref (am 4)) (C := RX9) (T := TX9) (N := 13) hx hb hts in_X9 hown hK.1 hP 0 rfl rfl 3 (by decide) (hts _ q1165) (fun _ h9 => h9) rfl dX9_room_51 ?_
            refine x_Sv (wN := fun _ => (wM G am ho rn (nI z) (nI (sPos lt z (i + 1))) sd lt ro rf u_1.1 ++ [(am 1, .inl (G.2 0, 54, .inl (row r)))] ++ [(am 2, .inl (G.2 0, 54, .inl (row rm)))] ++ [(am 3, .inl (G.2 0, 54, .inl (row r2)))] ++ [(am 4, .inl (G.2 0, 54, .inl (row r)))])) ⟨C0, hK, hP, hD, hS, hA⟩ ((m9_copies l G (am 1) (am 4) (row r) (row r4))) (va_cwS 2 hts (lw_S q1236 q1237 q95 q1238) rfl rfl rfl (by decide +kernel) ⟨Nat.le_of_ble_eq_true rfl, Nat.le_of_ble_eq_true rfl⟩) [5, 8] [0, 2, 4, 6, 8, 1, 12, 14, 3] rfl (fun _ => rfl) rfl rfl hl.1 rfl (Nat.le_of_ble_eq_true rfl) dX9_room_54 ⟨(Nat.le_of_ble_eq_true rfl), (Nat.le_of_ble_eq_true rfl)⟩ (fun u_4 H locs hw_4 hP hD hS => ?_)
            have hP : va_P G.1 vwCl (wM G am ho rn (nI z) (nI (sPos lt z (i + 1))) sd lt ro rf u_1.1 ++ [(am 1, .inl (G.2 0, 54, .inl (row r)))] ++ [(am 2, .inl (G.2 0, 54, .inl (row rm)))] ++ [(am 3, .inl (G.2 0, 54, .inl (row r2)))] ++ [(am 4, .inl (G.2 0, 54, .inl (row r)))]) H := hP
            have hD : va_D A (wM G am ho rn (nI z) (nI (sPos lt z (i + 1))) sd lt ro rf u_1.1 ++ [(am 1, .inl (G.2 0, 54, .inl (row r)))] ++ [(am 2, .inl (G.2 0, 54, .inl (row rm)))] ++ [(am 3, .inl (G.2 0, 54, .inl (row r2)))] ++ [(am 4, .inl (G.2 0, 54, .inl (row r)))]) := hD
            refine lv_aload_n hx hb dX9_room_57 rfl (lv_at hl 2 rfl) ?_
            refine lv_iconst (v := 0) hx hb dX9_room_58 (by decide) ?_
            refine va_put (D := G.1) (ci := 8) (v := .int 0) (ty := .int) (C := RX9) (T := TX9) (N := 13) hx hb hts in_X9 tyX9 tyX9_ok nmX9 hown hK.1 hP hD hS 0 rfl rfl 10 (by decide) (hts _ q1172) (fun _ h9 => h9) rfl (by decide +kernel) rfl rfl (Nat.le_of_ble_eq_true rfl) dX9_room_59 (fun H locs hP hD hS => ?_)
            have hP : va_P G.1 vwCl (wM G am ho rn (nI z) 0 sd lt ro rf u_1.1 ++ [(am 1, .inl (G.2 0, 54, .inl (row r)))] ++ [(am 2, .inl (G.2 0, 54, .inl (row rm)))] ++ [(am 3, .inl (G.2 0, 54, .inl (row r2)))] ++ [(am 4, .inl (G.2 0, 54, .inl (row r)))]) H := hP
            have hD : va_D A (wM G am ho rn (nI z) 0 sd lt ro rf u_1.1 ++ [(am 1, .inl (G.2 0, 54, .inl (row r)))] ++ [(am 2, .inl (G.2 0, 54, .inl (row rm)))] ++ [(am 3, .inl (G.2 0, 54, .inl (row r2)))] ++ [(am 4, .inl (G.2 0, 54, .inl (row r)))]) := hD
            refine lv_iload_n hx hb dX9_room_62 rfl (lv_at hl 1 rfl) ?_
            refine lv_bipush (v := (-9)) hx hb dX9_room_63 (by decide) ?_
            refine lv_icmp_ne (tgt := 128) hx hb dX9_room_65 (by decide) (fun c_5 => ?_) (fun c_5 => ?_)
            · skip
              refine lv_aload_n hx hb dX9_room_128 rfl (lv_at hl 2 rfl) ?_
              refine lv_iconst (v := 0) hx hb dX9_room_129 (by decide) ?_
              refine va_put (D := G.1) (ci := 8) (v := .int 0) (ty := .int) (C := RX9) (T := TX9) (N := 13) hx hb hts in_X9 tyX9 tyX9_ok nmX9 hown hK.1 hP hD hS 0 rfl rfl 8 (by decide) (hts _ q1170) (fun _ h9 => h9) rfl (by decide +kernel) rfl rfl (Nat.le_of_ble_eq_true rfl) dX9_room_130 (fun H locs hP hD hS => ?_)
              have hP : va_P G.1 vwCl (wM G am ho rn 0 0 sd lt ro rf u_1.1 ++ [(am 1, .inl (G.2 0, 54, .inl (row r)))] ++ [(am 2, .inl (G.2 0, 54, .inl (row rm)))] ++ [(am 3, .inl (G.2 0, 54, .inl (row r2)))] ++ [(am 4, .inl (G.2 0, 54, .inl (row r)))]) H := hP
              have hD : va_D A (wM G am ho rn 0 0 sd lt ro rf u_1.1 ++ [(am 1, .inl (G.2 0, 54, .inl (row r)))] ++ [(am 2, .inl (G.2 0, 54, .inl (row rm)))] ++ [(am 3, .inl (G.2 0, 54, .inl (row r2)))] ++ [(am 4, .inl (G.2 0, 54, .inl (row r)))]) := hD
              refine lv_iload_n hx hb dX9_room_133 rfl (lv_at hl 1 rfl) ?_
              refine lv_bipush (v := (-9)) hx hb dX9_room_134 (by decide) ?_
              refine lv_icmp_ne (tgt := 143) hx hb dX9_room_136 (by decide) (fun c_6 => ?_) (fun c_6 => ?_)
              · skip
                refine lv_iload_n hx hb dX9_room_143 rfl (lv_at hl 1 rfl) ?_
                have hE : rrE lt z r = -1000 - nI (sPos lt z (i + 1)) := by rw [rrE_1 hgf, ← ei]
                have hne : (-1000 : Int32) - nI (sPos lt z (i + 1)) ≠ 0 := (m_ne0 _ hpb).1
                have hP : va_P G.1 vwCl (wM G am ho rn 0 ((u_1.1, 0).2) sd lt ro rf ((u_1.1, 0).1) ++ [(am 1, .inl (G.2 0, 54, .inl (row (sel (rrE lt z r) (rrR lt z r (sLast lt z + 1)) r))))] ++ [(am 2, .inl (G.2 0, 54, .inl (row rm)))] ++ [(am 3, .inl (G.2 0, 54, .inl (row r2)))] ++ [(am 4, .inl (G.2 0, 54, .inl (row r)))]) H := by rw [hE]; simp only [sel_n hne]; exact hP
                have hD : va_D A (wM G am ho rn 0 ((u_1.1, 0).2) sd lt ro rf ((u_1.1, 0).1) ++ [(am 1, .inl (G.2 0, 54, .inl (row (sel (rrE lt z r) (rrR lt z r (sLast lt z + 1)) r))))] ++ [(am 2, .inl (G.2 0, 54, .inl (row rm)))] ++ [(am 3, .inl (G.2 0, 54, .inl (row r2)))] ++ [(am 4, .inl (G.2 0, 54, .inl (row r)))]) := by rw [hE]; simp only [sel_n hne]; exact hD
                refine hret _ _ _ _ _ _ ((-1000) - (nI (sPos lt z (i + 1)))) (u_1.1, 0) dX9_room_144 ?_ hP hD hS (Nat.le_of_ble_eq_true rfl) (Nat.le_of_ble_eq_true rfl)
                rw [hE, sel_n hne]
              · skip
                exact absurd c_6 (m_ne9 _ hpb).1
            · skip
              exact absurd c_5 (m_ne9 _ hpb).1
          · skip
            exact absurd c_3 (m_ne9 _ hpb).1
      · skip
        rw [hs] at ev
        subst ev
        have hP : va_P G.1 vwCl (wM G am ho rn (nI z) (nI (sPos lt z (i + 1))) sd lt ro rf u_1.1 ++ [(am 1, .inl (G.2 0, 54, .inl (row r)))] ++ [(am 2, .inl (G.2 0, 54, .inl (row rm)))] ++ [(am 3, .inl (G.2 0, 54, .inl (row r2)))] ++ [(am 4, .inl (G.2 0, 54, .inl (row r4)))]) H := hP
        have hD : va_D A (wM G am ho rn (nI z) (nI (sPos lt z (i + 1))) sd lt ro rf u_1.1 ++ [(am 1, .inl (G.2 0, 54, .inl (row r)))] ++ [(am 2, .inl (G.2 0, 54, .inl (row rm)))] ++ [(am 3, .inl (G.2 0, 54, .inl (row r2)))] ++ [(am 4, .inl (G.2 0, 54, .inl (row r4)))]) := hD
        have hpn := (sR_ok hs).2.1
        have hpn : sPos lt z (i + 1) ≤ z := hpn
        refine lv_if_ne (tgt := 26) hx hb dX9_room_14 (by decide) (fun c_7 => ?_) (fun c_7 => ?_)
        · skip
          refine lv_iinc (v := nI (i + 1)) (lv' := [(1, .int (nI (i + 1))), (2, .int (-9)), (0, .ref (am 0))]) hx hb dX9_room_26 hl (k := 1) rfl (x_inc1 _) (by decide) rfl (fun ls hl => ?_)
          refine lv_iload_n hx hb dX9_room_29 rfl (lv_at hl 1 rfl) ?_
          refine lv_bipush (v := (-9)) hx hb dX9_room_30 (by decide) ?_
          refine lv_icmp_ne (tgt := 46) hx hb dX9_room_32 (by decide) (fun c_8 => ?_) (fun c_8 => ?_)
          · skip
            exact absurd c_8 (by decide)
          · skip
            refine lv_aload_n hx hb dX9_room_35 rfl (lv_at hl 2 rfl) ?_
            refine va_get (D := G.1) (ci := 8) (v := .int (nI (sPos lt z (i + 1)))) (C := RX9) (T := TX9) (N := 13) hx hb hts in_X9 hown hK.1 hP 0 rfl rfl 10 (by decide) (hts _ q1172) (fun _ h9 => h9) rfl dX9_room_36 ?_
            refine lv_aload_n hx hb dX9_room_39 rfl (lv_at hl 2 rfl) ?_
            refine va_get (D := G.1) (ci := 8) (v := .int (nI z)) (C := RX9) (T := TX9) (N := 13) hx hb hts in_X9 hown hK.1 hP 0 rfl rfl 8 (by decide) (hts _ q1170) (fun _ h9 => h9) rfl dX9_room_40 ?_
            refine lv_icmp_lt (tgt := 10) hx hb dX9_room_43 (by decide) (fun c_9 => ?_) (fun c_9 => ?_)
            · skip
              have g_9 := (nI_ltI (by omega) (by omega)).mp c_9
              exact ih_10 (i + 1) _ (sLast_s hz hi10_0 hs (show sPos lt z (i + 1) < z by omega)) (by have := sLast_s hz hi10_0 hs (show sPos lt z (i + 1) < z by omega); omega) _ _ _ hP hD hS (lv_sub hl [1, 0, 2] rfl)
            · skip
              have g_9 := mt (nI_ltI (by omega) (by omega)).mpr c_9
              have ei := sLast_b hi10_0 (show ¬ sPos lt z (i + 1) < z from g_9)
              have hgd : sGood lt z = true := by unfold sGood; rw [← ei]; exact hs
              rw [show nI (i + 1) = nI (sLast lt z + 1) by rw [← ei]] at hl
              refine lv_aload_n hx hb dX9_room_46 rfl (lv_at hl 2 rfl) ?_
              refine va_get (D := G.1) (ci := 8) (v := .ref (am 1)) (C := RX9) (T := TX9) (N := 13) hx hb hts in_X9 hown hK.1 hP 0 rfl rfl 0 (by decide) (hts _ q1162) (fun _ h9 => h9) rfl dX9_room_47 ?_
              refine lv_aload_n hx hb dX9_room_50 rfl (lv_at hl 2 rfl) ?_
              refine va_get (D := G.1) (ci := 8) (v := .ref (am 4)) (C := RX9) (T := TX9) (N := 13) hx hb hts in_X9 hown hK.1 hP 0 rfl rfl 3 (by decide) (hts _ q1165) (fun _ h9 => h9) rfl dX9_room_51 ?_
              refine x_Sv (wN := fun _ => (wM G am ho rn (nI z) (nI (sPos lt z (i + 1))) sd lt ro rf u_1.1 ++ [(am 1, .inl (G.2 0, 54, .inl (row r)))] ++ [(am 2, .inl (G.2 0, 54, .inl (row rm)))] ++ [(am 3, .inl (G.2 0, 54, .inl (row r2)))] ++ [(am 4, .inl (G.2 0, 54, .inl (row r)))])) ⟨C0, hK, hP, hD, hS, hA⟩ ((m9_copies l G (am 1) (am 4) (row r) (row r4))) (va_cwS 2 hts (lw_S q1236 q1237 q95 q1238) rfl rfl rfl (by decide +kernel) ⟨Nat.le_of_ble_eq_true rfl, Nat.le_of_ble_eq_true rfl⟩) [5, 8] [0, 2, 4, 6, 8, 1, 12, 14, 3] rfl (fun _ => rfl) rfl rfl hl.1 rfl (Nat.le_of_ble_eq_true rfl) dX9_room_54 ⟨(Nat.le_of_ble_eq_true rfl), (Nat.le_of_ble_eq_true rfl)⟩ (fun u_10 H locs hw_10 hP hD hS => ?_)
              have hP : va_P G.1 vwCl (wM G am ho rn (nI z) (nI (sPos lt z (i + 1))) sd lt ro rf u_1.1 ++ [(am 1, .inl (G.2 0, 54, .inl (row r)))] ++ [(am 2, .inl (G.2 0, 54, .inl (row rm)))] ++ [(am 3, .inl (G.2 0, 54, .inl (row r2)))] ++ [(am 4, .inl (G.2 0, 54, .inl (row r)))]) H := hP
              have hD : va_D A (wM G am ho rn (nI z) (nI (sPos lt z (i + 1))) sd lt ro rf u_1.1 ++ [(am 1, .inl (G.2 0, 54, .inl (row r)))] ++ [(am 2, .inl (G.2 0, 54, .inl (row rm)))] ++ [(am 3, .inl (G.2 0, 54, .inl (row r2)))] ++ [(am 4, .inl (G.2 0, 54, .inl (row r)))]) := hD
              refine lv_aload_n hx hb dX9_room_57 rfl (lv_at hl 2 rfl) ?_
              refine lv_iconst (v := 0) hx hb dX9_room_58 (by decide) ?_
              refine va_put (D := G.1) (ci := 8) (v := .int 0) (ty := .int) (C := RX9) (T := TX9) (N := 13) hx hb hts in_X9 tyX9 tyX9_ok nmX9 hown hK.1 hP hD hS 0 rfl rfl 10 (by decide) (hts _ q1172) (fun _ h9 => h9) rfl (by decide +kernel) rfl rfl (Nat.le_of_ble_eq_true rfl) dX9_room_59 (fun H locs hP hD hS => ?_)
              have hP : va_P G.1 vwCl (wM G am ho rn (nI z) 0 sd lt ro rf u_1.1 ++ [(am 1, .inl (G.2 0, 54, .inl (row r)))] ++ [(am 2, .inl (G.2 0, 54, .inl (row rm)))] ++ [(am 3, .inl (G.2 0, 54, .inl (row r2)))] ++ [(am 4, .inl (G.2 0, 54, .inl (row r)))]) H := hP
              have hD : va_D A (wM G am ho rn (nI z) 0 sd lt ro rf u_1.1 ++ [(am 1, .inl (G.2 0, 54, .inl (row r)))] ++ [(am 2, .inl (G.2 0, 54, .inl (row rm)))] ++ [(am 3, .inl (G.2 0, 54, .inl (row r2)))] ++ [(am 4, .inl (G.2 0, 54, .inl (row r)))]) := hD
              have loop_62 : ∀ (n : Nat) (j : Nat) (nb8 : Nat → Int32), (j ≤ (sLast lt z + 1)) → ((sLast lt z + 1) < j + n) → (sGood lt z = true) → (∀ q, q < j → rrB lt z r q = false) → ∀ (H : Heap) (locs : List Loc) (ls : Array Slot), va_P G.1 vwCl (wM G am ho rn (nI z) (nI (sPos lt z j)) sd lt ro rf nb8 ++ [(am 1, .inl (G.2 0, 54, .inl (row (rrR lt z r j))))] ++ [(am 2, .inl (G.2 0, 54, .inl (row rm)))] ++ [(am 3, .inl (G.2 0, 54, .inl (row r2)))] ++ [(am 4, .inl (G.2 0, 54, .inl (row r)))]) H → va_D A (wM G am ho rn (nI z) (nI (sPos lt z j)) sd lt ro rf nb8 ++ [(am 1, .inl (G.2 0, 54, .inl (row (rrR lt z r j))))] ++ [(am 2, .inl (G.2 0, 54, .inl (row rm)))] ++ [(am 3, .inl (G.2 0, 54, .inl (row r2)))] ++ [(am 4, .inl (G.2 0, 54, .inl (row r)))]) → va_S A s.heap H locs → lv_has ls 6 [(1, .int (nI (sLast lt z + 1))), (2, .int (-9)), (0, .ref (am 0))] → W p l e ({ frames := 6, cells := 0, slots := 0, locals := 133 } : Room) s m args below meth c H locs 0 0 Q (F0 m 62 ls []) := by
                intro n
                induction n with
                | zero => intro j nb8 hi62_0 hi62_1 hi62_2 hi62_3; exact absurd hi62_1 (by omega)
                | succ n ih_62 =>
                  intro j nb8 hi62_0 hi62_1 hi62_2 hi62_3 H locs ls hP hD hS hl
                  have hpj := sP_b (lt := lt) (j := j) hz hi62_0
                  have hgd := hi62_2
                  refine lv_iload_n hx hb dX9_room_62 rfl (lv_at hl 1 rfl) ?_
                  refine lv_bipush (v := (-9)) hx hb dX9_room_63 (by decide) ?_
                  refine lv_icmp_ne (tgt := 128) hx hb dX9_room_65 (by decide) (fun c_11 => ?_) (fun c_11 => ?_)
                  · skip
                    exact absurd c_11 (by decide)
                  · skip
                    refine lv_aload_n hx hb dX9_room_68 rfl (lv_at hl 2 rfl) ?_
                    refine va_get (D := G.1) (ci := 8) (v := .int (nI (sPos lt z j))) (C := RX9) (T := TX9) (N := 13) hx hb hts in_X9 hown hK.1 hP 0 rfl rfl 10 (by decide) (hts _ q1172) (fun _ h9 => h9) rfl dX9_room_69 ?_
                    refine lv_aload_n hx hb dX9_room_72 rfl (lv_at hl 2 rfl) ?_
                    refine va_get (D := G.1) (ci := 8) (v := .int (nI z)) (C := RX9) (T := TX9) (N := 13) hx hb hts in_X9 hown hK.1 hP 0 rfl rfl 8 (by decide) (hts _ q1170) (fun _ h9 => h9) rfl dX9_room_73 ?_
                    refine lv_icmp_ge (tgt := 128) hx hb dX9_room_76 (by decide) (fun c_12 => ?_) (fun c_12 => ?_)
                    · skip
                      have g_12 := (nI_leI (by omega) (by omega)).mp c_12
                      refine lv_aload_n hx hb dX9_room_128 rfl (lv_at hl 2 rfl) ?_
                      refine lv_iconst (v := 0) hx hb dX9_room_129 (by decide) ?_
                      refine va_put (D := G.1) (ci := 8) (v := .int 0) (ty := .int) (C := RX9) (T := TX9) (N := 13) hx hb hts in_X9 tyX9 tyX9_ok nmX9 hown hK.1 hP hD hS 0 rfl rfl 8 (by decide) (hts _ q1170) (fun _ h9 => h9) rfl (by decide +kernel) rfl rfl (Nat.le_of_ble_eq_true rfl) dX9_room_130 (fun H locs hP hD hS => ?_)
                      have hP : va_P G.1 vwCl (wM G am ho rn 0 (nI (sPos lt z j)) sd lt ro rf nb8 ++ [(am 1, .inl (G.2 0, 54, .inl (row (rrR lt z r j))))] ++ [(am 2, .inl (G.2 0, 54, .inl (row rm)))] ++ [(am 3, .inl (G.2 0, 54, .inl (row r2)))] ++ [(am 4, .inl (G.2 0, 54, .inl (row r)))]) H := hP
                      have hD : va_D A (wM G am ho rn 0 (nI (sPos lt z j)) sd lt ro rf nb8 ++ [(am 1, .inl (G.2 0, 54, .inl (row (rrR lt z r j))))] ++ [(am 2, .inl (G.2 0, 54, .inl (row rm)))] ++ [(am 3, .inl (G.2 0, 54, .inl (row r2)))] ++ [(am 4, .inl (G.2 0, 54, .inl (row r)))]) := hD
                      refine lv_iload_n hx hb dX9_room_133 rfl (lv_at hl 1 rfl) ?_
                      refine lv_bipush (v := (-9)) hx hb dX9_room_134 (by decide) ?_
                      refine lv_icmp_ne (tgt := 143) hx hb dX9_room_136 (by decide) (fun c_13 => ?_) (fun c_13 => ?_)
                      · skip
                        exact absurd c_13 (by decide)
                      · skip
                        refine lv_iload_n hx hb dX9_room_139 rfl (lv_at hl 0 rfl) ?_
                        refine lv_goto (tgt := 144) hx hb dX9_room_140 (by decide) ?_
                        have ejj : j = (sLast lt z + 1) := by have h9 := hi62_0; rcases Nat.lt_or_ge j (sLast lt z + 1) with q | q; exact absurd (sP_lt hgd q) (by omega); omega
                        subst ejj
                        have hE : rrE lt z r = 0 := rrE_0 hgd hi62_3
                        have hP : va_P G.1 vwCl (wM G am ho rn 0 ((nb8, nI (sPos lt z j)).2) sd lt ro rf ((nb8, nI (sPos lt z j)).1) ++ [(am 1, .inl (G.2 0, 54, .inl (row (sel (rrE lt z r) (rrR lt z r (sLast lt z + 1)) r))))] ++ [(am 2, .inl (G.2 0, 54, .inl (row rm)))] ++ [(am 3, .inl (G.2 0, 54, .inl (row r2)))] ++ [(am 4, .inl (G.2 0, 54, .inl (row r)))]) H := by rw [hE]; simp only [sel_0 rfl]; exact hP
                        have hD : va_D A (wM G am ho rn 0 ((nb8, nI (sPos lt z j)).2) sd lt ro rf ((nb8, nI (sPos lt z j)).1) ++ [(am 1, .inl (G.2 0, 54, .inl (row (sel (rrE lt z r) (rrR lt z r (sLast lt z + 1)) r))))] ++ [(am 2, .inl (G.2 0, 54, .inl (row rm)))] ++ [(am 3, .inl (G.2 0, 54, .inl (row r2)))] ++ [(am 4, .inl (G.2 0, 54, .inl (row r)))]) := by rw [hE]; simp only [sel_0 rfl]; exact hD
                        refine hret _ _ _ _ _ _ (nI (sLast lt z + 1)) (nb8, nI (sPos lt z j)) dX9_room_144 ?_ hP hD hS (Nat.le_of_ble_eq_true rfl) (Nat.le_of_ble_eq_true rfl)
                        rw [hE, sel_0 rfl]
                    · skip
                      have g_12 := mt (nI_leI (by omega) (by omega)).mpr c_12
                      refine lv_aload_n hx hb dX9_room_79 rfl (lv_at hl 2 rfl) ?_
                      refine va_get (D := G.1) (ci := 8) (v := .int (nI (sPos lt z j))) (C := RX9) (T := TX9) (N := 13) hx hb hts in_X9 hown hK.1 hP 0 rfl rfl 10 (by decide) (hts _ q1172) (fun _ h9 => h9) rfl dX9_room_80 ?_
                      refine lv_istore_n (lv' := [(3, .int (nI (sPos lt z j))), (1, .int (nI (sLast lt z + 1))), (2, .int (-9)), (0, .ref (am 0))]) hx hb dX9_room_83 rfl hl (by decide) rfl (fun ls hl => ?_)
                      refine lv_aload_n hx hb dX9_room_84 rfl (lv_at hl 3 rfl) ?_
                      refine x_Vi (wN := fun _ => (wM G am ho rn (nI z) (nI (sPos lt z j)) sd lt ro rf nb8 ++ [(am 1, .inl (G.2 0, 54, .inl (row (rrR lt z r j))))] ++ [(am 2, .inl (G.2 0, 54, .inl (row rm)))] ++ [(am 3, .inl (G.2 0, 54, .inl (row r2)))] ++ [(am 4, .inl (G.2 0, 54, .inl (row r)))])) ⟨C0, hK, hP, hD, hS, hA⟩ 0 rfl (ci := 8) rfl rfl ((m9_here l G am ho rn (nI z) (nI (sPos lt z j)) sd lt ro rf nb8 z (sPos lt z j) hz (by omega) )) (cwV 0 hts (lw_V q1218 q1220 qs68 q95 q1221) rfl rfl rfl (by decide +kernel) ⟨Nat.le_of_ble_eq_true rfl, Nat.le_of_ble_eq_true rfl⟩) [0, 1, 2, 3, 4] [1, 3, 5, 7, 9, 10, 12, 14, 16] rfl (fun _ => rfl) rfl rfl hl.1 rfl (Nat.le_of_ble_eq_true rfl) dX9_room_85 ⟨(Nat.le_of_ble_eq_true rfl), (Nat.le_of_ble_eq_true rfl)⟩ (fun r_14 u_14 H locs hw_14 hP hD hS => ?_)
                      have hw_14 : (hC lt z (sPos lt z j) : Int32) = r_14 := hw_14.symm
                      subst hw_14
                      refine lv_istore (lv' := [(4, .int (hC lt z (sPos lt z j))), (3, .int (nI (sPos lt z j))), (1, .int (nI (sLast lt z + 1))), (2, .int (-9)), (0, .ref (am 0))]) hx hb dX9_room_88 hl (by decide) rfl (fun ls hl => ?_)
                      refine lv_aload_n hx hb dX9_room_90 rfl (lv_at hl 4 rfl) ?_
                      refine x_Vi (wN := fun u_15 => (wM G am ho rn (nI z) (nI u_15.2) sd lt ro rf u_15.1 ++ [(am 1, .inl (G.2 0, 54, .inl (row (rrR lt z r j))))] ++ [(am 2, .inl (G.2 0, 54, .inl (row rm)))] ++ [(am 3, .inl (G.2 0, 54, .inl (row r2)))] ++ [(am 4, .inl (G.2 0, 54, .inl (row r)))])) ⟨C0, hK, hP, hD, hS, hA⟩ 0 rfl (ci := 8) rfl rfl ((m9_readsStatement l G am ho rn (nI z) (nI (sPos lt z j)) sd lt ro rf nb8 z (sPos lt z j) hz (by omega) )) (cwV 0 hts (lw_V q1214 q1216 qs67 q95 q1217) rfl rfl rfl (by decide +kernel) ⟨Nat.le_of_ble_eq_true rfl, Nat.le_of_ble_eq_true rfl⟩) [0, 1, 2, 3, 4] [1, 3, 5, 7, 9, 10, 12, 14, 16] rfl (fun _ => rfl) rfl rfl hl.1 rfl (Nat.le_of_ble_eq_true rfl) dX9_room_91 ⟨(Nat.le_of_ble_eq_true rfl), (Nat.le_of_ble_eq_true rfl)⟩ (fun r_15 u_15 H locs hw_15 hP hD hS => ?_)
                      have hP : va_P G.1 vwCl (wM G am ho rn (nI z) (nI u_15.2) sd lt ro rf u_15.1 ++ [(am 1, .inl (G.2 0, 54, .inl (row (rrR lt z r j))))] ++ [(am 2, .inl (G.2 0, 54, .inl (row rm)))] ++ [(am 3, .inl (G.2 0, 54, .inl (row r2)))] ++ [(am 4, .inl (G.2 0, 54, .inl (row r)))]) H := hP
                      have hD : va_D A (wM G am ho rn (nI z) (nI u_15.2) sd lt ro rf u_15.1 ++ [(am 1, .inl (G.2 0, 54, .inl (row (rrR lt z r j))))] ++ [(am 2, .inl (G.2 0, 54, .inl (row rm)))] ++ [(am 3, .inl (G.2 0, 54, .inl (row r2)))] ++ [(am 4, .inl (G.2 0, 54, .inl (row r)))]) := hD
                      obtain ⟨ev, e2, hnb⟩ := hw_15
                      have hs := sAll hgd (show j < (sLast lt z + 1) by omega)
                      rw [hs] at ev
                      subst ev
                      rw [e2] at hP hD
                      have hnb := hnb hs
                      have hdv := sTV hgd (show j < (sLast lt z + 1) by omega)
                      have hP : va_P G.1 vwCl (wM G am ho rn (nI z) (nI (sPos lt z (j + 1))) sd lt ro rf u_15.1 ++ [(am 1, .inl (G.2 0, 54, .inl (row (rrR lt z r j))))] ++ [(am 2, .inl (G.2 0, 54, .inl (row rm)))] ++ [(am 3, .inl (G.2 0, 54, .inl (row r2)))] ++ [(am 4, .inl (G.2 0, 54, .inl (row r)))]) H := hP
                      have hD : va_D A (wM G am ho rn (nI z) (nI (sPos lt z (j + 1))) sd lt ro rf u_15.1 ++ [(am 1, .inl (G.2 0, 54, .inl (row (rrR lt z r j))))] ++ [(am 2, .inl (G.2 0, 54, .inl (row rm)))] ++ [(am 3, .inl (G.2 0, 54, .inl (row r2)))] ++ [(am 4, .inl (G.2 0, 54, .inl (row r)))]) := hD
                      refine lv_istore (lv' := [(5, .int 1), (4, .int (hC lt z (sPos lt z j))), (3, .int (nI (sPos lt z j))), (1, .int (nI (sLast lt z + 1))), (2, .int (-9)), (0, .ref (am 0))]) hx hb dX9_room_94 hl (by decide) rfl (fun ls hl => ?_)
                      have cont_102 : ∀ (v9 : Int32) (H : Heap) (locs : List Loc) (ls : Array Slot), v9 = bI (tdOk (sT lt z (sPos lt z j)) (rrR lt z r j)) → va_P G.1 vwCl (wM G am ho rn (nI z) (nI (sPos lt z (j + 1))) sd lt ro rf u_15.1 ++ [(am 1, .inl (G.2 0, 54, .inl (row (rrR lt z r (j + 1)))))] ++ [(am 2, .inl (G.2 0, 54, .inl (row rm)))] ++ [(am 3, .inl (G.2 0, 54, .inl (row r2)))] ++ [(am 4, .inl (G.2 0, 54, .inl (row r)))]) H → va_D A (wM G am ho rn (nI z) (nI (sPos lt z (j + 1))) sd lt ro rf u_15.1 ++ [(am 1, .inl (G.2 0, 54, .inl (row (rrR lt z r (j + 1)))))] ++ [(am 2, .inl (G.2 0, 54, .inl (row rm)))] ++ [(am 3, .inl (G.2 0, 54, .inl (row r2)))] ++ [(am 4, .inl (G.2 0, 54, .inl (row r)))]) → va_S A s.heap H locs → lv_has ls 6 [(5, .int 1), (3, .int (nI (sPos lt z j))), (1, .int (nI (sLast lt z + 1))), (2, .int (-9)), (0, .ref (am 0))] → W p l e ({ frames := 6, cells := 0, slots := 0, locals := 133 } : Room) s m args below meth c H locs 0 0 Q (F0 m 102 ls [.int v9]) := by
                        intro v9 H locs ls ev9 hP hD hS hl
                        refine lv_if_eq (tgt := 108) hx hb dX9_room_102 (by decide) (fun c_16 => ?_) (fun c_16 => ?_)
                        · skip
                          have hbj : rrB lt z r j = true := by unfold rrB; rw [show tdOk (sT lt z (sPos lt z j)) (rrR lt z r j) = false from by have h9 := c_16; rw [ev9] at h9; first | exact bI_n0 h9 | exact bI_0.mp h9]; rfl
                          have hpb := sP_b (lt := lt) (j := j) hz (by omega)
                          refine lv_sipush (v := (-2000)) hx hb dX9_room_108 (by decide) ?_
                          refine lv_iload_n hx hb dX9_room_111 rfl (lv_at hl 1 rfl) ?_
                          refine x_isub hx hb dX9_room_112 (v := (-2000) - (nI (sPos lt z j))) rfl ?_
                          refine lv_istore_n (lv' := [(2, .int ((-2000) - (nI (sPos lt z j)))), (5, .int 1), (3, .int (nI (sPos lt z j))), (1, .int (nI (sLast lt z + 1))), (0, .ref (am 0))]) hx hb dX9_room_113 rfl hl (by decide) rfl (fun ls hl => ?_)
                          refine lv_aload_n hx hb dX9_room_114 rfl (lv_at hl 4 rfl) ?_
                          refine va_get (D := G.1) (ci := 8) (v := .ref (am 4)) (C := RX9) (T := TX9) (N := 13) hx hb hts in_X9 hown hK.1 hP 0 rfl rfl 3 (by decide) (hts _ q1165) (fun _ h9 => h9) rfl dX9_room_115 ?_
                          refine lv_aload_n hx hb dX9_room_118 rfl (lv_at hl 4 rfl) ?_
                          refine va_get (D := G.1) (ci := 8) (v := .ref (am 1)) (C := RX9) (T := TX9) (N := 13) hx hb hts in_X9 hown hK.1 hP 0 rfl rfl 0 (by decide) (hts _ q1162) (fun _ h9 => h9) rfl dX9_room_119 ?_
                          refine x_Sv (wN := fun _ => (wM G am ho rn (nI z) (nI (sPos lt z (j + 1))) sd lt ro rf u_15.1 ++ [(am 1, .inl (G.2 0, 54, .inl (row r)))] ++ [(am 2, .inl (G.2 0, 54, .inl (row rm)))] ++ [(am 3, .inl (G.2 0, 54, .inl (row r2)))] ++ [(am 4, .inl (G.2 0, 54, .inl (row r)))])) ⟨C0, hK, hP, hD, hS, hA⟩ ((m9_copies l G (am 4) (am 1) (row r) (row (rrR lt z r (j + 1))))) (va_cwS 2 hts (lw_S q1236 q1237 q95 q1238) rfl rfl rfl (by decide +kernel) ⟨Nat.le_of_ble_eq_true rfl, Nat.le_of_ble_eq_true rfl⟩) [8, 5] [0, 2, 4, 6, 8, 3, 12, 14, 1] rfl (fun _ => rfl) rfl rfl hl.1 rfl (Nat.le_of_ble_eq_true rfl) dX9_room_122 ⟨(Nat.le_of_ble_eq_true rfl), (Nat.le_of_ble_eq_true rfl)⟩ (fun u_17 H locs hw_17 hP hD hS => ?_)
                          have hP : va_P G.1 vwCl (wM G am ho rn (nI z) (nI (sPos lt z (j + 1))) sd lt ro rf u_15.1 ++ [(am 1, .inl (G.2 0, 54, .inl (row r)))] ++ [(am 2, .inl (G.2 0, 54, .inl (row rm)))] ++ [(am 3, .inl (G.2 0, 54, .inl (row r2)))] ++ [(am 4, .inl (G.2 0, 54, .inl (row r)))]) H := hP
                          have hD : va_D A (wM G am ho rn (nI z) (nI (sPos lt z (j + 1))) sd lt ro rf u_15.1 ++ [(am 1, .inl (G.2 0, 54, .inl (row r)))] ++ [(am 2, .inl (G.2 0, 54, .inl (row rm)))] ++ [(am 3, .inl (G.2 0, 54, .inl (row r2)))] ++ [(am 4, .inl (G.2 0, 54, .inl (row r)))]) := hD
                          refine lv_goto (tgt := 62) hx hb dX9_room_125 (by decide) ?_
                          refine lv_iload_n hx hb dX9_room_62 rfl (lv_at hl 0 rfl) ?_
                          refine lv_bipush (v := (-9)) hx hb dX9_room_63 (by decide) ?_
                          refine lv_icmp_ne (tgt := 128) hx hb dX9_room_65 (by decide) (fun c_18 => ?_) (fun c_18 => ?_)
                          · skip
                            refine lv_aload_n hx hb dX9_room_128 rfl (lv_at hl 4 rfl) ?_
                            refine lv_iconst (v := 0) hx hb dX9_room_129 (by decide) ?_
                            refine va_put (D := G.1) (ci := 8) (v := .int 0) (ty := .int) (C := RX9) (T := TX9) (N := 13) hx hb hts in_X9 tyX9 tyX9_ok nmX9 hown hK.1 hP hD hS 0 rfl rfl 8 (by decide) (hts _ q1170) (fun _ h9 => h9) rfl (by decide +kernel) rfl rfl (Nat.le_of_ble_eq_true rfl) dX9_room_130 (fun H locs hP hD hS => ?_)
                            have hP : va_P G.1 vwCl (wM G am ho rn 0 (nI (sPos lt z (j + 1))) sd lt ro rf u_15.1 ++ [(am 1, .inl (G.2 0, 54, .inl (row r)))] ++ [(am 2, .inl (G.2 0, 54, .inl (row rm)))] ++ [(am 3, .inl (G.2 0, 54, .inl (row r2)))] ++ [(am 4, .inl (G.2 0, 54, .inl (row r)))]) H := hP
                            have hD : va_D A (wM G am ho rn 0 (nI (sPos lt z (j + 1))) sd lt ro rf u_15.1 ++ [(am 1, .inl (G.2 0, 54, .inl (row r)))] ++ [(am 2, .inl (G.2 0, 54, .inl (row rm)))] ++ [(am 3, .inl (G.2 0, 54, .inl (row r2)))] ++ [(am 4, .inl (G.2 0, 54, .inl (row r)))]) := hD
                            refine lv_iload_n hx hb dX9_room_133 rfl (lv_at hl 0 rfl) ?_
                            refine lv_bipush (v := (-9)) hx hb dX9_room_134 (by decide) ?_
                            refine lv_icmp_ne (tgt := 143) hx hb dX9_room_136 (by decide) (fun c_19 => ?_) (fun c_19 => ?_)
                            · skip
                              refine lv_iload_n hx hb dX9_room_143 rfl (lv_at hl 0 rfl) ?_
                              have hE : rrE lt z r = -2000 - nI (sPos lt z j) := rrE_2 hgd (by omega) hi62_3 hbj
                              have hne : (-2000 : Int32) - nI (sPos lt z j) ≠ 0 := (m_ne0 _ hpb).2
                              have hP : va_P G.1 vwCl (wM G am ho rn 0 ((u_15.1, nI (sPos lt z (j + 1))).2) sd lt ro rf ((u_15.1, nI (sPos lt z (j + 1))).1) ++ [(am 1, .inl (G.2 0, 54, .inl (row (sel (rrE lt z r) (rrR lt z r (sLast lt z + 1)) r))))] ++ [(am 2, .inl (G.2 0, 54, .inl (row rm)))] ++ [(am 3, .inl (G.2 0, 54, .inl (row r2)))] ++ [(am 4, .inl (G.2 0, 54, .inl (row r)))]) H := by rw [hE]; simp only [sel_n hne]; exact hP
                              have hD : va_D A (wM G am ho rn 0 ((u_15.1, nI (sPos lt z (j + 1))).2) sd lt ro rf ((u_15.1, nI (sPos lt z (j + 1))).1) ++ [(am 1, .inl (G.2 0, 54, .inl (row (sel (rrE lt z r) (rrR lt z r (sLast lt z + 1)) r))))] ++ [(am 2, .inl (G.2 0, 54, .inl (row rm)))] ++ [(am 3, .inl (G.2 0, 54, .inl (row r2)))] ++ [(am 4, .inl (G.2 0, 54, .inl (row r)))]) := by rw [hE]; simp only [sel_n hne]; exact hD
                              refine hret _ _ _ _ _ _ ((-2000) - (nI (sPos lt z j))) (u_15.1, nI (sPos lt z (j + 1))) dX9_room_144 ?_ hP hD hS (Nat.le_of_ble_eq_true rfl) (Nat.le_of_ble_eq_true rfl)
                              rw [hE, sel_n hne]
                            · skip
                              exact absurd c_19 (m_ne9 _ hpb).2
                          · skip
                            exact absurd c_18 (m_ne9 _ hpb).2
                        · skip
                          have hbj : rrB lt z r j = false := by unfold rrB; rw [show tdOk (sT lt z (sPos lt z j)) (rrR lt z r j) = true from by have h9 := c_16; rw [ev9] at h9; first | exact bI_n0 h9 | exact bI_0.mp h9]; rfl
                          refine lv_goto (tgt := 62) hx hb dX9_room_105 (by decide) ?_
                          exact ih_62 (j + 1) _ (by omega) (by omega) hgd (fun q hq => if e : q = j then e ▸ hbj else hi62_3 q (by omega)) _ _ _ hP hD hS (lv_sub hl [2, 3, 4] rfl)
                      rcases of_decide_eq_true (sLt_ok hs) with ec | ec | ec | ec | ec | ec
                      · skip
                        have eT := sT_t ec
                        rw [eT] at hnb hdv
                        rw [ec] at hl
                        refine lv_aload_n hx hb dX9_room_96 rfl (lv_at hl 5 rfl) ?_
                        refine lv_iload hx hb dX9_room_97 (lv_at hl 1 rfl) ?_
                        refine x_Vi (wN := fun _ => (wM G am ho rn (nI z) (nI (sPos lt z (j + 1))) sd lt ro rf u_15.1 ++ [(am 1, .inl (G.2 0, 54, .inl (row (tdN (12, dV (hC lt z (sPos lt z j + 2)), kV (hC lt z (sPos lt z j + 1)), 0) (rrR lt z r j)))))] ++ [(am 2, .inl (G.2 0, 54, .inl (row rm)))] ++ [(am 3, .inl (G.2 0, 54, .inl (row r2)))] ++ [(am 4, .inl (G.2 0, 54, .inl (row r)))])) ⟨C0, hK, hP, hD, hS, hA⟩ 0 rfl (ci := 8) rfl rfl ((m9_isDone_t l G am (rrR lt z r j) rm r2 r ho rn (nI z) (nI (sPos lt z (j + 1))) sd lt ro rf u_15.1 (rrR_ok hr hgd j (by omega)) ((rrR_h j).trans hp) (dV (hC lt z (sPos lt z j + 2))) (kV (hC lt z (sPos lt z j + 1))) (hdv.2.2.1 (by show 12 < 17; omega)) hdv.2.2.2.1 hnb.1 hnb.2.1 hnb.2.2)) (cwV 1 hts (lw_V q1239 q1241 qs71 q95 q1242) rfl rfl rfl (by decide +kernel) ⟨Nat.le_of_ble_eq_true rfl, Nat.le_of_ble_eq_true rfl⟩) [0, 1, 2, 3, 4, 5, 6, 7, 8] [1, 3, 5, 7, 9, 11, 13, 15, 17] rfl (fun _ => rfl) rfl rfl hl.1 rfl (Nat.le_of_ble_eq_true rfl) dX9_room_99 ⟨(Nat.le_of_ble_eq_true rfl), (Nat.le_of_ble_eq_true rfl)⟩ (fun r_20 u_20 H locs hw_20 hP hD hS => ?_)
                        have hw_20 : (bI (tdOk (12, dV (hC lt z (sPos lt z j + 2)), kV (hC lt z (sPos lt z j + 1)), 0) (rrR lt z r j)) : Int32) = r_20 := hw_20.symm
                        subst hw_20
                        refine cont_102 _ H locs ls ?_ ?_ ?_ hS (lv_sub hl [0, 2, 3, 4, 5] rfl)
                        · rw [eT]
                        · show va_P G.1 vwCl (wM G am ho rn (nI z) (nI (sPos lt z (j + 1))) sd lt ro rf u_15.1 ++ [(am 1, .inl (G.2 0, 54, .inl (row (tdN (sT lt z (sPos lt z j)) (rrR lt z r j)))))] ++ [(am 2, .inl (G.2 0, 54, .inl (row rm)))] ++ [(am 3, .inl (G.2 0, 54, .inl (row r2)))] ++ [(am 4, .inl (G.2 0, 54, .inl (row r)))]) H; rw [eT]; exact hP
                        · show va_D A (wM G am ho rn (nI z) (nI (sPos lt z (j + 1))) sd lt ro rf u_15.1 ++ [(am 1, .inl (G.2 0, 54, .inl (row (tdN (sT lt z (sPos lt z j)) (rrR lt z r j)))))] ++ [(am 2, .inl (G.2 0, 54, .inl (row rm)))] ++ [(am 3, .inl (G.2 0, 54, .inl (row r2)))] ++ [(am 4, .inl (G.2 0, 54, .inl (row r)))]); rw [eT]; exact hD
                      · skip
                        have eT := sT_o ec
                        rw [eT] at hnb hdv
                        rw [ec] at hl
                        refine lv_aload_n hx hb dX9_room_96 rfl (lv_at hl 5 rfl) ?_
                        refine lv_iload hx hb dX9_room_97 (lv_at hl 1 rfl) ?_
                        refine x_Vi (wN := fun _ => (wM G am ho rn (nI z) (nI (sPos lt z (j + 1))) sd lt ro rf u_15.1 ++ [(am 1, .inl (G.2 0, 54, .inl (row (tdN (13, dV (hC lt z (sPos lt z j + 2)), kV (hC lt z (sPos lt z j + 1)), dV (hC lt z (sPos lt z j + 3))) (rrR lt z r j)))))] ++ [(am 2, .inl (G.2 0, 54, .inl (row rm)))] ++ [(am 3, .inl (G.2 0, 54, .inl (row r2)))] ++ [(am 4, .inl (G.2 0, 54, .inl (row r)))])) ⟨C0, hK, hP, hD, hS, hA⟩ 0 rfl (ci := 8) rfl rfl ((m9_isDone_o l G am (rrR lt z r j) rm r2 r ho rn (nI z) (nI (sPos lt z (j + 1))) sd lt ro rf u_15.1 (rrR_ok hr hgd j (by omega)) ((rrR_h j).trans hp) (dV (hC lt z (sPos lt z j + 2))) (kV (hC lt z (sPos lt z j + 1))) (dV (hC lt z (sPos lt z j + 3))) (hdv.2.2.1 (by show 13 < 17; omega)) hdv.2.2.2.1 hdv.2.2.2.2 hnb.1 hnb.2.1 hnb.2.2)) (cwV 1 hts (lw_V q1239 q1241 qs71 q95 q1242) rfl rfl rfl (by decide +kernel) ⟨Nat.le_of_ble_eq_true rfl, Nat.le_of_ble_eq_true rfl⟩) [0, 1, 2, 3, 4, 5, 6, 7, 8] [1, 3, 5, 7, 9, 11, 13, 15, 17] rfl (fun _ => rfl) rfl rfl hl.1 rfl (Nat.le_of_ble_eq_true rfl) dX9_room_99 ⟨(Nat.le_of_ble_eq_true rfl), (Nat.le_of_ble_eq_true rfl)⟩ (fun r_21 u_21 H locs hw_21 hP hD hS => ?_)
                        have hw_21 : (bI (tdOk (13, dV (hC lt z (sPos lt z j + 2)), kV (hC lt z (sPos lt z j + 1)), dV (hC lt z (sPos lt z j + 3))) (rrR lt z r j)) : Int32) = r_21 := hw_21.symm
                        subst hw_21
                        refine cont_102 _ H locs ls ?_ ?_ ?_ hS (lv_sub hl [0, 2, 3, 4, 5] rfl)
                        · rw [eT]
                        · show va_P G.1 vwCl (wM G am ho rn (nI z) (nI (sPos lt z (j + 1))) sd lt ro rf u_15.1 ++ [(am 1, .inl (G.2 0, 54, .inl (row (tdN (sT lt z (sPos lt z j)) (rrR lt z r j)))))] ++ [(am 2, .inl (G.2 0, 54, .inl (row rm)))] ++ [(am 3, .inl (G.2 0, 54, .inl (row r2)))] ++ [(am 4, .inl (G.2 0, 54, .inl (row r)))]) H; rw [eT]; exact hP
                        · show va_D A (wM G am ho rn (nI z) (nI (sPos lt z (j + 1))) sd lt ro rf u_15.1 ++ [(am 1, .inl (G.2 0, 54, .inl (row (tdN (sT lt z (sPos lt z j)) (rrR lt z r j)))))] ++ [(am 2, .inl (G.2 0, 54, .inl (row rm)))] ++ [(am 3, .inl (G.2 0, 54, .inl (row r2)))] ++ [(am 4, .inl (G.2 0, 54, .inl (row r)))]); rw [eT]; exact hD
                      · skip
                        have eT := sT_p ec
                        rw [eT] at hnb hdv
                        rw [ec] at hl
                        refine lv_aload_n hx hb dX9_room_96 rfl (lv_at hl 5 rfl) ?_
                        refine lv_iload hx hb dX9_room_97 (lv_at hl 1 rfl) ?_
                        refine x_Vi (wN := fun _ => (wM G am ho rn (nI z) (nI (sPos lt z (j + 1))) sd lt ro rf u_15.1 ++ [(am 1, .inl (G.2 0, 54, .inl (row (tdN (14, dV (hC lt z (sPos lt z j + 1)), 0, dV (hC lt z (sPos lt z j + 2))) (rrR lt z r j)))))] ++ [(am 2, .inl (G.2 0, 54, .inl (row rm)))] ++ [(am 3, .inl (G.2 0, 54, .inl (row r2)))] ++ [(am 4, .inl (G.2 0, 54, .inl (row r)))])) ⟨C0, hK, hP, hD, hS, hA⟩ 0 rfl (ci := 8) rfl rfl ((m9_isDone_p l G am (rrR lt z r j) rm r2 r ho rn (nI z) (nI (sPos lt z (j + 1))) sd lt ro rf u_15.1 (rrR_ok hr hgd j (by omega)) ((rrR_h j).trans hp) (dV (hC lt z (sPos lt z j + 1))) (dV (hC lt z (sPos lt z j + 2))) (hdv.2.2.1 (by show 14 < 17; omega)) hnb.1 hnb.2)) (cwV 1 hts (lw_V q1239 q1241 qs71 q95 q1242) rfl rfl rfl (by decide +kernel) ⟨Nat.le_of_ble_eq_true rfl, Nat.le_of_ble_eq_true rfl⟩) [0, 1, 2, 3, 4, 5, 6, 7, 8] [1, 3, 5, 7, 9, 11, 13, 15, 17] rfl (fun _ => rfl) rfl rfl hl.1 rfl (Nat.le_of_ble_eq_true rfl) dX9_room_99 ⟨(Nat.le_of_ble_eq_true rfl), (Nat.le_of_ble_eq_true rfl)⟩ (fun r_22 u_22 H locs hw_22 hP hD hS => ?_)
                        have hw_22 : (bI (tdOk (14, dV (hC lt z (sPos lt z j + 1)), 0, dV (hC lt z (sPos lt z j + 2))) (rrR lt z r j)) : Int32) = r_22 := hw_22.symm
                        subst hw_22
                        refine cont_102 _ H locs ls ?_ ?_ ?_ hS (lv_sub hl [0, 2, 3, 4, 5] rfl)
                        · rw [eT]
                        · show va_P G.1 vwCl (wM G am ho rn (nI z) (nI (sPos lt z (j + 1))) sd lt ro rf u_15.1 ++ [(am 1, .inl (G.2 0, 54, .inl (row (tdN (sT lt z (sPos lt z j)) (rrR lt z r j)))))] ++ [(am 2, .inl (G.2 0, 54, .inl (row rm)))] ++ [(am 3, .inl (G.2 0, 54, .inl (row r2)))] ++ [(am 4, .inl (G.2 0, 54, .inl (row r)))]) H; rw [eT]; exact hP
                        · show va_D A (wM G am ho rn (nI z) (nI (sPos lt z (j + 1))) sd lt ro rf u_15.1 ++ [(am 1, .inl (G.2 0, 54, .inl (row (tdN (sT lt z (sPos lt z j)) (rrR lt z r j)))))] ++ [(am 2, .inl (G.2 0, 54, .inl (row rm)))] ++ [(am 3, .inl (G.2 0, 54, .inl (row r2)))] ++ [(am 4, .inl (G.2 0, 54, .inl (row r)))]); rw [eT]; exact hD
                      · skip
                        have eT := sT_f ec
                        rw [eT] at hnb hdv
                        rw [ec] at hl
                        refine lv_aload_n hx hb dX9_room_96 rfl (lv_at hl 5 rfl) ?_
                        refine lv_iload hx hb dX9_room_97 (lv_at hl 1 rfl) ?_
                        refine x_Vi (wN := fun _ => (wM G am ho rn (nI z) (nI (sPos lt z (j + 1))) sd lt ro rf u_15.1 ++ [(am 1, .inl (G.2 0, 54, .inl (row (tdN (15, dV (hC lt z (sPos lt z j + 1)), 0, 0) (rrR lt z r j)))))] ++ [(am 2, .inl (G.2 0, 54, .inl (row rm)))] ++ [(am 3, .inl (G.2 0, 54, .inl (row r2)))] ++ [(am 4, .inl (G.2 0, 54, .inl (row r)))])) ⟨C0, hK, hP, hD, hS, hA⟩ 0 rfl (ci := 8) rfl rfl ((m9_isDone_f l G am (rrR lt z r j) rm r2 r ho rn (nI z) (nI (sPos lt z (j + 1))) sd lt ro rf u_15.1 (rrR_ok hr hgd j (by omega)) ((rrR_h j).trans hp) (dV (hC lt z (sPos lt z j + 1))) (hdv.2.2.1 (by show 15 < 17; omega)) hnb)) (cwV 1 hts (lw_V q1239 q1241 qs71 q95 q1242) rfl rfl rfl (by decide +kernel) ⟨Nat.le_of_ble_eq_true rfl, Nat.le_of_ble_eq_true rfl⟩) [0, 1, 2, 3, 4, 5, 6, 7, 8] [1, 3, 5, 7, 9, 11, 13, 15, 17] rfl (fun _ => rfl) rfl rfl hl.1 rfl (Nat.le_of_ble_eq_true rfl) dX9_room_99 ⟨(Nat.le_of_ble_eq_true rfl), (Nat.le_of_ble_eq_true rfl)⟩ (fun r_23 u_23 H locs hw_23 hP hD hS => ?_)
                        have hw_23 : (bI (tdOk (15, dV (hC lt z (sPos lt z j + 1)), 0, 0) (rrR lt z r j)) : Int32) = r_23 := hw_23.symm
                        subst hw_23
                        refine cont_102 _ H locs ls ?_ ?_ ?_ hS (lv_sub hl [0, 2, 3, 4, 5] rfl)
                        · rw [eT]
                        · show va_P G.1 vwCl (wM G am ho rn (nI z) (nI (sPos lt z (j + 1))) sd lt ro rf u_15.1 ++ [(am 1, .inl (G.2 0, 54, .inl (row (tdN (sT lt z (sPos lt z j)) (rrR lt z r j)))))] ++ [(am 2, .inl (G.2 0, 54, .inl (row rm)))] ++ [(am 3, .inl (G.2 0, 54, .inl (row r2)))] ++ [(am 4, .inl (G.2 0, 54, .inl (row r)))]) H; rw [eT]; exact hP
                        · show va_D A (wM G am ho rn (nI z) (nI (sPos lt z (j + 1))) sd lt ro rf u_15.1 ++ [(am 1, .inl (G.2 0, 54, .inl (row (tdN (sT lt z (sPos lt z j)) (rrR lt z r j)))))] ++ [(am 2, .inl (G.2 0, 54, .inl (row rm)))] ++ [(am 3, .inl (G.2 0, 54, .inl (row r2)))] ++ [(am 4, .inl (G.2 0, 54, .inl (row r)))]); rw [eT]; exact hD
                      · skip
                        have eT := sT_h ec
                        rw [eT] at hnb hdv
                        rw [ec] at hl
                        refine lv_aload_n hx hb dX9_room_96 rfl (lv_at hl 5 rfl) ?_
                        refine lv_iload hx hb dX9_room_97 (lv_at hl 1 rfl) ?_
                        refine x_Vi (wN := fun _ => (wM G am ho rn (nI z) (nI (sPos lt z (j + 1))) sd lt ro rf u_15.1 ++ [(am 1, .inl (G.2 0, 54, .inl (row (tdN (16, dV (hC lt z (sPos lt z j + 1)), 0, 0) (rrR lt z r j)))))] ++ [(am 2, .inl (G.2 0, 54, .inl (row rm)))] ++ [(am 3, .inl (G.2 0, 54, .inl (row r2)))] ++ [(am 4, .inl (G.2 0, 54, .inl (row r)))])) ⟨C0, hK, hP, hD, hS, hA⟩ 0 rfl (ci := 8) rfl rfl ((m9_isDone_h l G am (rrR lt z r j) rm r2 r ho rn (nI z) (nI (sPos lt z (j + 1))) sd lt ro rf u_15.1 (rrR_ok hr hgd j (by omega)) ((rrR_h j).trans hp) (dV (hC lt z (sPos lt z j + 1))) (hdv.2.2.1 (by show 16 < 17; omega)) hnb)) (cwV 1 hts (lw_V q1239 q1241 qs71 q95 q1242) rfl rfl rfl (by decide +kernel) ⟨Nat.le_of_ble_eq_true rfl, Nat.le_of_ble_eq_true rfl⟩) [0, 1, 2, 3, 4, 5, 6, 7, 8] [1, 3, 5, 7, 9, 11, 13, 15, 17] rfl (fun _ => rfl) rfl rfl hl.1 rfl (Nat.le_of_ble_eq_true rfl) dX9_room_99 ⟨(Nat.le_of_ble_eq_true rfl), (Nat.le_of_ble_eq_true rfl)⟩ (fun r_24 u_24 H locs hw_24 hP hD hS => ?_)
                        have hw_24 : (bI (tdOk (16, dV (hC lt z (sPos lt z j + 1)), 0, 0) (rrR lt z r j)) : Int32) = r_24 := hw_24.symm
                        subst hw_24
                        refine cont_102 _ H locs ls ?_ ?_ ?_ hS (lv_sub hl [0, 2, 3, 4, 5] rfl)
                        · rw [eT]
                        · show va_P G.1 vwCl (wM G am ho rn (nI z) (nI (sPos lt z (j + 1))) sd lt ro rf u_15.1 ++ [(am 1, .inl (G.2 0, 54, .inl (row (tdN (sT lt z (sPos lt z j)) (rrR lt z r j)))))] ++ [(am 2, .inl (G.2 0, 54, .inl (row rm)))] ++ [(am 3, .inl (G.2 0, 54, .inl (row r2)))] ++ [(am 4, .inl (G.2 0, 54, .inl (row r)))]) H; rw [eT]; exact hP
                        · show va_D A (wM G am ho rn (nI z) (nI (sPos lt z (j + 1))) sd lt ro rf u_15.1 ++ [(am 1, .inl (G.2 0, 54, .inl (row (tdN (sT lt z (sPos lt z j)) (rrR lt z r j)))))] ++ [(am 2, .inl (G.2 0, 54, .inl (row rm)))] ++ [(am 3, .inl (G.2 0, 54, .inl (row r2)))] ++ [(am 4, .inl (G.2 0, 54, .inl (row r)))]); rw [eT]; exact hD
                      · skip
                        have eT := sT_m ec
                        rw [eT] at hnb hdv
                        rw [ec] at hl
                        refine lv_aload_n hx hb dX9_room_96 rfl (lv_at hl 5 rfl) ?_
                        refine lv_iload hx hb dX9_room_97 (lv_at hl 1 rfl) ?_
                        refine x_Vi (wN := fun _ => (wM G am ho rn (nI z) (nI (sPos lt z (j + 1))) sd lt ro rf u_15.1 ++ [(am 1, .inl (G.2 0, 54, .inl (row (tdN (17, 10 * dV (hC lt z (sPos lt z j + 1)) + dV (hC lt z (sPos lt z j + 2)), 0, 0) (rrR lt z r j)))))] ++ [(am 2, .inl (G.2 0, 54, .inl (row rm)))] ++ [(am 3, .inl (G.2 0, 54, .inl (row r2)))] ++ [(am 4, .inl (G.2 0, 54, .inl (row r)))])) ⟨C0, hK, hP, hD, hS, hA⟩ 0 rfl (ci := 8) rfl rfl ((m9_isDone_m l G am (rrR lt z r j) rm r2 r ho rn (nI z) (nI (sPos lt z (j + 1))) sd lt ro rf u_15.1 (rrR_ok hr hgd j (by omega)) ((rrR_h j).trans hp) (10 * dV (hC lt z (sPos lt z j + 1)) + dV (hC lt z (sPos lt z j + 2))) hdv.2.1 hnb)) (cwV 1 hts (lw_V q1239 q1241 qs71 q95 q1242) rfl rfl rfl (by decide +kernel) ⟨Nat.le_of_ble_eq_true rfl, Nat.le_of_ble_eq_true rfl⟩) [0, 1, 2, 3, 4, 5, 6, 7, 8] [1, 3, 5, 7, 9, 11, 13, 15, 17] rfl (fun _ => rfl) rfl rfl hl.1 rfl (Nat.le_of_ble_eq_true rfl) dX9_room_99 ⟨(Nat.le_of_ble_eq_true rfl), (Nat.le_of_ble_eq_true rfl)⟩ (fun r_25 u_25 H locs hw_25 hP hD hS => ?_)
                        have hw_25 : (bI (tdOk (17, 10 * dV (hC lt z (sPos lt z j + 1)) + dV (hC lt z (sPos lt z j + 2)), 0, 0) (rrR lt z r j)) : Int32) = r_25 := hw_25.symm
                        subst hw_25
                        refine cont_102 _ H locs ls ?_ ?_ ?_ hS (lv_sub hl [0, 2, 3, 4, 5] rfl)
                        · rw [eT]
                        · show va_P G.1 vwCl (wM G am ho rn (nI z) (nI (sPos lt z (j + 1))) sd lt ro rf u_15.1 ++ [(am 1, .inl (G.2 0, 54, .inl (row (tdN (sT lt z (sPos lt z j)) (rrR lt z r j)))))] ++ [(am 2, .inl (G.2 0, 54, .inl (row rm)))] ++ [(am 3, .inl (G.2 0, 54, .inl (row r2)))] ++ [(am 4, .inl (G.2 0, 54, .inl (row r)))]) H; rw [eT]; exact hP
                        · show va_D A (wM G am ho rn (nI z) (nI (sPos lt z (j + 1))) sd lt ro rf u_15.1 ++ [(am 1, .inl (G.2 0, 54, .inl (row (tdN (sT lt z (sPos lt z j)) (rrR lt z r j)))))] ++ [(am 2, .inl (G.2 0, 54, .inl (row rm)))] ++ [(am 3, .inl (G.2 0, 54, .inl (row r2)))] ++ [(am 4, .inl (G.2 0, 54, .inl (row r)))]); rw [eT]; exact hD
              exact loop_62 (sLast lt z + 2) 0 _ (by omega) (by omega) hgd (fun q hq => absurd hq (Nat.not_lt_zero q)) _ _ _ hP hD hS (lv_sub hl [0, 1, 2] rfl)
        · skip
          exact absurd c_7 (by decide)
  exact loop_10 (sLast lt z + 1) 0 _ (Nat.zero_le _) (by omega) _ _ _ hP hD hS (lv_sub hl [0, 1, 2] rfl)

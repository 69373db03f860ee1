/-! a room is read (printed by tools/readroom.py) -/
set_option maxRecDepth 100000
set_option maxHeartbeats 4000000 in
set_option maxRecDepth 100000 in
theorem m_readRoom (l : Launch) (hl0 : l.stackTraces = false) (G : xG) (ad : Nat → Nat → Nat) (kd k1 k2 : Nat → Option Nat) (r r1 r2 : Rw) (ho rn ln dr : Int32) (ro lt rf th sb : Nat → Int32) (hr : Ok r) (hp : r 5 3 = 0) (hk : kOk (ad 4) kd r) (z : Nat) (hln : ln = nI z) (hz : z ≤ 96) : yCi l G yX0_readRoom cX0_readRoom 5 (some .int) ({ frames := 11, cells := 268, slots := 1898, locals := 196 } : Room) [.ref (ad 0 0)] (wX G ad ho rn ln dr ro lt rf th sb ++ wR G (ad 1) kd r ++ wR G (ad 2) k1 r1 ++ wR G (ad 3) k2 r2 ++ wK (ad 4)) (S := (Nat → Option Nat)) (SX := ((Nat → Option Nat) × Rw)) (fun v u => rrE lt z r = 0 ∧ v = nI (sLast lt z + 1) ∧ kOk (ad 4) u (rrR lt z r (sLast lt z + 1))) (fun u => (wX G ad ho rn 0 dr ro lt rf th sb ++ wR G (ad 1) u (rrR lt z r (sLast lt z + 1)) ++ wR G (ad 2) u (rrR lt z r (sLast lt z + 1)) ++ wR G (ad 3) k2 r2 ++ wK (ad 4))) (fun n _ => n = rrE lt z r ∧ rrE lt z r ≠ 0) (fun u => (wX G ad ho rn 0 dr ro lt rf th sb ++ wR G (ad 1) kd r ++ wR G (ad 2) u.1 u.2 ++ wR G (ad 3) k2 r2 ++ wK (ad 4))) := by
  refine y_openi (by decide) (Nat.le_of_ble_eq_true rfl) (fun _ _ _ => rfl) ?_
  intro p e s m args below meth c A Q ls C0 hK hZ hP hD hA hl hret hthr
  obtain ⟨hx, hb, hml, hown, hts⟩ := id C0
  have hS : va_S A s.heap s.heap [] := va_S.rf
  have hP : va_P G.1 vwCl (wX G ad ho rn ln dr ro lt rf th sb ++ wR G (ad 1) kd r ++ wR G (ad 2) k1 r1 ++ wR G (ad 3) k2 r2 ++ wK (ad 4)) s.heap := hP
  have hD : va_D A (wX G ad ho rn ln dr ro lt rf th sb ++ wR G (ad 1) kd r ++ wR G (ad 2) k1 r1 ++ wR G (ad 3) k2 r2 ++ wK (ad 4)) := hD
  have hl : lv_has ls 5 [(0, .ref (ad 0 0))] := hl
  have hr0 := hr.n
  have hN := hr.le
  have hk40 := sLast_lt (lt := lt) hz
  refine va_new (D := G.1) (ci := 10) (fs := [.int 0, .int 0, .null]) (C := RX12) (T := TX12) (N := 3) hx hb hts in_X12 tyX12 tyX12_ok hown (hts _ q362) (hts _ q363) (hts _ q101) hK.1 hP hD hS hA rfl (fun j hj => by rcases (show j = 0 ∨ j = 1 ∨ j = 2 by omega) with rfl | rfl | rfl <;> rfl) (Nat.le_of_ble_eq_true rfl) (Nat.le_of_ble_eq_true rfl) dX0_readRoom_0 (fun q_1 H hP hD hS => ?_)
  have hP : va_P G.1 vwCl (wX G ad ho rn ln dr ro lt rf th sb ++ wR G (ad 1) kd r ++ wR G (ad 2) k1 r1 ++ wR G (ad 3) k2 r2 ++ wK (ad 4) ++ [(q_1, .inr (10, [.int 0, .int 0, .null]))]) H := hP
  have hD : va_D A (wX G ad ho rn ln dr ro lt rf th sb ++ wR G (ad 1) kd r ++ wR G (ad 2) k1 r1 ++ wR G (ad 3) k2 r2 ++ wK (ad 4) ++ [(q_1, .inr (10, [.int 0, .int 0, .null]))]) := hD
  refine W.widen (k := 1) (n := 3) (Nat.le_of_ble_eq_true rfl) (Nat.le_of_ble_eq_true rfl) ?_
  refine lv_dup hx hb dX0_readRoom_3 rfl ?_
  refine lv_aload_n hx hb dX0_readRoom_4 rfl (lv_at hl 0 rfl) ?_
  refine x_INv (wN := fun _ => (wX G ad ho rn ln dr ro lt rf th sb ++ wR G (ad 1) kd r ++ wR G (ad 2) k1 r1 ++ wR G (ad 3) k2 r2 ++ wK (ad 4) ++ [(q_1, .inr (10, [.int ln, .int 0, .ref (ad 0 0)]))])) ⟨C0, hK, hP, hD, hS, hA⟩ ((m_X12_init l G ad ho rn ln dr ro lt rf th sb q_1)) ⟨va_cnB 1 hts (lw_meth q366) rfl rfl rfl (hK.2.M 14 rfl) (hts _ q101) (by decide +kernel) ⟨Nat.le_of_ble_eq_true rfl, Nat.le_of_ble_eq_true rfl⟩, rfl, hts _ q365⟩ [0, 1, 2, 3, 4, 5, 6, 31] [1, 3, 5, 7, 9, 11, 13, 14, 16, 18, 20, 22, 24, 26, 28, 30, 32, 34, 36, 38, 40, 42, 44, 46, 48, 50, 52, 54, 56, 58, 60, 15] rfl (fun _ => rfl) rfl rfl hl.1 rfl (Nat.le_of_ble_eq_true rfl) dX0_readRoom_5 ⟨(Nat.le_of_ble_eq_true rfl), (Nat.le_of_ble_eq_true rfl)⟩ (fun u_2 H locs hw_2 hP hD hS => ?_)
  have hP : va_P G.1 vwCl (wX G ad ho rn ln dr ro lt rf th sb ++ wR G (ad 1) kd r ++ wR G (ad 2) k1 r1 ++ wR G (ad 3) k2 r2 ++ wK (ad 4) ++ [(q_1, .inr (10, [.int ln, .int 0, .ref (ad 0 0)]))]) H := hP
  have hD : va_D A (wX G ad ho rn ln dr ro lt rf th sb ++ wR G (ad 1) kd r ++ wR G (ad 2) k1 r1 ++ wR G (ad 3) k2 r2 ++ wK (ad 4) ++ [(q_1, .inr (10, [.int ln, .int 0, .ref (ad 0 0)]))]) := hD
  have hP : va_P G.1 vwCl (wX G ad ho rn (nI z) dr ro lt rf th sb ++ wR G (ad 1) kd r ++ wR G (ad 2) k1 r1 ++ wR G (ad 3) k2 r2 ++ wK (ad 4) ++ [(q_1, .inr (10, [.int (nI z), .int (nI 0), .ref (ad 0 0)]))]) H := by rw [hln] at hP; exact hP
  have hD : va_D A (wX G ad ho rn (nI z) dr ro lt rf th sb ++ wR G (ad 1) kd r ++ wR G (ad 2) k1 r1 ++ wR G (ad 3) k2 r2 ++ wK (ad 4) ++ [(q_1, .inr (10, [.int (nI z), .int (nI 0), .ref (ad 0 0)]))]) := by rw [hln] at hD; exact hD
  refine lv_astore_n (lv' := [(1, .ref q_1), (0, .ref (ad 0 0))]) hx hb dX0_readRoom_8 rfl hl (by decide) rfl (fun ls hl => ?_)
  refine lv_aload_n hx hb dX0_readRoom_9 rfl (lv_at hl 1 rfl) ?_
  refine lv_iconst (v := 0) hx hb dX0_readRoom_10 (by decide) ?_
  refine va_put (D := G.1) (ci := 0) (v := .int 0) (ty := .int) (C := RX0) (T := TX0) (N := 13) hx hb hts in_X0 tyX0 tyX0_ok nmX0 hown hK.1 hP hD hS 0 rfl rfl 8 (by decide) (hts _ q231) (fun _ h9 => h9) rfl (by decide +kernel) rfl rfl (Nat.le_of_ble_eq_true rfl) dX0_readRoom_11 (fun H locs hP hD hS => ?_)
  have hP : va_P G.1 vwCl (wX G ad ho rn 0 dr ro lt rf th sb ++ wR G (ad 1) kd r ++ wR G (ad 2) k1 r1 ++ wR G (ad 3) k2 r2 ++ wK (ad 4) ++ [(q_1, .inr (10, [.int (nI z), .int (nI 0), .ref (ad 0 0)]))]) H := hP
  have hD : va_D A (wX G ad ho rn 0 dr ro lt rf th sb ++ wR G (ad 1) kd r ++ wR G (ad 2) k1 r1 ++ wR G (ad 3) k2 r2 ++ wK (ad 4) ++ [(q_1, .inr (10, [.int (nI z), .int (nI 0), .ref (ad 0 0)]))]) := hD
  refine lv_bipush (v := 96) hx hb dX0_readRoom_14 (by decide) ?_
  refine x_newq (N' := 96) (C := RX14) hx hb hown (hts _ q380) hK.2.2.2.2.2.2 hK.1 hP hD hS hA 4 rfl (by decide) (by decide) (Nat.le_of_ble_eq_true rfl) (Nat.le_of_ble_eq_true rfl) (Nat.le_of_ble_eq_true rfl) dX0_readRoom_16 (fun q_3 H hP hD hS => ?_)
  have hP : va_P G.1 vwCl (wX G ad ho rn 0 dr ro lt rf th sb ++ wR G (ad 1) kd r ++ wR G (ad 2) k1 r1 ++ wR G (ad 3) k2 r2 ++ wK (ad 4) ++ [(q_1, .inr (10, [.int (nI z), .int (nI 0), .ref (ad 0 0)]))] ++ [(q_3, .inl (G.2 4, 96, .inr (.inr (.inr (.inr (fun _ => none))))))]) H := hP
  have hD : va_D A (wX G ad ho rn 0 dr ro lt rf th sb ++ wR G (ad 1) kd r ++ wR G (ad 2) k1 r1 ++ wR G (ad 3) k2 r2 ++ wK (ad 4) ++ [(q_1, .inr (10, [.int (nI z), .int (nI 0), .ref (ad 0 0)]))] ++ [(q_3, .inl (G.2 4, 96, .inr (.inr (.inr (.inr (fun _ => none))))))]) := hD
  refine W.widen (k := 2) (n := 99) (Nat.le_of_ble_eq_true rfl) (Nat.le_of_ble_eq_true rfl) ?_
  refine lv_astore_n (lv' := [(2, .ref q_3), (1, .ref q_1), (0, .ref (ad 0 0))]) hx hb dX0_readRoom_19 rfl hl (by decide) rfl (fun ls hl => ?_)
  refine lv_iconst (v := 0) hx hb dX0_readRoom_20 (by decide) ?_
  refine lv_istore_n (lv' := [(3, .int 0), (2, .ref q_3), (1, .ref q_1), (0, .ref (ad 0 0))]) hx hb dX0_readRoom_21 rfl hl (by decide) rfl (fun ls hl => ?_)
  have loop_22 : ∀ (n : Nat) (i : Nat) (tl : va_W) (f : Nat → Option Nat), (i ≤ sLast lt z) → (sLast lt z < i + n) → (TL lt z (ad 4) i tl f) → ∀ (H : Heap) (locs : List Loc) (ls : Array Slot), va_P G.1 vwCl (wX G ad ho rn 0 dr ro lt rf th sb ++ wR G (ad 1) kd r ++ wR G (ad 2) k1 r1 ++ wR G (ad 3) k2 r2 ++ wK (ad 4) ++ [(q_1, .inr (10, [.int (nI z), .int (nI (sPos lt z i)), .ref (ad 0 0)]))] ++ [(q_3, .inl (G.2 4, 96, .inr (.inr (.inr (.inr f)))))] ++ tl) H → va_D A (wX G ad ho rn 0 dr ro lt rf th sb ++ wR G (ad 1) kd r ++ wR G (ad 2) k1 r1 ++ wR G (ad 3) k2 r2 ++ wK (ad 4) ++ [(q_1, .inr (10, [.int (nI z), .int (nI (sPos lt z i)), .ref (ad 0 0)]))] ++ [(q_3, .inl (G.2 4, 96, .inr (.inr (.inr (.inr f)))))] ++ tl) → va_S A s.heap H locs → lv_has ls 5 [(3, .int (nI i)), (2, .ref q_3), (1, .ref q_1), (0, .ref (ad 0 0))] → W p l e ({ frames := 11, cells := 268, slots := 1898, locals := 196 } : Room) s m args below meth c H locs (2 + 6 * i) (99 + 39 * i) Q (F0 m 22 ls []) := by
    intro n
    induction n with
    | zero => intro i tl f hi22_0 hi22_1 hi22_2; exact absurd hi22_1 (by omega)
    | succ n ih_22 =>
      intro i tl f hi22_0 hi22_1 hi22_2 H locs ls hP hD hS hl
      have hpi := sPos_le (lt := lt) (z := z) i hi22_0
      refine lv_aload_n hx hb dX0_readRoom_22 rfl (lv_at hl 1 rfl) ?_
      refine lv_iload_n hx hb dX0_readRoom_23 rfl (lv_at hl 0 rfl) ?_
      refine lv_aload_n hx hb dX0_readRoom_24 rfl (lv_at hl 2 rfl) ?_
      refine y_Vr (wN := fun u_4 => (wX G ad ho rn 0 dr ro lt rf th sb ++ wR G (ad 1) kd r ++ wR G (ad 2) k1 r1 ++ wR G (ad 3) k2 r2 ++ wK (ad 4) ++ [(q_1, .inr (10, [.int (nI z), .int (nI ((sR lt z (sPos lt z i)).2)), .ref (ad 0 0)]))] ++ [(q_3, .inl (G.2 4, 96, .inr (.inr (.inr (.inr f)))))] ++ [(u_4, tdE (ad 4) (sPos lt z i) (sT lt z (sPos lt z i)))] ++ tl)) (wNx := fun u9 => (wX G ad ho rn 0 dr ro lt rf th sb ++ wR G (ad 1) kd r ++ wR G (ad 2) k1 r1 ++ wR G (ad 3) k2 r2 ++ wK (ad 4) ++ [(q_1, .inr (10, [.int (nI z), .int u9, .ref (ad 0 0)]))] ++ [(q_3, .inl (G.2 4, 96, .inr (.inr (.inr (.inr f)))))] ++ tl)) ⟨C0, hK, hP, hD, hS, hA⟩ hZ 31 rfl (ci := 10) rfl rfl ((m_statement l hl0 G ad ho rn 0 dr ro lt rf th sb q_1 z (sPos lt z i) hz (by omega) )) (cwV 0 hts (lw_V q382 q383 q384 q101 q385) rfl rfl rfl (by decide +kernel) ⟨Nat.le_of_ble_eq_true rfl, Nat.le_of_ble_eq_true rfl⟩) [0, 1, 2, 3, 4, 5, 6, 31] ([1, 3, 5, 7, 9, 11, 13, 14, 16, 18, 20, 22, 24, 26, 28, 30, 32, 34, 36, 38, 40, 42, 44, 46, 48, 50, 52, 54, 56, 58, 60, 15, 64, 17] ++ tlp 33 (List.length tl)) ([1, 3, 5, 7, 9, 11, 13, 14, 16, 18, 20, 22, 24, 26, 28, 30, 32, 34, 36, 38, 40, 42, 44, 46, 48, 50, 52, 54, 56, 58, 60, 15, 64] ++ tlp 33 (List.length tl) ++ [17]) rfl (fun _ => tl_N rfl) (fun _ _ _ => tl_Nx rfl rfl) (tl_ok rfl rfl rfl) (tl_okx rfl rfl rfl rfl) rfl hl.1 rfl (Nat.le_of_ble_eq_true rfl) dX0_readRoom_25 ⟨(show 2 + 6 * i + 6 ≤ 268 by omega), (show 99 + 39 * i + 39 ≤ 1898 by omega)⟩ (fun q9 u9 ee H locs hw_4 hP hD hS => ?_) (fun u_4 H locs hw_4 hP hD hS => ?_)
      · skip
        obtain ⟨h8, h9⟩ := hw_4
        have ei := sLast_x hi22_0 h8
        have hP := x_subP (w' := (wX G ad ho rn 0 dr ro lt rf th sb ++ wR G (ad 1) kd r ++ wR G (ad 2) k1 r1 ++ wR G (ad 3) k2 r2 ++ wK (ad 4)) ++ [yEc q9 ee]) (List.Sublist.append (((List.sublist_append_left _ _).trans (List.sublist_append_left _ _)).trans (List.sublist_append_left _ _)) (List.Sublist.refl _)) hP
        have hD := x_subD (w' := (wX G ad ho rn 0 dr ro lt rf th sb ++ wR G (ad 1) kd r ++ wR G (ad 2) k1 r1 ++ wR G (ad 3) k2 r2 ++ wK (ad 4)) ++ [yEc q9 ee]) (List.Sublist.append (((List.sublist_append_left _ _).trans (List.sublist_append_left _ _)).trans (List.sublist_append_left _ _)) (List.Sublist.refl _)) hD
        have hgf : sGood lt z = false := by unfold sGood; rw [← ei]; exact h8
        have e9 : ee.2.1 = rrE lt z r := by rw [rrE_1 hgf, ← ei]; exact h9
        refine hthr _ _ _ _ _ _ _ q9 (k1, r1) ee ⟨e9, by rw [rrE_1 hgf]; exact (m_ne0 _ (sPos_b hz)).1⟩ hP hD hS (show 2 + 6 * i + 6 ≤ 268 by omega) (show 99 + 39 * i + 39 ≤ 1898 by omega)
      · skip
        have hP : va_P G.1 vwCl (wX G ad ho rn 0 dr ro lt rf th sb ++ wR G (ad 1) kd r ++ wR G (ad 2) k1 r1 ++ wR G (ad 3) k2 r2 ++ wK (ad 4) ++ [(q_1, .inr (10, [.int (nI z), .int (nI ((sR lt z (sPos lt z i)).2)), .ref (ad 0 0)]))] ++ [(q_3, .inl (G.2 4, 96, .inr (.inr (.inr (.inr f)))))] ++ [(u_4, tdE (ad 4) (sPos lt z i) (sT lt z (sPos lt z i)))] ++ tl) H := hP
        have hD : va_D A (wX G ad ho rn 0 dr ro lt rf th sb ++ wR G (ad 1) kd r ++ wR G (ad 2) k1 r1 ++ wR G (ad 3) k2 r2 ++ wK (ad 4) ++ [(q_1, .inr (10, [.int (nI z), .int (nI ((sR lt z (sPos lt z i)).2)), .ref (ad 0 0)]))] ++ [(q_3, .inl (G.2 4, 96, .inr (.inr (.inr (.inr f)))))] ++ [(u_4, tdE (ad 4) (sPos lt z i) (sT lt z (sPos lt z i)))] ++ tl) := hD
        refine W.widen (k := (2 + 6 * i + 6)) (n := (99 + 39 * i + 39)) (Nat.le_refl _) (Nat.le_refl _) ?_
        have hsr : (sR lt z (sPos lt z i)).1 = true := hw_4
        have hdv := (sR_ok hsr).2.2
        have hpn := (sR_ok hsr).2.1
        refine x_aastn (k := i) hx hb hK.1 hP hD hS 32 4 rfl rfl (tdAny hK hP hdv (i := 33) rfl) (by omega) (by decide) dX0_readRoom_28 (fun H locs hP hD hS => ?_)
        have hP : va_P G.1 vwCl (wX G ad ho rn 0 dr ro lt rf th sb ++ wR G (ad 1) kd r ++ wR G (ad 2) k1 r1 ++ wR G (ad 3) k2 r2 ++ wK (ad 4) ++ [(q_1, .inr (10, [.int (nI z), .int (nI ((sR lt z (sPos lt z i)).2)), .ref (ad 0 0)]))] ++ [(q_3, .inl (G.2 4, 96, .inr (.inr (.inr (.inr (va_up f i (some u_4)))))))] ++ [(u_4, tdE (ad 4) (sPos lt z i) (sT lt z (sPos lt z i)))] ++ tl) H := hP
        have hD : va_D A (wX G ad ho rn 0 dr ro lt rf th sb ++ wR G (ad 1) kd r ++ wR G (ad 2) k1 r1 ++ wR G (ad 3) k2 r2 ++ wK (ad 4) ++ [(q_1, .inr (10, [.int (nI z), .int (nI ((sR lt z (sPos lt z i)).2)), .ref (ad 0 0)]))] ++ [(q_3, .inl (G.2 4, 96, .inr (.inr (.inr (.inr (va_up f i (some u_4)))))))] ++ [(u_4, tdE (ad 4) (sPos lt z i) (sT lt z (sPos lt z i)))] ++ tl) := hD
        refine lv_iinc (v := nI (i + 1)) (lv' := [(3, .int (nI (i + 1))), (2, .ref q_3), (1, .ref q_1), (0, .ref (ad 0 0))]) hx hb dX0_readRoom_29 hl (k := 0) rfl (x_inc1 _) (by decide) rfl (fun ls hl => ?_)
        refine lv_aload_n hx hb dX0_readRoom_32 rfl (lv_at hl 2 rfl) ?_
        refine va_getN (D := G.1) (ci := 10) (v := .int (nI ((sR lt z (sPos lt z i)).2))) (C := RX12) (T := TX12) (N := 3) hx hb hts in_X12 hown hK.1 hP 31 rfl rfl 1 (by decide) (va_Nw.use rfl (hK.2.F 21 rfl)) (fun _ h9 => h9) rfl dX0_readRoom_33 ?_
        refine lv_aload_n hx hb dX0_readRoom_36 rfl (lv_at hl 2 rfl) ?_
        refine va_getN (D := G.1) (ci := 10) (v := .int (nI z)) (C := RX12) (T := TX12) (N := 3) hx hb hts in_X12 hown hK.1 hP 31 rfl rfl 0 (by decide) (va_Nw.use rfl (hK.2.F 20 rfl)) (fun _ h9 => h9) rfl dX0_readRoom_37 ?_
        refine lv_icmp_lt (tgt := 22) hx hb dX0_readRoom_40 (by decide) (fun c_5 => ?_) (fun c_5 => ?_)
        · skip
          have g_5 := (nI_ltI (by omega) (by omega)).mp c_5
          have hgl : sPos lt z (i + 1) < z := g_5
          rw [tl_cons] at hP hD
          refine W.widen (k := 2 + 6 * (i + 1)) (n := 99 + 39 * (i + 1)) (by omega) (by omega) ?_
          exact ih_22 (i + 1) _ _ (sLast_s hz hi22_0 hsr hgl) (by have := sLast_s hz hi22_0 hsr hgl; omega) (TL_s hi22_2) _ _ _ hP hD hS (lv_sub hl [0, 1, 2, 3] rfl)
        · skip
          have g_5 := mt (nI_ltI (by omega) (by omega)).mpr c_5
          have ei := sLast_b hi22_0 (show ¬ sPos lt z (i + 1) < z from g_5)
          have hgd : sGood lt z = true := by unfold sGood; rw [← ei]; exact hsr
          have hTL := TL_s (x := u_4) hi22_2
          rw [tl_cons] at hP hD
          generalize htl : ((u_4, tdE (ad 4) (sPos lt z i) (sT lt z (sPos lt z i))) :: tl) = t9 at hP hD hTL
          generalize hff : va_up f i (some u_4) = f9 at hP hD hTL
          have hTL : TL lt z (ad 4) (sLast lt z + 1) t9 f9 := by rw [← ei]; exact hTL
          have hk9 := sLast_lt (lt := lt) hz
          rw [show nI (i + 1) = nI (sLast lt z + 1) by rw [← ei]] at hl
          refine W.widen (k := 242) (n := 1659) (by omega) (by omega) ?_
          have hP : va_P G.1 vwCl (wX G ad ho rn 0 dr ro lt rf th sb ++ wR G (ad 1) kd r ++ wR G (ad 2) k1 r1 ++ wR G (ad 3) k2 r2 ++ wK (ad 4) ++ [(q_1, .inr (10, [.int (nI z), .int (nI ((sR lt z (sPos lt z i)).2)), .ref (ad 0 0)]))] ++ [(q_3, .inl (G.2 4, 96, .inr (.inr (.inr (.inr f9)))))] ++ t9) H := hP
          have hD : va_D A (wX G ad ho rn 0 dr ro lt rf th sb ++ wR G (ad 1) kd r ++ wR G (ad 2) k1 r1 ++ wR G (ad 3) k2 r2 ++ wK (ad 4) ++ [(q_1, .inr (10, [.int (nI z), .int (nI ((sR lt z (sPos lt z i)).2)), .ref (ad 0 0)]))] ++ [(q_3, .inl (G.2 4, 96, .inr (.inr (.inr (.inr f9)))))] ++ t9) := hD
          refine lv_aload_n hx hb dX0_readRoom_43 rfl (lv_at hl 3 rfl) ?_
          refine va_get (D := G.1) (ci := 0) (v := .ref ((ad 2) 0)) (C := RX0) (T := TX0) (N := 13) hx hb hts in_X0 hown hK.1 hP 0 rfl rfl 2 (by decide) (hts _ q223) (fun _ h9 => h9) rfl dX0_readRoom_44 ?_
          refine lv_aload_n hx hb dX0_readRoom_47 rfl (lv_at hl 3 rfl) ?_
          refine va_get (D := G.1) (ci := 0) (v := .ref ((ad 1) 0)) (C := RX0) (T := TX0) (N := 13) hx hb hts in_X0 hown hK.1 hP 0 rfl rfl 1 (by decide) (hts _ q222) (fun _ h9 => h9) rfl dX0_readRoom_48 ?_
          refine x_Vr (wN := fun _ => (wX G ad ho rn 0 dr ro lt rf th sb ++ wR G (ad 1) kd r ++ wR G (ad 2) kd r ++ wR G (ad 3) k2 r2 ++ wK (ad 4) ++ [(q_1, .inr (10, [.int (nI z), .int (nI ((sR lt z (sPos lt z i)).2)), .ref (ad 0 0)]))] ++ [(q_3, .inl (G.2 4, 96, .inr (.inr (.inr (.inr f9)))))] ++ t9)) ⟨C0, hK, hP, hD, hS, hA⟩ 13 rfl (ci := 7) rfl rfl ((m_set l G (ad 2) (ad 1) (ad 4) k1 kd r1 r hr hk hp)) (cwV 1 hts (lw_V q523 q524 q525 q94 q526) rfl rfl rfl (by decide +kernel) ⟨Nat.le_of_ble_eq_true rfl, Nat.le_of_ble_eq_true rfl⟩) [13, 14, 15, 16, 17, 18, 7, 8, 9, 10, 11, 12, 25, 26, 27, 28, 29, 30] ([0, 2, 4, 6, 8, 10, 12, 13, 15, 17, 19, 21, 23, 1, 3, 5, 7, 9, 11, 38, 40, 42, 44, 46, 48, 25, 27, 29, 31, 33, 35, 62, 64] ++ tlp 33 (List.length t9)) rfl (fun _ => tl_N rfl) (tl_ok rfl rfl rfl) rfl hl.1 rfl (Nat.le_of_ble_eq_true rfl) dX0_readRoom_51 ⟨(Nat.le_of_ble_eq_true rfl), (Nat.le_of_ble_eq_true rfl)⟩ (fun u_6 H locs hw_6 hP hD hS => ?_)
          have hP : va_P G.1 vwCl (wX G ad ho rn 0 dr ro lt rf th sb ++ wR G (ad 1) kd r ++ wR G (ad 2) kd r ++ wR G (ad 3) k2 r2 ++ wK (ad 4) ++ [(q_1, .inr (10, [.int (nI z), .int (nI ((sR lt z (sPos lt z i)).2)), .ref (ad 0 0)]))] ++ [(q_3, .inl (G.2 4, 96, .inr (.inr (.inr (.inr f9)))))] ++ t9) H := hP
          have hD : va_D A (wX G ad ho rn 0 dr ro lt rf th sb ++ wR G (ad 1) kd r ++ wR G (ad 2) kd r ++ wR G (ad 3) k2 r2 ++ wK (ad 4) ++ [(q_1, .inr (10, [.int (nI z), .int (nI ((sR lt z (sPos lt z i)).2)), .ref (ad 0 0)]))] ++ [(q_3, .inl (G.2 4, 96, .inr (.inr (.inr (.inr f9)))))] ++ t9) := hD
          refine lv_pop hx hb dX0_readRoom_54 rfl ?_
          refine lv_iconst (v := 0) hx hb dX0_readRoom_55 (by decide) ?_
          refine lv_istore (lv' := [(4, .int 0), (3, .int (nI (sLast lt z + 1))), (2, .ref q_3), (1, .ref q_1), (0, .ref (ad 0 0))]) hx hb dX0_readRoom_56 hl (by decide) rfl (fun ls hl => ?_)
          have loop_58 : ∀ (n : Nat) (j : Nat) (km : Nat → Option Nat), (j ≤ sLast lt z + 1) → (sLast lt z + 1 < j + n) → (kOk (ad 4) km (rrR lt z r j)) → (∀ q, q < j → rrB lt z r q = false) → ∀ (H : Heap) (locs : List Loc) (ls : Array Slot), va_P G.1 vwCl (wX G ad ho rn 0 dr ro lt rf th sb ++ wR G (ad 1) kd r ++ wR G (ad 2) km (rrR lt z r j) ++ wR G (ad 3) k2 r2 ++ wK (ad 4) ++ [(q_1, .inr (10, [.int (nI z), .int (nI ((sR lt z (sPos lt z i)).2)), .ref (ad 0 0)]))] ++ [(q_3, .inl (G.2 4, 96, .inr (.inr (.inr (.inr f9)))))] ++ t9) H → va_D A (wX G ad ho rn 0 dr ro lt rf th sb ++ wR G (ad 1) kd r ++ wR G (ad 2) km (rrR lt z r j) ++ wR G (ad 3) k2 r2 ++ wK (ad 4) ++ [(q_1, .inr (10, [.int (nI z), .int (nI ((sR lt z (sPos lt z i)).2)), .ref (ad 0 0)]))] ++ [(q_3, .inl (G.2 4, 96, .inr (.inr (.inr (.inr f9)))))] ++ t9) → va_S A s.heap H locs → lv_has ls 5 [(4, .int (nI j)), (3, .int (nI (sLast lt z + 1))), (2, .ref q_3), (1, .ref q_1), (0, .ref (ad 0 0))] → W p l e ({ frames := 11, cells := 268, slots := 1898, locals := 196 } : Room) s m args below meth c H locs 242 1659 Q (F0 m 58 ls []) := by
            intro n
            induction n with
            | zero => intro j km hi58_0 hi58_1 hi58_2 hi58_3; exact absurd hi58_1 (by omega)
            | succ n ih_58 =>
              intro j km hi58_0 hi58_1 hi58_2 hi58_3 H locs ls hP hD hS hl
              refine lv_iload hx hb dX0_readRoom_58 (lv_at hl 0 rfl) ?_
              refine lv_iload_n hx hb dX0_readRoom_60 rfl (lv_at hl 1 rfl) ?_
              refine lv_icmp_ge (tgt := 103) hx hb dX0_readRoom_61 (by decide) (fun c_7 => ?_) (fun c_7 => ?_)
              · skip
                have g_7 := (nI_leI (by omega) (by omega)).mp c_7
                refine lv_aload_n hx hb dX0_readRoom_103 rfl (lv_at hl 4 rfl) ?_
                refine va_get (D := G.1) (ci := 0) (v := .ref ((ad 1) 0)) (C := RX0) (T := TX0) (N := 13) hx hb hts in_X0 hown hK.1 hP 0 rfl rfl 1 (by decide) (hts _ q222) (fun _ h9 => h9) rfl dX0_readRoom_104 ?_
                refine lv_aload_n hx hb dX0_readRoom_107 rfl (lv_at hl 4 rfl) ?_
                refine va_get (D := G.1) (ci := 0) (v := .ref ((ad 2) 0)) (C := RX0) (T := TX0) (N := 13) hx hb hts in_X0 hown hK.1 hP 0 rfl rfl 2 (by decide) (hts _ q223) (fun _ h9 => h9) rfl dX0_readRoom_108 ?_
                refine x_Vr (wN := fun _ => (wX G ad ho rn 0 dr ro lt rf th sb ++ wR G (ad 1) km (rrR lt z r j) ++ wR G (ad 2) km (rrR lt z r j) ++ wR G (ad 3) k2 r2 ++ wK (ad 4) ++ [(q_1, .inr (10, [.int (nI z), .int (nI ((sR lt z (sPos lt z i)).2)), .ref (ad 0 0)]))] ++ [(q_3, .inl (G.2 4, 96, .inr (.inr (.inr (.inr f9)))))] ++ t9)) ⟨C0, hK, hP, hD, hS, hA⟩ 7 rfl (ci := 7) rfl rfl ((m_set l G (ad 1) (ad 2) (ad 4) kd km r (rrR lt z r j) (rrR_ok hr hgd j (by omega)) hi58_2 ((rrR_h j).trans hp))) (cwV 1 hts (lw_V q523 q524 q525 q94 q526) rfl rfl rfl (by decide +kernel) ⟨Nat.le_of_ble_eq_true rfl, Nat.le_of_ble_eq_true rfl⟩) [7, 8, 9, 10, 11, 12, 13, 14, 15, 16, 17, 18, 25, 26, 27, 28, 29, 30] ([0, 2, 4, 6, 8, 10, 12, 1, 3, 5, 7, 9, 11, 13, 15, 17, 19, 21, 23, 38, 40, 42, 44, 46, 48, 25, 27, 29, 31, 33, 35, 62, 64] ++ tlp 33 (List.length t9)) rfl (fun _ => tl_N rfl) (tl_ok rfl rfl rfl) rfl hl.1 rfl (Nat.le_of_ble_eq_true rfl) dX0_readRoom_111 ⟨(Nat.le_of_ble_eq_true rfl), (Nat.le_of_ble_eq_true rfl)⟩ (fun u_8 H locs hw_8 hP hD hS => ?_)
                have hP : va_P G.1 vwCl (wX G ad ho rn 0 dr ro lt rf th sb ++ wR G (ad 1) km (rrR lt z r j) ++ wR G (ad 2) km (rrR lt z r j) ++ wR G (ad 3) k2 r2 ++ wK (ad 4) ++ [(q_1, .inr (10, [.int (nI z), .int (nI ((sR lt z (sPos lt z i)).2)), .ref (ad 0 0)]))] ++ [(q_3, .inl (G.2 4, 96, .inr (.inr (.inr (.inr f9)))))] ++ t9) H := hP
                have hD : va_D A (wX G ad ho rn 0 dr ro lt rf th sb ++ wR G (ad 1) km (rrR lt z r j) ++ wR G (ad 2) km (rrR lt z r j) ++ wR G (ad 3) k2 r2 ++ wK (ad 4) ++ [(q_1, .inr (10, [.int (nI z), .int (nI ((sR lt z (sPos lt z i)).2)), .ref (ad 0 0)]))] ++ [(q_3, .inl (G.2 4, 96, .inr (.inr (.inr (.inr f9)))))] ++ t9) := hD
                refine lv_pop hx hb dX0_readRoom_114 rfl ?_
                refine lv_iload_n hx hb dX0_readRoom_115 rfl (lv_at hl 1 rfl) ?_
                have ejj : j = sLast lt z + 1 := by omega
                subst ejj
                have hP := x_subP (w' := (wX G ad ho rn 0 dr ro lt rf th sb ++ wR G (ad 1) km (rrR lt z r (sLast lt z + 1)) ++ wR G (ad 2) km (rrR lt z r (sLast lt z + 1)) ++ wR G (ad 3) k2 r2 ++ wK (ad 4))) (((List.sublist_append_left _ _).trans (List.sublist_append_left _ _)).trans (List.sublist_append_left _ _)) hP
                have hD := x_subD (w' := (wX G ad ho rn 0 dr ro lt rf th sb ++ wR G (ad 1) km (rrR lt z r (sLast lt z + 1)) ++ wR G (ad 2) km (rrR lt z r (sLast lt z + 1)) ++ wR G (ad 3) k2 r2 ++ wK (ad 4))) (((List.sublist_append_left _ _).trans (List.sublist_append_left _ _)).trans (List.sublist_append_left _ _)) hD
                refine hret _ _ _ _ _ _ (nI (sLast lt z + 1)) km dX0_readRoom_116 ?_ hP hD hS (Nat.le_of_ble_eq_true rfl) (Nat.le_of_ble_eq_true rfl)
                exact ⟨rrE_0 hgd (fun q hq => hi58_3 q hq), rfl, hi58_2⟩
              · skip
                have g_7 := mt (nI_leI (by omega) (by omega)).mpr c_7
                refine lv_aload_n hx hb dX0_readRoom_64 rfl (lv_at hl 2 rfl) ?_
                refine lv_iload hx hb dX0_readRoom_65 (lv_at hl 0 rfl) ?_
                obtain ⟨x, hx1, hx2⟩ := hTL.2 j (by omega)
                refine x_aald hx hb hK.1 hP 32 4 rfl rfl (vp_in_nI (by omega) (by decide)) (x := x) (by rw [nI_clamp (by omega)]; exact hx2) dX0_readRoom_67 ?_
                refine lv_aload_n hx hb dX0_readRoom_68 rfl (lv_at hl 4 rfl) ?_
                refine va_get (D := G.1) (ci := 0) (v := .ref ((ad 2) 0)) (C := RX0) (T := TX0) (N := 13) hx hb hts in_X0 hown hK.1 hP 0 rfl rfl 2 (by decide) (hts _ q223) (fun _ h9 => h9) rfl dX0_readRoom_69 ?_
                have cont_75 : ∀ (v9 : Int32) (kn : Nat → Option Nat) (H : Heap) (locs : List Loc), v9 = bI (tdOk (sT lt z (sPos lt z j)) (rrR lt z r j)) → kOk (ad 4) kn (rrR lt z r (j + 1)) → va_P G.1 vwCl (wX G ad ho rn 0 dr ro lt rf th sb ++ wR G (ad 1) kd r ++ wR G (ad 2) kn (rrR lt z r (j + 1)) ++ wR G (ad 3) k2 r2 ++ wK (ad 4) ++ [(q_1, .inr (10, [.int (nI z), .int (nI ((sR lt z (sPos lt z i)).2)), .ref (ad 0 0)]))] ++ [(q_3, .inl (G.2 4, 96, .inr (.inr (.inr (.inr f9)))))] ++ t9) H → va_D A (wX G ad ho rn 0 dr ro lt rf th sb ++ wR G (ad 1) kd r ++ wR G (ad 2) kn (rrR lt z r (j + 1)) ++ wR G (ad 3) k2 r2 ++ wK (ad 4) ++ [(q_1, .inr (10, [.int (nI z), .int (nI ((sR lt z (sPos lt z i)).2)), .ref (ad 0 0)]))] ++ [(q_3, .inl (G.2 4, 96, .inr (.inr (.inr (.inr f9)))))] ++ t9) → va_S A s.heap H locs → W p l e ({ frames := 11, cells := 268, slots := 1898, locals := 196 } : Room) s m args below meth c H locs 242 1659 Q (F0 m 75 ls [.int v9]) := by
                  intro v9 kn H locs ev9 hkn hP hD hS
                  refine lv_if_ne (tgt := 97) hx hb dX0_readRoom_75 (by decide) (fun c_9 => ?_) (fun c_9 => ?_)
                  · skip
                    have hbj : rrB lt z r j = false := by unfold rrB; rw [show tdOk (sT lt z (sPos lt z j)) (rrR lt z r j) = true from by have h9 := c_9; rw [ev9] at h9; simpa [bI_0] using h9]; rfl
                    refine lv_iinc (v := nI (j + 1)) (lv' := [(4, .int (nI (j + 1))), (3, .int (nI (sLast lt z + 1))), (2, .ref q_3), (1, .ref q_1), (0, .ref (ad 0 0))]) hx hb dX0_readRoom_97 hl (k := 0) rfl (x_inc1 _) (by decide) rfl (fun ls hl => ?_)
                    refine lv_goto (tgt := 58) hx hb dX0_readRoom_100 (by decide) ?_
                    exact ih_58 (j + 1) kn (by omega) (by omega) hkn (fun q hq => if e : q = j then e ▸ hbj else hi58_3 q (by omega)) _ _ _ hP hD hS (lv_sub hl [0, 1, 2, 3, 4] rfl)
                  · skip
                    have hbj : rrB lt z r j = true := by unfold rrB; rw [show tdOk (sT lt z (sPos lt z j)) (rrR lt z r j) = false from by have h9 := c_9; rw [ev9] at h9; simpa [bI_0] using h9]; rfl
                    refine y_new_X13 ⟨C0, hK, hP, hD, hS, hA⟩ (hts _ q693) dX0_readRoom_78 (Nat.le_of_ble_eq_true rfl) (Nat.le_of_ble_eq_true rfl) (fun q_10 H hfr_10 hAq_10 hne_10 hX9 => ?_)
                    obtain ⟨-, -, hP, hD, hS, -⟩ := hX9
                    refine W.widen (k := 243) (n := 1666) (Nat.le_of_ble_eq_true rfl) (Nat.le_of_ble_eq_true rfl) ?_
                    refine lv_dup hx hb dX0_readRoom_81 rfl ?_
                    refine lv_sipush (v := (-2000)) hx hb dX0_readRoom_82 (by decide) ?_
                    refine lv_aload_n hx hb dX0_readRoom_85 rfl (lv_at hl 2 rfl) ?_
                    refine lv_iload hx hb dX0_readRoom_86 (lv_at hl 0 rfl) ?_
                    refine x_aald hx hb hK.1 hP 32 4 rfl rfl (vp_in_nI (by omega) (by decide)) (x := x) (by rw [nI_clamp (by omega)]; exact hx2) dX0_readRoom_88 ?_
                    have cont_92 : W p l e ({ frames := 11, cells := 268, slots := 1898, locals := 196 } : Room) s m args below meth c H locs 243 1666 Q (F0 m 92 ls [.int (nI (sPos lt z j)), .int (-2000), .ref q_10, .ref q_10]) := by
                      refine x_isub hx hb dX0_readRoom_92 (v := (-2000) - (nI (sPos lt z j))) rfl ?_
                      refine y_ctor_X13 ⟨C0, hK, hP, hD, hS, hA⟩ hl0 hZ hfr_10 hAq_10 hne_10 (hts _ q694) hl.1 (Nat.le_of_ble_eq_true rfl) dX0_readRoom_93 ⟨Nat.le_of_ble_eq_true rfl, Nat.le_of_ble_eq_true rfl⟩ ⟨Nat.le_of_ble_eq_true rfl, Nat.le_of_ble_eq_true rfl⟩ (fun u9 H locs hP hD hS => ?_)
                      have hP := x_subP (w' := (wX G ad ho rn 0 dr ro lt rf th sb ++ wR G (ad 1) kd r ++ wR G (ad 2) kn (rrR lt z r (j + 1)) ++ wR G (ad 3) k2 r2 ++ wK (ad 4)) ++ [yEc q_10 (true, (-2000) - (nI (sPos lt z j)), .ref q_10, u9.1, u9.2)]) (List.Sublist.append (((List.sublist_append_left _ _).trans (List.sublist_append_left _ _)).trans (List.sublist_append_left _ _)) (List.Sublist.refl _)) hP
                      have hD := x_subD (w' := (wX G ad ho rn 0 dr ro lt rf th sb ++ wR G (ad 1) kd r ++ wR G (ad 2) kn (rrR lt z r (j + 1)) ++ wR G (ad 3) k2 r2 ++ wK (ad 4)) ++ [yEc q_10 (true, (-2000) - (nI (sPos lt z j)), .ref q_10, u9.1, u9.2)]) (List.Sublist.append (((List.sublist_append_left _ _).trans (List.sublist_append_left _ _)).trans (List.sublist_append_left _ _)) (List.Sublist.refl _)) hD
                      refine vy_athrow hx hb dX0_readRoom_96 ?_
                      refine hthr _ _ _ _ _ _ _ q_10 (kn, (rrR lt z r (j + 1))) (true, ((-2000) - (nI (sPos lt z j))), .ref q_10, u9.1, u9.2) ?_ hP hD hS (Nat.le_of_ble_eq_true rfl) (Nat.le_of_ble_eq_true rfl)
                      have hjl : j < sLast lt z + 1 := by omega
                      have e9 := rrE_2 hgd hjl hi58_3 hbj
                      exact ⟨e9.symm, by rw [e9]; exact (m_ne0 _ (by have := sPos_le (lt := lt) (z := z) j (by omega); omega)).2⟩
                    have hdj := sTV hgd (show j < sLast lt z + 1 by omega)
                    rcases hsd : sT lt z (sPos lt z j) with ⟨tg, f1, c1, u1⟩
                    rw [hsd] at hdj hx1
                    rcases hdj.1 with e | e | e | e | e | e <;> (have e : tg = _ := e; subst e)
                    · skip
                      have hnx : t9[(sLast lt z + 1 - 1 - j)]? = some (x, .inr (12, tdF (ad 4) (sPos lt z j) (12, f1, c1, u1))) := hx1
                      refine va_get (D := G.1) (ci := 12) (v := .int (nI (sPos lt z j))) (C := RX15) (T := TX15) (N := 3) hx hb hts in_X15 hown hK.1 hP (33 + (sLast lt z + 1 - 1 - j)) (tl_get hnx) rfl 0 (by decide) (hts _ q442) (fun _ h9 => h9) rfl dX0_readRoom_89 ?_
                      exact cont_92
                    · skip
                      have hnx : t9[(sLast lt z + 1 - 1 - j)]? = some (x, .inr (13, tdF (ad 4) (sPos lt z j) (13, f1, c1, u1))) := hx1
                      refine va_get (D := G.1) (ci := 13) (v := .int (nI (sPos lt z j))) (C := RX16) (T := TX16) (N := 4) hx hb hts in_X16 hown hK.1 hP (33 + (sLast lt z + 1 - 1 - j)) (tl_get hnx) rfl 0 (by decide) (hts _ q442) (fun _ h9 => h9) rfl dX0_readRoom_89 ?_
                      exact cont_92
                    · skip
                      have hnx : t9[(sLast lt z + 1 - 1 - j)]? = some (x, .inr (14, tdF (ad 4) (sPos lt z j) (14, f1, c1, u1))) := hx1
                      refine va_get (D := G.1) (ci := 14) (v := .int (nI (sPos lt z j))) (C := RX17) (T := TX17) (N := 3) hx hb hts in_X17 hown hK.1 hP (33 + (sLast lt z + 1 - 1 - j)) (tl_get hnx) rfl 0 (by decide) (hts _ q442) (fun _ h9 => h9) rfl dX0_readRoom_89 ?_
                      exact cont_92
                    · skip
                      have hnx : t9[(sLast lt z + 1 - 1 - j)]? = some (x, .inr (15, tdF (ad 4) (sPos lt z j) (15, f1, c1, u1))) := hx1
                      refine va_get (D := G.1) (ci := 15) (v := .int (nI (sPos lt z j))) (C := RX18) (T := TX18) (N := 2) hx hb hts in_X18 hown hK.1 hP (33 + (sLast lt z + 1 - 1 - j)) (tl_get hnx) rfl 0 (by decide) (hts _ q442) (fun _ h9 => h9) rfl dX0_readRoom_89 ?_
                      exact cont_92
                    · skip
                      have hnx : t9[(sLast lt z + 1 - 1 - j)]? = some (x, .inr (16, tdF (ad 4) (sPos lt z j) (16, f1, c1, u1))) := hx1
                      refine va_get (D := G.1) (ci := 16) (v := .int (nI (sPos lt z j))) (C := RX19) (T := TX19) (N := 2) hx hb hts in_X19 hown hK.1 hP (33 + (sLast lt z + 1 - 1 - j)) (tl_get hnx) rfl 0 (by decide) (hts _ q442) (fun _ h9 => h9) rfl dX0_readRoom_89 ?_
                      exact cont_92
                    · skip
                      have hnx : t9[(sLast lt z + 1 - 1 - j)]? = some (x, .inr (17, tdF (ad 4) (sPos lt z j) (17, f1, c1, u1))) := hx1
                      refine va_get (D := G.1) (ci := 17) (v := .int (nI (sPos lt z j))) (C := RX20) (T := TX20) (N := 2) hx hb hts in_X20 hown hK.1 hP (33 + (sLast lt z + 1 - 1 - j)) (tl_get hnx) rfl 0 (by decide) (hts _ q442) (fun _ h9 => h9) rfl dX0_readRoom_89 ?_
                      exact cont_92
                have hdj := sTV hgd (show j < sLast lt z + 1 by omega)
                rcases hsd : sT lt z (sPos lt z j) with ⟨tg, f1, c1, u1⟩
                rw [hsd] at hdj hx1
                have hf1 : f1 ≤ 99 := hdj.2.1
                have hc1 : c1 < 6 := hdj.2.2.2.1
                have hu1 : u1 ≤ 9 := hdj.2.2.2.2
                rcases hdj.1 with e | e | e | e | e | e <;> (have e : tg = _ := e; subst e)
                · skip
                  have hnx : t9[(sLast lt z + 1 - 1 - j)]? = some (x, .inr (12, tdF (ad 4) (sPos lt z j) (12, f1, c1, u1))) := hx1
                  refine x_Ui (wN := fun u9 => (wX G ad ho rn 0 dr ro lt rf th sb ++ wR G (ad 1) kd r ++ wR G (ad 2) u9 (tdN (12, f1, c1, 0) (rrR lt z r j)) ++ wR G (ad 3) k2 r2 ++ wK (ad 4) ++ [(q_1, .inr (10, [.int (nI z), .int (nI ((sR lt z (sPos lt z i)).2)), .ref (ad 0 0)]))] ++ [(q_3, .inl (G.2 4, 96, .inr (.inr (.inr (.inr f9)))))] ++ t9)) ⟨C0, hK, hP, hD, hS, hA⟩ (33 + (sLast lt z + 1 - 1 - j)) (tl_get hnx) (ci := 12) rfl rfl (m_comes_X15 l G x (nI (sPos lt z j)) (ad 2) (ad 4) km (rrR lt z r j) (rrR_ok hr hgd j (by omega)) hi58_2 ((rrR_h j).trans hp) f1 c1 (hdj.2.2.1 (show 12 < 17 by omega)) hc1) (va_cwU (owner := "PulledFromUnder$Told") 1 hts (lw_U q530 q532 q533 q531 q103 q539) rfl rfl rfl rfl (by decide +kernel) ⟨Nat.le_of_ble_eq_true rfl, Nat.le_of_ble_eq_true rfl⟩) ((33 + (sLast lt z + 1 - 1 - j)) :: [13, 14, 15, 16, 17, 18, 25, 26, 27, 28, 29, 30]) ([0, 2, 4, 6, 8, 10, 12, 14, 16, 18, 20, 22, 24, 3, 5, 7, 9, 11, 13, 38, 40, 42, 44, 46, 48, 15, 17, 19, 21, 23, 25, 62, 64] ++ tlq 33 (List.length t9) (sLast lt z + 1 - 1 - j)) (tq_C hnx rfl) (fun _ => tq_N hnx rfl) (tq_ok rfl rfl rfl) (tq_nd rfl rfl) hl.1 rfl (Nat.le_of_ble_eq_true rfl) dX0_readRoom_72 ⟨Nat.le_of_ble_eq_true rfl, Nat.le_of_ble_eq_true rfl⟩ (fun r_9 u_9 H locs hw_9 hP hD hS => ?_)
                  refine cont_75 r_9 u_9 H locs ?_ ?_ ?_ ?_ hS
                  · rw [hsd]; exact hw_9.1
                  · show kOk (ad 4) u_9 (tdN (sT lt z (sPos lt z j)) (rrR lt z r j)); rw [hsd]; exact hw_9.2
                  · show va_P G.1 vwCl (wX G ad ho rn 0 dr ro lt rf th sb ++ wR G (ad 1) kd r ++ wR G (ad 2) u_9 (tdN (sT lt z (sPos lt z j)) (rrR lt z r j)) ++ wR G (ad 3) k2 r2 ++ wK (ad 4) ++ [(q_1, .inr (10, [.int (nI z), .int (nI ((sR lt z (sPos lt z i)).2)), .ref (ad 0 0)]))] ++ [(q_3, .inl (G.2 4, 96, .inr (.inr (.inr (.inr f9)))))] ++ t9) H; rw [hsd]; exact hP
                  · show va_D A (wX G ad ho rn 0 dr ro lt rf th sb ++ wR G (ad 1) kd r ++ wR G (ad 2) u_9 (tdN (sT lt z (sPos lt z j)) (rrR lt z r j)) ++ wR G (ad 3) k2 r2 ++ wK (ad 4) ++ [(q_1, .inr (10, [.int (nI z), .int (nI ((sR lt z (sPos lt z i)).2)), .ref (ad 0 0)]))] ++ [(q_3, .inl (G.2 4, 96, .inr (.inr (.inr (.inr f9)))))] ++ t9); rw [hsd]; exact hD
                · skip
                  have hnx : t9[(sLast lt z + 1 - 1 - j)]? = some (x, .inr (13, tdF (ad 4) (sPos lt z j) (13, f1, c1, u1))) := hx1
                  refine x_Ui (wN := fun u9 => (wX G ad ho rn 0 dr ro lt rf th sb ++ wR G (ad 1) kd r ++ wR G (ad 2) u9 (tdN (13, f1, c1, u1) (rrR lt z r j)) ++ wR G (ad 3) k2 r2 ++ wK (ad 4) ++ [(q_1, .inr (10, [.int (nI z), .int (nI ((sR lt z (sPos lt z i)).2)), .ref (ad 0 0)]))] ++ [(q_3, .inl (G.2 4, 96, .inr (.inr (.inr (.inr f9)))))] ++ t9)) ⟨C0, hK, hP, hD, hS, hA⟩ (33 + (sLast lt z + 1 - 1 - j)) (tl_get hnx) (ci := 13) rfl rfl (m_comes_X16 l G x (nI (sPos lt z j)) (ad 2) (ad 4) km (rrR lt z r j) (rrR_ok hr hgd j (by omega)) hi58_2 ((rrR_h j).trans hp) f1 c1 u1 (hdj.2.2.1 (show 13 < 17 by omega)) hc1 hu1) (va_cwU (owner := "PulledFromUnder$Told") 1 hts (lw_U q530 q532 q536 q531 q103 q539) rfl rfl rfl rfl (by decide +kernel) ⟨Nat.le_of_ble_eq_true rfl, Nat.le_of_ble_eq_true rfl⟩) ((33 + (sLast lt z + 1 - 1 - j)) :: [13, 14, 15, 16, 17, 18, 25, 26, 27, 28, 29, 30]) ([0, 2, 4, 6, 8, 10, 12, 14, 16, 18, 20, 22, 24, 3, 5, 7, 9, 11, 13, 38, 40, 42, 44, 46, 48, 15, 17, 19, 21, 23, 25, 62, 64] ++ tlq 33 (List.length t9) (sLast lt z + 1 - 1 - j)) (tq_C hnx rfl) (fun _ => tq_N hnx rfl) (tq_ok rfl rfl rfl) (tq_nd rfl rfl) hl.1 rfl (Nat.le_of_ble_eq_true rfl) dX0_readRoom_72 ⟨Nat.le_of_ble_eq_true rfl, Nat.le_of_ble_eq_true rfl⟩ (fun r_9 u_9 H locs hw_9 hP hD hS => ?_)
                  refine cont_75 r_9 u_9 H locs ?_ ?_ ?_ ?_ hS
                  · rw [hsd]; exact hw_9.1
                  · show kOk (ad 4) u_9 (tdN (sT lt z (sPos lt z j)) (rrR lt z r j)); rw [hsd]; exact hw_9.2
                  · show va_P G.1 vwCl (wX G ad ho rn 0 dr ro lt rf th sb ++ wR G (ad 1) kd r ++ wR G (ad 2) u_9 (tdN (sT lt z (sPos lt z j)) (rrR lt z r j)) ++ wR G (ad 3) k2 r2 ++ wK (ad 4) ++ [(q_1, .inr (10, [.int (nI z), .int (nI ((sR lt z (sPos lt z i)).2)), .ref (ad 0 0)]))] ++ [(q_3, .inl (G.2 4, 96, .inr (.inr (.inr (.inr f9)))))] ++ t9) H; rw [hsd]; exact hP
                  · show va_D A (wX G ad ho rn 0 dr ro lt rf th sb ++ wR G (ad 1) kd r ++ wR G (ad 2) u_9 (tdN (sT lt z (sPos lt z j)) (rrR lt z r j)) ++ wR G (ad 3) k2 r2 ++ wK (ad 4) ++ [(q_1, .inr (10, [.int (nI z), .int (nI ((sR lt z (sPos lt z i)).2)), .ref (ad 0 0)]))] ++ [(q_3, .inl (G.2 4, 96, .inr (.inr (.inr (.inr f9)))))] ++ t9); rw [hsd]; exact hD
                · skip
                  have hnx : t9[(sLast lt z + 1 - 1 - j)]? = some (x, .inr (14, tdF (ad 4) (sPos lt z j) (14, f1, c1, u1))) := hx1
                  refine x_Ui (wN := fun u9 => (wX G ad ho rn 0 dr ro lt rf th sb ++ wR G (ad 1) kd r ++ wR G (ad 2) u9 (tdN (14, f1, 0, u1) (rrR lt z r j)) ++ wR G (ad 3) k2 r2 ++ wK (ad 4) ++ [(q_1, .inr (10, [.int (nI z), .int (nI ((sR lt z (sPos lt z i)).2)), .ref (ad 0 0)]))] ++ [(q_3, .inl (G.2 4, 96, .inr (.inr (.inr (.inr f9)))))] ++ t9)) ⟨C0, hK, hP, hD, hS, hA⟩ (33 + (sLast lt z + 1 - 1 - j)) (tl_get hnx) (ci := 14) rfl rfl (m_comes_X17 l G x (nI (sPos lt z j)) (ad 2) (ad 4) km (rrR lt z r j) (rrR_ok hr hgd j (by omega)) hi58_2 ((rrR_h j).trans hp) f1 u1 (hdj.2.2.1 (show 14 < 17 by omega))) (va_cwU (owner := "PulledFromUnder$Told") 1 hts (lw_U q530 q532 q537 q531 q103 q539) rfl rfl rfl rfl (by decide +kernel) ⟨Nat.le_of_ble_eq_true rfl, Nat.le_of_ble_eq_true rfl⟩) ((33 + (sLast lt z + 1 - 1 - j)) :: [13, 14, 15, 16, 17, 18, 25, 26, 27, 28, 29, 30]) ([0, 2, 4, 6, 8, 10, 12, 14, 16, 18, 20, 22, 24, 3, 5, 7, 9, 11, 13, 38, 40, 42, 44, 46, 48, 15, 17, 19, 21, 23, 25, 62, 64] ++ tlq 33 (List.length t9) (sLast lt z + 1 - 1 - j)) (tq_C hnx rfl) (fun _ => tq_N hnx rfl) (tq_ok rfl rfl rfl) (tq_nd rfl rfl) hl.1 rfl (Nat.le_of_ble_eq_true rfl) dX0_readRoom_72 ⟨Nat.le_of_ble_eq_true rfl, Nat.le_of_ble_eq_true rfl⟩ (fun r_9 u_9 H locs hw_9 hP hD hS => ?_)
                  refine cont_75 r_9 u_9 H locs ?_ ?_ ?_ ?_ hS
                  · rw [hsd]; exact hw_9.1
                  · show kOk (ad 4) u_9 (tdN (sT lt z (sPos lt z j)) (rrR lt z r j)); rw [hsd]; exact hw_9.2
                  · show va_P G.1 vwCl (wX G ad ho rn 0 dr ro lt rf th sb ++ wR G (ad 1) kd r ++ wR G (ad 2) u_9 (tdN (sT lt z (sPos lt z j)) (rrR lt z r j)) ++ wR G (ad 3) k2 r2 ++ wK (ad 4) ++ [(q_1, .inr (10, [.int (nI z), .int (nI ((sR lt z (sPos lt z i)).2)), .ref (ad 0 0)]))] ++ [(q_3, .inl (G.2 4, 96, .inr (.inr (.inr (.inr f9)))))] ++ t9) H; rw [hsd]; exact hP
                  · show va_D A (wX G ad ho rn 0 dr ro lt rf th sb ++ wR G (ad 1) kd r ++ wR G (ad 2) u_9 (tdN (sT lt z (sPos lt z j)) (rrR lt z r j)) ++ wR G (ad 3) k2 r2 ++ wK (ad 4) ++ [(q_1, .inr (10, [.int (nI z), .int (nI ((sR lt z (sPos lt z i)).2)), .ref (ad 0 0)]))] ++ [(q_3, .inl (G.2 4, 96, .inr (.inr (.inr (.inr f9)))))] ++ t9); rw [hsd]; exact hD
                · skip
                  have hnx : t9[(sLast lt z + 1 - 1 - j)]? = some (x, .inr (15, tdF (ad 4) (sPos lt z j) (15, f1, c1, u1))) := hx1
                  refine x_Ui (wN := fun u9 => (wX G ad ho rn 0 dr ro lt rf th sb ++ wR G (ad 1) kd r ++ wR G (ad 2) u9 (tdN (15, f1, 0, 0) (rrR lt z r j)) ++ wR G (ad 3) k2 r2 ++ wK (ad 4) ++ [(q_1, .inr (10, [.int (nI z), .int (nI ((sR lt z (sPos lt z i)).2)), .ref (ad 0 0)]))] ++ [(q_3, .inl (G.2 4, 96, .inr (.inr (.inr (.inr f9)))))] ++ t9)) ⟨C0, hK, hP, hD, hS, hA⟩ (33 + (sLast lt z + 1 - 1 - j)) (tl_get hnx) (ci := 15) rfl rfl (m_comes_X18 l G x (nI (sPos lt z j)) (ad 2) (ad 4) km (rrR lt z r j) (rrR_ok hr hgd j (by omega)) hi58_2 ((rrR_h j).trans hp) f1 (hdj.2.2.1 (show 15 < 17 by omega))) (va_cwU (owner := "PulledFromUnder$Told") 1 hts (lw_U q530 q532 q534 q531 q103 q539) rfl rfl rfl rfl (by decide +kernel) ⟨Nat.le_of_ble_eq_true rfl, Nat.le_of_ble_eq_true rfl⟩) ((33 + (sLast lt z + 1 - 1 - j)) :: [13, 14, 15, 16, 17, 18, 25, 26, 27, 28, 29, 30]) ([0, 2, 4, 6, 8, 10, 12, 14, 16, 18, 20, 22, 24, 3, 5, 7, 9, 11, 13, 38, 40, 42, 44, 46, 48, 15, 17, 19, 21, 23, 25, 62, 64] ++ tlq 33 (List.length t9) (sLast lt z + 1 - 1 - j)) (tq_C hnx rfl) (fun _ => tq_N hnx rfl) (tq_ok rfl rfl rfl) (tq_nd rfl rfl) hl.1 rfl (Nat.le_of_ble_eq_true rfl) dX0_readRoom_72 ⟨Nat.le_of_ble_eq_true rfl, Nat.le_of_ble_eq_true rfl⟩ (fun r_9 u_9 H locs hw_9 hP hD hS => ?_)
                  refine cont_75 r_9 u_9 H locs ?_ ?_ ?_ ?_ hS
                  · rw [hsd]; exact hw_9.1
                  · show kOk (ad 4) u_9 (tdN (sT lt z (sPos lt z j)) (rrR lt z r j)); rw [hsd]; exact hw_9.2
                  · show va_P G.1 vwCl (wX G ad ho rn 0 dr ro lt rf th sb ++ wR G (ad 1) kd r ++ wR G (ad 2) u_9 (tdN (sT lt z (sPos lt z j)) (rrR lt z r j)) ++ wR G (ad 3) k2 r2 ++ wK (ad 4) ++ [(q_1, .inr (10, [.int (nI z), .int (nI ((sR lt z (sPos lt z i)).2)), .ref (ad 0 0)]))] ++ [(q_3, .inl (G.2 4, 96, .inr (.inr (.inr (.inr f9)))))] ++ t9) H; rw [hsd]; exact hP
                  · show va_D A (wX G ad ho rn 0 dr ro lt rf th sb ++ wR G (ad 1) kd r ++ wR G (ad 2) u_9 (tdN (sT lt z (sPos lt z j)) (rrR lt z r j)) ++ wR G (ad 3) k2 r2 ++ wK (ad 4) ++ [(q_1, .inr (10, [.int (nI z), .int (nI ((sR lt z (sPos lt z i)).2)), .ref (ad 0 0)]))] ++ [(q_3, .inl (G.2 4, 96, .inr (.inr (.inr (.inr f9)))))] ++ t9); rw [hsd]; exact hD
                · skip
                  have hnx : t9[(sLast lt z + 1 - 1 - j)]? = some (x, .inr (16, tdF (ad 4) (sPos lt z j) (16, f1, c1, u1))) := hx1
                  refine x_Ui (wN := fun u9 => (wX G ad ho rn 0 dr ro lt rf th sb ++ wR G (ad 1) kd r ++ wR G (ad 2) u9 (tdN (16, f1, 0, 0) (rrR lt z r j)) ++ wR G (ad 3) k2 r2 ++ wK (ad 4) ++ [(q_1, .inr (10, [.int (nI z), .int (nI ((sR lt z (sPos lt z i)).2)), .ref (ad 0 0)]))] ++ [(q_3, .inl (G.2 4, 96, .inr (.inr (.inr (.inr f9)))))] ++ t9)) ⟨C0, hK, hP, hD, hS, hA⟩ (33 + (sLast lt z + 1 - 1 - j)) (tl_get hnx) (ci := 16) rfl rfl (m_comes_X19 l G x (nI (sPos lt z j)) (ad 2) (ad 4) km (rrR lt z r j) (rrR_ok hr hgd j (by omega)) hi58_2 ((rrR_h j).trans hp) f1 (hdj.2.2.1 (show 16 < 17 by omega))) (va_cwU (owner := "PulledFromUnder$Told") 1 hts (lw_U q530 q532 q538 q531 q103 q539) rfl rfl rfl rfl (by decide +kernel) ⟨Nat.le_of_ble_eq_true rfl, Nat.le_of_ble_eq_true rfl⟩) ((33 + (sLast lt z + 1 - 1 - j)) :: [13, 14, 15, 16, 17, 18, 25, 26, 27, 28, 29, 30]) ([0, 2, 4, 6, 8, 10, 12, 14, 16, 18, 20, 22, 24, 3, 5, 7, 9, 11, 13, 38, 40, 42, 44, 46, 48, 15, 17, 19, 21, 23, 25, 62, 64] ++ tlq 33 (List.length t9) (sLast lt z + 1 - 1 - j)) (tq_C hnx rfl) (fun _ => tq_N hnx rfl) (tq_ok rfl rfl rfl) (tq_nd rfl rfl) hl.1 rfl (Nat.le_of_ble_eq_true rfl) dX0_readRoom_72 ⟨Nat.le_of_ble_eq_true rfl, Nat.le_of_ble_eq_true rfl⟩ (fun r_9 u_9 H locs hw_9 hP hD hS => ?_)
                  refine cont_75 r_9 u_9 H locs ?_ ?_ ?_ ?_ hS
                  · rw [hsd]; exact hw_9.1
                  · show kOk (ad 4) u_9 (tdN (sT lt z (sPos lt z j)) (rrR lt z r j)); rw [hsd]; exact hw_9.2
                  · show va_P G.1 vwCl (wX G ad ho rn 0 dr ro lt rf th sb ++ wR G (ad 1) kd r ++ wR G (ad 2) u_9 (tdN (sT lt z (sPos lt z j)) (rrR lt z r j)) ++ wR G (ad 3) k2 r2 ++ wK (ad 4) ++ [(q_1, .inr (10, [.int (nI z), .int (nI ((sR lt z (sPos lt z i)).2)), .ref (ad 0 0)]))] ++ [(q_3, .inl (G.2 4, 96, .inr (.inr (.inr (.inr f9)))))] ++ t9) H; rw [hsd]; exact hP
                  · show va_D A (wX G ad ho rn 0 dr ro lt rf th sb ++ wR G (ad 1) kd r ++ wR G (ad 2) u_9 (tdN (sT lt z (sPos lt z j)) (rrR lt z r j)) ++ wR G (ad 3) k2 r2 ++ wK (ad 4) ++ [(q_1, .inr (10, [.int (nI z), .int (nI ((sR lt z (sPos lt z i)).2)), .ref (ad 0 0)]))] ++ [(q_3, .inl (G.2 4, 96, .inr (.inr (.inr (.inr f9)))))] ++ t9); rw [hsd]; exact hD
                · skip
                  have hnx : t9[(sLast lt z + 1 - 1 - j)]? = some (x, .inr (17, tdF (ad 4) (sPos lt z j) (17, f1, c1, u1))) := hx1
                  refine x_Ui (wN := fun u9 => (wX G ad ho rn 0 dr ro lt rf th sb ++ wR G (ad 1) kd r ++ wR G (ad 2) u9 (tdN (17, f1, 0, 0) (rrR lt z r j)) ++ wR G (ad 3) k2 r2 ++ wK (ad 4) ++ [(q_1, .inr (10, [.int (nI z), .int (nI ((sR lt z (sPos lt z i)).2)), .ref (ad 0 0)]))] ++ [(q_3, .inl (G.2 4, 96, .inr (.inr (.inr (.inr f9)))))] ++ t9)) ⟨C0, hK, hP, hD, hS, hA⟩ (33 + (sLast lt z + 1 - 1 - j)) (tl_get hnx) (ci := 17) rfl rfl (m_comes_X20 l G x (nI (sPos lt z j)) (ad 2) (ad 4) km (rrR lt z r j) (rrR_ok hr hgd j (by omega)) hi58_2 ((rrR_h j).trans hp) f1 hf1) (va_cwU (owner := "PulledFromUnder$Told") 1 hts (lw_U q530 q532 q535 q531 q103 q539) rfl rfl rfl rfl (by decide +kernel) ⟨Nat.le_of_ble_eq_true rfl, Nat.le_of_ble_eq_true rfl⟩) ((33 + (sLast lt z + 1 - 1 - j)) :: [13, 14, 15, 16, 17, 18, 25, 26, 27, 28, 29, 30]) ([0, 2, 4, 6, 8, 10, 12, 14, 16, 18, 20, 22, 24, 3, 5, 7, 9, 11, 13, 38, 40, 42, 44, 46, 48, 15, 17, 19, 21, 23, 25, 62, 64] ++ tlq 33 (List.length t9) (sLast lt z + 1 - 1 - j)) (tq_C hnx rfl) (fun _ => tq_N hnx rfl) (tq_ok rfl rfl rfl) (tq_nd rfl rfl) hl.1 rfl (Nat.le_of_ble_eq_true rfl) dX0_readRoom_72 ⟨Nat.le_of_ble_eq_true rfl, Nat.le_of_ble_eq_true rfl⟩ (fun r_9 u_9 H locs hw_9 hP hD hS => ?_)
                  refine cont_75 r_9 u_9 H locs ?_ ?_ ?_ ?_ hS
                  · rw [hsd]; exact hw_9.1
                  · show kOk (ad 4) u_9 (tdN (sT lt z (sPos lt z j)) (rrR lt z r j)); rw [hsd]; exact hw_9.2
                  · show va_P G.1 vwCl (wX G ad ho rn 0 dr ro lt rf th sb ++ wR G (ad 1) kd r ++ wR G (ad 2) u_9 (tdN (sT lt z (sPos lt z j)) (rrR lt z r j)) ++ wR G (ad 3) k2 r2 ++ wK (ad 4) ++ [(q_1, .inr (10, [.int (nI z), .int (nI ((sR lt z (sPos lt z i)).2)), .ref (ad 0 0)]))] ++ [(q_3, .inl (G.2 4, 96, .inr (.inr (.inr (.inr f9)))))] ++ t9) H; rw [hsd]; exact hP
                  · show va_D A (wX G ad ho rn 0 dr ro lt rf th sb ++ wR G (ad 1) kd r ++ wR G (ad 2) u_9 (tdN (sT lt z (sPos lt z j)) (rrR lt z r j)) ++ wR G (ad 3) k2 r2 ++ wK (ad 4) ++ [(q_1, .inr (10, [.int (nI z), .int (nI ((sR lt z (sPos lt z i)).2)), .ref (ad 0 0)]))] ++ [(q_3, .inl (G.2 4, 96, .inr (.inr (.inr (.inr f9)))))] ++ t9); rw [hsd]; exact hD
          exact loop_58 (sLast lt z + 2) 0 kd (by omega) (by omega) hk (fun q hq => absurd hq (Nat.not_lt_zero q)) _ _ _ hP hD hS (lv_sub hl [0, 1, 2, 3, 4] rfl)
  exact loop_22 (sLast lt z + 1) 0 [] (fun _ => none) (Nat.zero_le _) (by omega) TL_0 _ _ _ (by rw [List.append_nil]; exact hP) (by rw [List.append_nil]; exact hD) hS (lv_sub hl [0, 1, 2, 3] rfl)

/-! the checks (printed by tools/xbase.py) -/
set_option maxHeartbeats 4000000 in
set_option maxRecDepth 100000 in
theorem m_in (l : Launch) (G : xG) (v lo hi : Int64) : xCi l G yX0_in cX0_in 6 (some .boolean) ({ frames := 0, cells := 0, slots := 0, locals := 0 } : Room) [.long v, .long lo, .long hi] ([] : va_W) (S := Unit) (fun v1 _ => v1 = bI (inL v lo hi)) (fun _ => []) := by
  refine x_openi (by decide) (Nat.le_of_ble_eq_true rfl) (fun _ _ h => by rw [h]; exact bI_z _) ?_
  intro p e s m args below meth c A Q ls C0 hK hP hD hA hl hret
  obtain ⟨hx, hb, hml, hown, hts⟩ := id C0
  have hS : va_S A s.heap s.heap [] := va_S.rf
  have hP : va_P G.1 vwCl ([] : va_W) s.heap := hP
  have hD : va_D A ([] : va_W) := hD
  have hl : lv_has ls 6 [(0, .long v), (2, .long lo), (4, .long hi)] := hl
  refine lv_lload_n hx hb dX0_in_0 rfl (lv_at hl 0 rfl) ?_
  refine lv_lload_n hx hb dX0_in_1 rfl (lv_at hl 1 rfl) ?_
  refine W.lcmp hx hb dX0_in_2 ?_
  refine lv_if_lt (tgt := 17) hx hb dX0_in_3 (by decide) (fun c_1 => ?_) (fun c_1 => ?_)
  · skip
    refine lv_iconst (v := 0) hx hb dX0_in_17 (by decide) ?_
    refine hret _ _ _ _ _ _ 0 () dX0_in_18 ?_ hP hD hS (Nat.le_of_ble_eq_true rfl) (Nat.le_of_ble_eq_true rfl)
    simp only [lg_cmp_lt, Int64.lt_iff_toInt_lt] at c_1
    exact bI_F (decide_eq_false (by omega))
  · skip
    refine lv_lload_n hx hb dX0_in_6 rfl (lv_at hl 0 rfl) ?_
    refine lv_lload hx hb dX0_in_7 (lv_at hl 2 rfl) ?_
    refine W.lcmp hx hb dX0_in_9 ?_
    refine lv_if_gt (tgt := 17) hx hb dX0_in_10 (by decide) (fun c_2 => ?_) (fun c_2 => ?_)
    · skip
      refine lv_iconst (v := 0) hx hb dX0_in_17 (by decide) ?_
      refine hret _ _ _ _ _ _ 0 () dX0_in_18 ?_ hP hD hS (Nat.le_of_ble_eq_true rfl) (Nat.le_of_ble_eq_true rfl)
      simp only [lg_cmp_lt, Int64.lt_iff_toInt_lt] at c_1
      simp only [gt_iff_lt, lg_cmp_gt, Int64.lt_iff_toInt_lt] at c_2
      exact bI_F (decide_eq_false (by omega))
    · skip
      refine lv_iconst (v := 1) hx hb dX0_in_13 (by decide) ?_
      refine lv_goto (tgt := 18) hx hb dX0_in_14 (by decide) ?_
      refine hret _ _ _ _ _ _ 1 () dX0_in_18 ?_ hP hD hS (Nat.le_of_ble_eq_true rfl) (Nat.le_of_ble_eq_true rfl)
      simp only [lg_cmp_lt, Int64.lt_iff_toInt_lt] at c_1
      simp only [gt_iff_lt, lg_cmp_gt, Int64.lt_iff_toInt_lt] at c_2
      exact bI_T (decide_eq_true (by omega))
set_option maxHeartbeats 4000000 in
set_option maxRecDepth 100000 in
theorem m_must (l : Launch) (hl0 : l.stackTraces = false) (G : xG) (b : Bool) (k : Int32) : yCv l G yX0_must cX0_must 2 none ({ frames := 7, cells := 1, slots := 7, locals := 108 } : Room) [.int (bI b), .int k] ([] : va_W) (S := Unit) (SX := Unit) (fun _ => b = true) (fun _ => []) (fun n _ => b = false ∧ n = k) (fun _ => []) := by
  refine y_openv (by decide) (Nat.le_of_ble_eq_true rfl) ?_
  intro p e s m args below meth c A Q ls C0 hK hZ hP hD hA hl hret hthr
  obtain ⟨hx, hb, hml, hown, hts⟩ := id C0
  have hS : va_S A s.heap s.heap [] := va_S.rf
  have hP : va_P G.1 vwCl ([] : va_W) s.heap := hP
  have hD : va_D A ([] : va_W) := hD
  have hl : lv_has ls 2 [(0, .int (bI b)), (1, .int k)] := hl
  refine lv_iload_n hx hb dX0_must_0 rfl (lv_at hl 0 rfl) ?_
  refine lv_if_ne (tgt := 13) hx hb dX0_must_1 (by decide) (fun c_1 => ?_) (fun c_1 => ?_)
  · skip
    refine hret _ _ _ _ _ _ () dX0_must_13 ?_ hP hD hS (Nat.le_of_ble_eq_true rfl) (Nat.le_of_ble_eq_true rfl)
    simpa [bI_0] using c_1
  · skip
    refine y_new_X11 ⟨C0, hK, hP, hD, hS, hA⟩ (hts _ q289) dX0_must_4 (Nat.le_of_ble_eq_true rfl) (Nat.le_of_ble_eq_true rfl) (fun q_2 H hfr_2 hAq_2 hne_2 hX9 => ?_)
    obtain ⟨-, -, hP, hD, hS, -⟩ := hX9
    refine W.widen (k := 1) (n := 7) (Nat.le_of_ble_eq_true rfl) (Nat.le_of_ble_eq_true rfl) ?_
    refine lv_dup hx hb dX0_must_7 rfl ?_
    refine lv_iload_n hx hb dX0_must_8 rfl (lv_at hl 1 rfl) ?_
    refine y_ctor_X11 ⟨C0, hK, hP, hD, hS, hA⟩ hl0 hZ hfr_2 hAq_2 hne_2 (hts _ q330) hl.1 (Nat.le_of_ble_eq_true rfl) dX0_must_9 ⟨Nat.le_of_ble_eq_true rfl, Nat.le_of_ble_eq_true rfl⟩ ⟨Nat.le_of_ble_eq_true rfl, Nat.le_of_ble_eq_true rfl⟩ (fun u9 H locs hP hD hS => ?_)
    refine vy_athrow hx hb dX0_must_12 ?_
    refine hthr _ _ _ _ _ _ _ q_2 () (false, k, .ref q_2, u9.1, u9.2) ?_ hP hD hS (Nat.le_of_ble_eq_true rfl) (Nat.le_of_ble_eq_true rfl)
    exact ⟨by simpa [bI_0] using c_1, rfl⟩
set_option maxHeartbeats 4000000 in
set_option maxRecDepth 100000 in
theorem m_within (l : Launch) (hl0 : l.stackTraces = false) (G : xG) (v lo hi : Int64) : yCv l G yX0_within cX0_within 6 none ({ frames := 8, cells := 2, slots := 14, locals := 129 } : Room) [.long v, .long lo, .long hi] ([] : va_W) (S := Unit) (SX := Unit) (fun _ => wBy v.toInt lo.toInt hi.toInt = 0) (fun _ => []) (fun n _ => n = wBy v.toInt lo.toInt hi.toInt ∧ wBy v.toInt lo.toInt hi.toInt ≠ 0) (fun _ => []) := by
  refine y_openv (by decide) (Nat.le_of_ble_eq_true rfl) ?_
  intro p e s m args below meth c A Q ls C0 hK hZ hP hD hA hl hret hthr
  obtain ⟨hx, hb, hml, hown, hts⟩ := id C0
  have hS : va_S A s.heap s.heap [] := va_S.rf
  have hP : va_P G.1 vwCl ([] : va_W) s.heap := hP
  have hD : va_D A ([] : va_W) := hD
  have hl : lv_has ls 6 [(0, .long v), (2, .long lo), (4, .long hi)] := hl
  refine lv_lload_n hx hb dX0_within_0 rfl (lv_at hl 0 rfl) ?_
  refine lv_lload_n hx hb dX0_within_1 rfl (lv_at hl 1 rfl) ?_
  refine W.lcmp hx hb dX0_within_2 ?_
  refine lv_if_lt (tgt := 10) hx hb dX0_within_3 (by decide) (fun c_1 => ?_) (fun c_1 => ?_)
  · skip
    refine lv_iconst (v := 0) hx hb dX0_within_10 (by decide) ?_
    have eb11 : (0 : Int32) = bI (decide (lo.toInt ≤ v.toInt)) := by
      simp only [lg_cmp_lt, gt_iff_lt, lg_cmp_gt, Int64.lt_iff_toInt_lt] at c_1
      exact bI_F (decide_eq_false (by omega))
    rw [eb11]
    refine lv_bipush (v := (-4)) hx hb dX0_within_11 (by decide) ?_
    refine y_Sv (wN := fun _ => ([] : va_W)) (wNx := fun u9 => ([] : va_W)) ⟨C0, hK, hP, hD, hS, hA⟩ hZ ((m_must l hl0 G (decide (lo.toInt ≤ v.toInt)) (-4))) (va_cwS 2 hts (lw_S q286 q287 q86 q288) rfl rfl rfl (by decide +kernel) ⟨Nat.le_of_ble_eq_true rfl, Nat.le_of_ble_eq_true rfl⟩) [] [] [1] rfl (fun _ => rfl) (fun _ _ _ => rfl) rfl rfl rfl hl.1 rfl (Nat.le_of_ble_eq_true rfl) dX0_within_13 ⟨Nat.le_of_ble_eq_true rfl, Nat.le_of_ble_eq_true rfl⟩ (fun q9 u9 ee H locs hw_2 hP hD hS => ?_) (fun u_2 H locs hw_2 hP hD hS => ?_)
    · skip
      refine hthr _ _ _ _ _ _ _ q9 () ee ?_ hP hD hS (Nat.le_of_ble_eq_true rfl) (Nat.le_of_ble_eq_true rfl)
      obtain ⟨h1, h2⟩ := hw_2
      have h1 := of_decide_eq_false h1
      unfold wBy
      rw [if_pos (by omega)]
      exact ⟨h2, by decide⟩
    · skip
      refine W.widen (k := 1) (n := 7) (Nat.le_of_ble_eq_true rfl) (Nat.le_of_ble_eq_true rfl) ?_
      have hlo := of_decide_eq_true hw_2
      refine lv_lload_n hx hb dX0_within_16 rfl (lv_at hl 0 rfl) ?_
      refine lv_lload hx hb dX0_within_17 (lv_at hl 2 rfl) ?_
      refine W.lcmp hx hb dX0_within_19 ?_
      refine lv_if_gt (tgt := 27) hx hb dX0_within_20 (by decide) (fun c_3 => ?_) (fun c_3 => ?_)
      · skip
        refine lv_iconst (v := 0) hx hb dX0_within_27 (by decide) ?_
        have eb28 : (0 : Int32) = bI (decide (v.toInt ≤ hi.toInt)) := by
          simp only [lg_cmp_lt, gt_iff_lt, lg_cmp_gt, Int64.lt_iff_toInt_lt] at c_3
          exact bI_F (decide_eq_false (by omega))
        rw [eb28]
        refine lv_bipush (v := (-6)) hx hb dX0_within_28 (by decide) ?_
        refine y_Sv (wN := fun _ => ([] : va_W)) (wNx := fun u9 => ([] : va_W)) ⟨C0, hK, hP, hD, hS, hA⟩ hZ ((m_must l hl0 G (decide (v.toInt ≤ hi.toInt)) (-6))) (va_cwS 2 hts (lw_S q286 q287 q86 q288) rfl rfl rfl (by decide +kernel) ⟨Nat.le_of_ble_eq_true rfl, Nat.le_of_ble_eq_true rfl⟩) [] [] [1] rfl (fun _ => rfl) (fun _ _ _ => rfl) rfl rfl rfl hl.1 rfl (Nat.le_of_ble_eq_true rfl) dX0_within_30 ⟨Nat.le_of_ble_eq_true rfl, Nat.le_of_ble_eq_true rfl⟩ (fun q9 u9 ee H locs hw_4 hP hD hS => ?_) (fun u_4 H locs hw_4 hP hD hS => ?_)
        · skip
          refine hthr _ _ _ _ _ _ _ q9 () ee ?_ hP hD hS (Nat.le_of_ble_eq_true rfl) (Nat.le_of_ble_eq_true rfl)
          obtain ⟨h1, h2⟩ := hw_4
          have h1 := of_decide_eq_false h1
          unfold wBy
          rw [if_neg (by omega), if_pos (by omega)]
          exact ⟨h2, by decide⟩
        · skip
          refine W.widen (k := 2) (n := 14) (Nat.le_of_ble_eq_true rfl) (Nat.le_of_ble_eq_true rfl) ?_
          have hhi := of_decide_eq_true hw_4
          refine hret _ _ _ _ _ _ () dX0_within_33 ?_ hP hD hS (Nat.le_of_ble_eq_true rfl) (Nat.le_of_ble_eq_true rfl)
          unfold wBy
          rw [if_neg (by omega), if_neg (by omega)]
      · skip
        refine lv_iconst (v := 1) hx hb dX0_within_23 (by decide) ?_
        refine lv_goto (tgt := 28) hx hb dX0_within_24 (by decide) ?_
        have eb28 : (1 : Int32) = bI (decide (v.toInt ≤ hi.toInt)) := by
          simp only [lg_cmp_lt, gt_iff_lt, lg_cmp_gt, Int64.lt_iff_toInt_lt] at c_3
          exact bI_T (decide_eq_true (by omega))
        rw [eb28]
        refine lv_bipush (v := (-6)) hx hb dX0_within_28 (by decide) ?_
        refine y_Sv (wN := fun _ => ([] : va_W)) (wNx := fun u9 => ([] : va_W)) ⟨C0, hK, hP, hD, hS, hA⟩ hZ ((m_must l hl0 G (decide (v.toInt ≤ hi.toInt)) (-6))) (va_cwS 2 hts (lw_S q286 q287 q86 q288) rfl rfl rfl (by decide +kernel) ⟨Nat.le_of_ble_eq_true rfl, Nat.le_of_ble_eq_true rfl⟩) [] [] [1] rfl (fun _ => rfl) (fun _ _ _ => rfl) rfl rfl rfl hl.1 rfl (Nat.le_of_ble_eq_true rfl) dX0_within_30 ⟨Nat.le_of_ble_eq_true rfl, Nat.le_of_ble_eq_true rfl⟩ (fun q9 u9 ee H locs hw_5 hP hD hS => ?_) (fun u_5 H locs hw_5 hP hD hS => ?_)
        · skip
          refine hthr _ _ _ _ _ _ _ q9 () ee ?_ hP hD hS (Nat.le_of_ble_eq_true rfl) (Nat.le_of_ble_eq_true rfl)
          obtain ⟨h1, h2⟩ := hw_5
          have h1 := of_decide_eq_false h1
          unfold wBy
          rw [if_neg (by omega), if_pos (by omega)]
          exact ⟨h2, by decide⟩
        · skip
          refine W.widen (k := 2) (n := 14) (Nat.le_of_ble_eq_true rfl) (Nat.le_of_ble_eq_true rfl) ?_
          have hhi := of_decide_eq_true hw_5
          refine hret _ _ _ _ _ _ () dX0_within_33 ?_ hP hD hS (Nat.le_of_ble_eq_true rfl) (Nat.le_of_ble_eq_true rfl)
          unfold wBy
          rw [if_neg (by omega), if_neg (by omega)]
  · skip
    refine lv_iconst (v := 1) hx hb dX0_within_6 (by decide) ?_
    refine lv_goto (tgt := 11) hx hb dX0_within_7 (by decide) ?_
    have eb11 : (1 : Int32) = bI (decide (lo.toInt ≤ v.toInt)) := by
      simp only [lg_cmp_lt, gt_iff_lt, lg_cmp_gt, Int64.lt_iff_toInt_lt] at c_1
      exact bI_T (decide_eq_true (by omega))
    rw [eb11]
    refine lv_bipush (v := (-4)) hx hb dX0_within_11 (by decide) ?_
    refine y_Sv (wN := fun _ => ([] : va_W)) (wNx := fun u9 => ([] : va_W)) ⟨C0, hK, hP, hD, hS, hA⟩ hZ ((m_must l hl0 G (decide (lo.toInt ≤ v.toInt)) (-4))) (va_cwS 2 hts (lw_S q286 q287 q86 q288) rfl rfl rfl (by decide +kernel) ⟨Nat.le_of_ble_eq_true rfl, Nat.le_of_ble_eq_true rfl⟩) [] [] [1] rfl (fun _ => rfl) (fun _ _ _ => rfl) rfl rfl rfl hl.1 rfl (Nat.le_of_ble_eq_true rfl) dX0_within_13 ⟨Nat.le_of_ble_eq_true rfl, Nat.le_of_ble_eq_true rfl⟩ (fun q9 u9 ee H locs hw_6 hP hD hS => ?_) (fun u_6 H locs hw_6 hP hD hS => ?_)
    · skip
      refine hthr _ _ _ _ _ _ _ q9 () ee ?_ hP hD hS (Nat.le_of_ble_eq_true rfl) (Nat.le_of_ble_eq_true rfl)
      obtain ⟨h1, h2⟩ := hw_6
      have h1 := of_decide_eq_false h1
      unfold wBy
      rw [if_pos (by omega)]
      exact ⟨h2, by decide⟩
    · skip
      refine W.widen (k := 1) (n := 7) (Nat.le_of_ble_eq_true rfl) (Nat.le_of_ble_eq_true rfl) ?_
      have hlo := of_decide_eq_true hw_6
      refine lv_lload_n hx hb dX0_within_16 rfl (lv_at hl 0 rfl) ?_
      refine lv_lload hx hb dX0_within_17 (lv_at hl 2 rfl) ?_
      refine W.lcmp hx hb dX0_within_19 ?_
      refine lv_if_gt (tgt := 27) hx hb dX0_within_20 (by decide) (fun c_7 => ?_) (fun c_7 => ?_)
      · skip
        refine lv_iconst (v := 0) hx hb dX0_within_27 (by decide) ?_
        have eb28 : (0 : Int32) = bI (decide (v.toInt ≤ hi.toInt)) := by
          simp only [lg_cmp_lt, gt_iff_lt, lg_cmp_gt, Int64.lt_iff_toInt_lt] at c_7
          exact bI_F (decide_eq_false (by omega))
        rw [eb28]
        refine lv_bipush (v := (-6)) hx hb dX0_within_28 (by decide) ?_
        refine y_Sv (wN := fun _ => ([] : va_W)) (wNx := fun u9 => ([] : va_W)) ⟨C0, hK, hP, hD, hS, hA⟩ hZ ((m_must l hl0 G (decide (v.toInt ≤ hi.toInt)) (-6))) (va_cwS 2 hts (lw_S q286 q287 q86 q288) rfl rfl rfl (by decide +kernel) ⟨Nat.le_of_ble_eq_true rfl, Nat.le_of_ble_eq_true rfl⟩) [] [] [1] rfl (fun _ => rfl) (fun _ _ _ => rfl) rfl rfl rfl hl.1 rfl (Nat.le_of_ble_eq_true rfl) dX0_within_30 ⟨Nat.le_of_ble_eq_true rfl, Nat.le_of_ble_eq_true rfl⟩ (fun q9 u9 ee H locs hw_8 hP hD hS => ?_) (fun u_8 H locs hw_8 hP hD hS => ?_)
        · skip
          refine hthr _ _ _ _ _ _ _ q9 () ee ?_ hP hD hS (Nat.le_of_ble_eq_true rfl) (Nat.le_of_ble_eq_true rfl)
          obtain ⟨h1, h2⟩ := hw_8
          have h1 := of_decide_eq_false h1
          unfold wBy
          rw [if_neg (by omega), if_pos (by omega)]
          exact ⟨h2, by decide⟩
        · skip
          refine W.widen (k := 2) (n := 14) (Nat.le_of_ble_eq_true rfl) (Nat.le_of_ble_eq_true rfl) ?_
          have hhi := of_decide_eq_true hw_8
          refine hret _ _ _ _ _ _ () dX0_within_33 ?_ hP hD hS (Nat.le_of_ble_eq_true rfl) (Nat.le_of_ble_eq_true rfl)
          unfold wBy
          rw [if_neg (by omega), if_neg (by omega)]
      · skip
        refine lv_iconst (v := 1) hx hb dX0_within_23 (by decide) ?_
        refine lv_goto (tgt := 28) hx hb dX0_within_24 (by decide) ?_
        have eb28 : (1 : Int32) = bI (decide (v.toInt ≤ hi.toInt)) := by
          simp only [lg_cmp_lt, gt_iff_lt, lg_cmp_gt, Int64.lt_iff_toInt_lt] at c_7
          exact bI_T (decide_eq_true (by omega))
        rw [eb28]
        refine lv_bipush (v := (-6)) hx hb dX0_within_28 (by decide) ?_
        refine y_Sv (wN := fun _ => ([] : va_W)) (wNx := fun u9 => ([] : va_W)) ⟨C0, hK, hP, hD, hS, hA⟩ hZ ((m_must l hl0 G (decide (v.toInt ≤ hi.toInt)) (-6))) (va_cwS 2 hts (lw_S q286 q287 q86 q288) rfl rfl rfl (by decide +kernel) ⟨Nat.le_of_ble_eq_true rfl, Nat.le_of_ble_eq_true rfl⟩) [] [] [1] rfl (fun _ => rfl) (fun _ _ _ => rfl) rfl rfl rfl hl.1 rfl (Nat.le_of_ble_eq_true rfl) dX0_within_30 ⟨Nat.le_of_ble_eq_true rfl, Nat.le_of_ble_eq_true rfl⟩ (fun q9 u9 ee H locs hw_9 hP hD hS => ?_) (fun u_9 H locs hw_9 hP hD hS => ?_)
        · skip
          refine hthr _ _ _ _ _ _ _ q9 () ee ?_ hP hD hS (Nat.le_of_ble_eq_true rfl) (Nat.le_of_ble_eq_true rfl)
          obtain ⟨h1, h2⟩ := hw_9
          have h1 := of_decide_eq_false h1
          unfold wBy
          rw [if_neg (by omega), if_pos (by omega)]
          exact ⟨h2, by decide⟩
        · skip
          refine W.widen (k := 2) (n := 14) (Nat.le_of_ble_eq_true rfl) (Nat.le_of_ble_eq_true rfl) ?_
          have hhi := of_decide_eq_true hw_9
          refine hret _ _ _ _ _ _ () dX0_within_33 ?_ hP hD hS (Nat.le_of_ble_eq_true rfl) (Nat.le_of_ble_eq_true rfl)
          unfold wBy
          rw [if_neg (by omega), if_neg (by omega)]
set_option maxHeartbeats 4000000 in
set_option maxRecDepth 100000 in
theorem m_mustBe (l : Launch) (hl0 : l.stackTraces = false) (G : xG) (k : Int32) (n : Nat) (hn : n < 2 ^ 30) : yCv l G yX0_mustBe cX0_mustBe 2 none ({ frames := 8, cells := 1, slots := 7, locals := 129 } : Room) [.int k, .int (nI n)] ([] : va_W) (S := Unit) (SX := Unit) (fun _ => inR k 0 ((n : Int) - 1) = true) (fun _ => []) (fun v _ => inR k 0 ((n : Int) - 1) = false ∧ v = -1) (fun _ => []) := by
  refine y_openv (by decide) (Nat.le_of_ble_eq_true rfl) ?_
  intro p e s m args below meth c A Q ls C0 hK hZ hP hD hA hl hret hthr
  obtain ⟨hx, hb, hml, hown, hts⟩ := id C0
  have hS : va_S A s.heap s.heap [] := va_S.rf
  have hP : va_P G.1 vwCl ([] : va_W) s.heap := hP
  have hD : va_D A ([] : va_W) := hD
  have hl : lv_has ls 2 [(0, .int k), (1, .int (nI n))] := hl
  refine lv_iload_n hx hb dX0_mustBe_0 rfl (lv_at hl 0 rfl) ?_
  refine lv_i2l (v := k.toInt64) hx hb dX0_mustBe_1 rfl ?_
  refine lv_lconst (v := 0) hx hb dX0_mustBe_2 (by decide) ?_
  refine lv_iload_n hx hb dX0_mustBe_3 rfl (lv_at hl 1 rfl) ?_
  refine lv_iconst (v := 1) hx hb dX0_mustBe_4 (by decide) ?_
  refine x_isub hx hb dX0_mustBe_5 (v := nI n - 1) rfl ?_
  refine lv_i2l (v := (nI n - 1).toInt64) hx hb dX0_mustBe_6 rfl ?_
  refine x_Si (wN := fun _ => ([] : va_W)) ⟨C0, hK, hP, hD, hS, hA⟩ ((m_in l G k.toInt64 0 ((nI n - 1).toInt64))) (va_cwS 3 hts (lw_S q706 q427 q86 q428) rfl rfl rfl (by decide +kernel) ⟨Nat.le_of_ble_eq_true rfl, Nat.le_of_ble_eq_true rfl⟩) [] [] rfl (fun _ => rfl) rfl rfl hl.1 rfl (Nat.le_of_ble_eq_true rfl) dX0_mustBe_7 ⟨Nat.le_of_ble_eq_true rfl, Nat.le_of_ble_eq_true rfl⟩ (fun r_1 u_1 H locs hw_1 hP hD hS => ?_)
  have hw_1 : r_1 = bI (inR k 0 ((n : Int) - 1)) := hw_1.trans (congrArg bI (inL_inR rfl ((i2l_toInt _).trans (nI_m1 hn))))
  have hw_1 : (bI (inR k 0 ((n : Int) - 1)) : Int32) = r_1 := hw_1.symm
  subst hw_1
  refine lv_iconst (v := (-1)) hx hb dX0_mustBe_10 (by decide) ?_
  refine y_Sv (wN := fun _ => ([] : va_W)) (wNx := fun u9 => ([] : va_W)) ⟨C0, hK, hP, hD, hS, hA⟩ hZ ((m_must l hl0 G (inR k 0 ((n : Int) - 1)) (-1))) (va_cwS 2 hts (lw_S q286 q287 q86 q288) rfl rfl rfl (by decide +kernel) ⟨Nat.le_of_ble_eq_true rfl, Nat.le_of_ble_eq_true rfl⟩) [] [] [1] rfl (fun _ => rfl) (fun _ _ _ => rfl) rfl rfl rfl hl.1 rfl (Nat.le_of_ble_eq_true rfl) dX0_mustBe_11 ⟨Nat.le_of_ble_eq_true rfl, Nat.le_of_ble_eq_true rfl⟩ (fun q9 u9 ee H locs hw_2 hP hD hS => ?_) (fun u_2 H locs hw_2 hP hD hS => ?_)
  · skip
    refine hthr _ _ _ _ _ _ _ q9 () ee ?_ hP hD hS (Nat.le_of_ble_eq_true rfl) (Nat.le_of_ble_eq_true rfl)
    exact hw_2
  · skip
    refine W.widen (k := 1) (n := 7) (Nat.le_of_ble_eq_true rfl) (Nat.le_of_ble_eq_true rfl) ?_
    refine hret _ _ _ _ _ _ () dX0_mustBe_14 ?_ hP hD hS (Nat.le_of_ble_eq_true rfl) (Nat.le_of_ble_eq_true rfl)
    exact hw_2
set_option maxHeartbeats 4000000 in
set_option maxRecDepth 100000 in
theorem m_mustBeBit (l : Launch) (hl0 : l.stackTraces = false) (G : xG) (v : Int32) : yCv l G yX0_mustBeBit cX0_mustBeBit 1 none ({ frames := 8, cells := 1, slots := 7, locals := 129 } : Room) [.int v] ([] : va_W) (S := Unit) (SX := Unit) (fun _ => inR v 0 1 = true) (fun _ => []) (fun n _ => inR v 0 1 = false ∧ n = -2) (fun _ => []) := by
  refine y_openv (by decide) (Nat.le_of_ble_eq_true rfl) ?_
  intro p e s m args below meth c A Q ls C0 hK hZ hP hD hA hl hret hthr
  obtain ⟨hx, hb, hml, hown, hts⟩ := id C0
  have hS : va_S A s.heap s.heap [] := va_S.rf
  have hP : va_P G.1 vwCl ([] : va_W) s.heap := hP
  have hD : va_D A ([] : va_W) := hD
  have hl : lv_has ls 1 [(0, .int v)] := hl
  refine lv_iload_n hx hb dX0_mustBeBit_0 rfl (lv_at hl 0 rfl) ?_
  refine lv_i2l (v := v.toInt64) hx hb dX0_mustBeBit_1 rfl ?_
  refine lv_lconst (v := 0) hx hb dX0_mustBeBit_2 (by decide) ?_
  refine lv_lconst (v := 1) hx hb dX0_mustBeBit_3 (by decide) ?_
  refine x_Si (wN := fun _ => ([] : va_W)) ⟨C0, hK, hP, hD, hS, hA⟩ ((m_in l G v.toInt64 0 1)) (va_cwS 3 hts (lw_S q706 q427 q86 q428) rfl rfl rfl (by decide +kernel) ⟨Nat.le_of_ble_eq_true rfl, Nat.le_of_ble_eq_true rfl⟩) [] [] rfl (fun _ => rfl) rfl rfl hl.1 rfl (Nat.le_of_ble_eq_true rfl) dX0_mustBeBit_4 ⟨Nat.le_of_ble_eq_true rfl, Nat.le_of_ble_eq_true rfl⟩ (fun r_1 u_1 H locs hw_1 hP hD hS => ?_)
  have hw_1 : r_1 = bI (inR v 0 1) := hw_1.trans (congrArg bI (inL_inR rfl rfl))
  have hw_1 : (bI (inR v 0 1) : Int32) = r_1 := hw_1.symm
  subst hw_1
  refine lv_bipush (v := (-2)) hx hb dX0_mustBeBit_7 (by decide) ?_
  refine y_Sv (wN := fun _ => ([] : va_W)) (wNx := fun u9 => ([] : va_W)) ⟨C0, hK, hP, hD, hS, hA⟩ hZ ((m_must l hl0 G (inR v 0 1) (-2))) (va_cwS 2 hts (lw_S q286 q287 q86 q288) rfl rfl rfl (by decide +kernel) ⟨Nat.le_of_ble_eq_true rfl, Nat.le_of_ble_eq_true rfl⟩) [] [] [1] rfl (fun _ => rfl) (fun _ _ _ => rfl) rfl rfl rfl hl.1 rfl (Nat.le_of_ble_eq_true rfl) dX0_mustBeBit_9 ⟨Nat.le_of_ble_eq_true rfl, Nat.le_of_ble_eq_true rfl⟩ (fun q9 u9 ee H locs hw_2 hP hD hS => ?_) (fun u_2 H locs hw_2 hP hD hS => ?_)
  · skip
    refine hthr _ _ _ _ _ _ _ q9 () ee ?_ hP hD hS (Nat.le_of_ble_eq_true rfl) (Nat.le_of_ble_eq_true rfl)
    exact hw_2
  · skip
    refine W.widen (k := 1) (n := 7) (Nat.le_of_ble_eq_true rfl) (Nat.le_of_ble_eq_true rfl) ?_
    refine hret _ _ _ _ _ _ () dX0_mustBeBit_12 ?_ hP hD hS (Nat.le_of_ble_eq_true rfl) (Nat.le_of_ble_eq_true rfl)
    exact hw_2
set_option maxHeartbeats 4000000 in
set_option maxRecDepth 100000 in
theorem m_mustBeSpeed (l : Launch) (hl0 : l.stackTraces = false) (G : xG) (v : Int32) : yCv l G yX0_mustBeSpeed cX0_mustBeSpeed 1 none ({ frames := 9, cells := 2, slots := 14, locals := 154 } : Room) [.int v] ([] : va_W) (S := Unit) (SX := Unit) (fun _ => wBy v.toInt 0 9 = 0) (fun _ => []) (fun n _ => n = wBy v.toInt 0 9 ∧ wBy v.toInt 0 9 ≠ 0) (fun _ => []) := by
  refine y_openv (by decide) (Nat.le_of_ble_eq_true rfl) ?_
  intro p e s m args below meth c A Q ls C0 hK hZ hP hD hA hl hret hthr
  obtain ⟨hx, hb, hml, hown, hts⟩ := id C0
  have hS : va_S A s.heap s.heap [] := va_S.rf
  have hP : va_P G.1 vwCl ([] : va_W) s.heap := hP
  have hD : va_D A ([] : va_W) := hD
  have hl : lv_has ls 1 [(0, .int v)] := hl
  refine lv_iload_n hx hb dX0_mustBeSpeed_0 rfl (lv_at hl 0 rfl) ?_
  refine lv_i2l (v := v.toInt64) hx hb dX0_mustBeSpeed_1 rfl ?_
  refine lv_lconst (v := 0) hx hb dX0_mustBeSpeed_2 (by decide) ?_
  refine lv_ldc2 (v := 9) hx hb hown (hts _ q739) dX0_mustBeSpeed_3 ?_
  refine y_Sv (wN := fun _ => ([] : va_W)) (wNx := fun u9 => ([] : va_W)) ⟨C0, hK, hP, hD, hS, hA⟩ hZ ((m_within l hl0 G v.toInt64 0 9)) (va_cwS 3 hts (lw_S q283 q284 q86 q285) rfl rfl rfl (by decide +kernel) ⟨Nat.le_of_ble_eq_true rfl, Nat.le_of_ble_eq_true rfl⟩) [] [] [1] rfl (fun _ => rfl) (fun _ _ _ => rfl) rfl rfl rfl hl.1 rfl (Nat.le_of_ble_eq_true rfl) dX0_mustBeSpeed_6 ⟨Nat.le_of_ble_eq_true rfl, Nat.le_of_ble_eq_true rfl⟩ (fun q9 u9 ee H locs hw_1 hP hD hS => ?_) (fun u_1 H locs hw_1 hP hD hS => ?_)
  · skip
    refine hthr _ _ _ _ _ _ _ q9 () ee ?_ hP hD hS (Nat.le_of_ble_eq_true rfl) (Nat.le_of_ble_eq_true rfl)
    rw [i2l_toInt] at hw_1
    exact hw_1
  · skip
    refine W.widen (k := 2) (n := 14) (Nat.le_of_ble_eq_true rfl) (Nat.le_of_ble_eq_true rfl) ?_
    refine hret _ _ _ _ _ _ () dX0_mustBeSpeed_9 ?_ hP hD hS (Nat.le_of_ble_eq_true rfl) (Nat.le_of_ble_eq_true rfl)
    rw [i2l_toInt] at hw_1
    exact hw_1
set_option maxHeartbeats 4000000 in
set_option maxRecDepth 100000 in
theorem m_mustBeMinutes (l : Launch) (hl0 : l.stackTraces = false) (G : xG) (v : Int32) : yCv l G yX0_mustBeMinutes cX0_mustBeMinutes 1 none ({ frames := 9, cells := 2, slots := 14, locals := 154 } : Room) [.int v] ([] : va_W) (S := Unit) (SX := Unit) (fun _ => wBy v.toInt 0 99 = 0) (fun _ => []) (fun n _ => n = wBy v.toInt 0 99 ∧ wBy v.toInt 0 99 ≠ 0) (fun _ => []) := by
  refine y_openv (by decide) (Nat.le_of_ble_eq_true rfl) ?_
  intro p e s m args below meth c A Q ls C0 hK hZ hP hD hA hl hret hthr
  obtain ⟨hx, hb, hml, hown, hts⟩ := id C0
  have hS : va_S A s.heap s.heap [] := va_S.rf
  have hP : va_P G.1 vwCl ([] : va_W) s.heap := hP
  have hD : va_D A ([] : va_W) := hD
  have hl : lv_has ls 1 [(0, .int v)] := hl
  refine lv_iload_n hx hb dX0_mustBeMinutes_0 rfl (lv_at hl 0 rfl) ?_
  refine lv_i2l (v := v.toInt64) hx hb dX0_mustBeMinutes_1 rfl ?_
  refine lv_lconst (v := 0) hx hb dX0_mustBeMinutes_2 (by decide) ?_
  refine lv_ldc2 (v := 99) hx hb hown (hts _ q789) dX0_mustBeMinutes_3 ?_
  refine y_Sv (wN := fun _ => ([] : va_W)) (wNx := fun u9 => ([] : va_W)) ⟨C0, hK, hP, hD, hS, hA⟩ hZ ((m_within l hl0 G v.toInt64 0 99)) (va_cwS 3 hts (lw_S q283 q284 q86 q285) rfl rfl rfl (by decide +kernel) ⟨Nat.le_of_ble_eq_true rfl, Nat.le_of_ble_eq_true rfl⟩) [] [] [1] rfl (fun _ => rfl) (fun _ _ _ => rfl) rfl rfl rfl hl.1 rfl (Nat.le_of_ble_eq_true rfl) dX0_mustBeMinutes_6 ⟨Nat.le_of_ble_eq_true rfl, Nat.le_of_ble_eq_true rfl⟩ (fun q9 u9 ee H locs hw_1 hP hD hS => ?_) (fun u_1 H locs hw_1 hP hD hS => ?_)
  · skip
    refine hthr _ _ _ _ _ _ _ q9 () ee ?_ hP hD hS (Nat.le_of_ble_eq_true rfl) (Nat.le_of_ble_eq_true rfl)
    rw [i2l_toInt] at hw_1
    exact hw_1
  · skip
    refine W.widen (k := 2) (n := 14) (Nat.le_of_ble_eq_true rfl) (Nat.le_of_ble_eq_true rfl) ?_
    refine hret _ _ _ _ _ _ () dX0_mustBeMinutes_9 ?_ hP hD hS (Nat.le_of_ble_eq_true rfl) (Nat.le_of_ble_eq_true rfl)
    rw [i2l_toInt] at hw_1
    exact hw_1
set_option maxHeartbeats 4000000 in
set_option maxRecDepth 100000 in
theorem m_mustBeThing (l : Launch) (hl0 : l.stackTraces = false) (G : xG) (ad : Nat → Nat → Nat) (kd k1 k2 : Nat → Option Nat) (r r1 r2 : Rw) (ho rn ln dr : Int32) (ro lt rf th sb : Nat → Int32) (hr : Ok r) (hp : r 5 3 = 0) (hk : kOk (ad 4) kd r) (t : Int32) : yCv l G yX0_mustBeThing cX0_mustBeThing 2 none ({ frames := 9, cells := 1, slots := 7, locals := 150 } : Room) [.ref (ad 0 0), .int t] (wX G ad ho rn ln dr ro lt rf th sb ++ wR G (ad 1) kd r ++ wR G (ad 2) k1 r1 ++ wR G (ad 3) k2 r2 ++ wK (ad 4)) (S := Unit) (SX := Unit) (fun _ => tB r t = true) (fun _ => (wX G ad ho rn ln dr ro lt rf th sb ++ wR G (ad 1) kd r ++ wR G (ad 2) k1 r1 ++ wR G (ad 3) k2 r2 ++ wK (ad 4))) (fun n _ => tB r t = false ∧ n = -1) (fun _ => (wX G ad ho rn ln dr ro lt rf th sb ++ wR G (ad 1) kd r ++ wR G (ad 2) k1 r1 ++ wR G (ad 3) k2 r2 ++ wK (ad 4))) := by
  refine y_openv (by decide) (Nat.le_of_ble_eq_true rfl) ?_
  intro p e s m args below meth c A Q ls C0 hK hZ hP hD hA hl hret hthr
  obtain ⟨hx, hb, hml, hown, hts⟩ := id C0
  have hS : va_S A s.heap s.heap [] := va_S.rf
  have hP : va_P G.1 vwCl (wX G ad ho rn ln dr ro lt rf th sb ++ wR G (ad 1) kd r ++ wR G (ad 2) k1 r1 ++ wR G (ad 3) k2 r2 ++ wK (ad 4)) s.heap := hP
  have hD : va_D A (wX G ad ho rn ln dr ro lt rf th sb ++ wR G (ad 1) kd r ++ wR G (ad 2) k1 r1 ++ wR G (ad 3) k2 r2 ++ wK (ad 4)) := hD
  have hl : lv_has ls 2 [(0, .ref (ad 0 0)), (1, .int t)] := hl
  have hr0 := hr.n
  have hN := hr.le
  refine lv_iload_n hx hb dX0_mustBeThing_0 rfl (lv_at hl 1 rfl) ?_
  refine lv_aload_n hx hb dX0_mustBeThing_1 rfl (lv_at hl 0 rfl) ?_
  refine va_get (D := G.1) (ci := 0) (v := .ref ((ad 1) 0)) (C := RX0) (T := TX0) (N := 13) hx hb hts in_X0 hown hK.1 hP 0 rfl rfl 1 (by decide) (hts _ q222) (fun _ h9 => h9) rfl dX0_mustBeThing_2 ?_
  refine va_getN (D := G.1) (ci := 7) (v := .int (nI (mny r))) (C := RX8) (T := TX8) (N := 9) hx hb hts in_X8 hown hK.1 hP 7 rfl rfl 0 (by decide) (va_Nw.use rfl (hK.2.F 4 rfl)) (fun _ h9 => h9) (x_some hr0) dX0_mustBeThing_5 ?_
  refine y_Sv (wN := fun _ => (wX G ad ho rn ln dr ro lt rf th sb ++ wR G (ad 1) kd r ++ wR G (ad 2) k1 r1 ++ wR G (ad 3) k2 r2 ++ wK (ad 4))) (wNx := fun u9 => (wX G ad ho rn ln dr ro lt rf th sb ++ wR G (ad 1) kd r ++ wR G (ad 2) k1 r1 ++ wR G (ad 3) k2 r2 ++ wK (ad 4))) ⟨C0, hK, hP, hD, hS, hA⟩ hZ ((m_mustBe l hl0 G t (mny r) (by omega))) (va_cwS 2 hts (lw_S q703 q704 q86 q705) rfl rfl rfl (by decide +kernel) ⟨Nat.le_of_ble_eq_true rfl, Nat.le_of_ble_eq_true rfl⟩) [] [0, 2, 4, 6, 8, 10, 12, 14, 16, 18, 20, 22, 24, 26, 28, 30, 32, 34, 36, 38, 40, 42, 44, 46, 48, 50, 52, 54, 56, 58, 60] [0, 2, 4, 6, 8, 10, 12, 14, 16, 18, 20, 22, 24, 26, 28, 30, 32, 34, 36, 38, 40, 42, 44, 46, 48, 50, 52, 54, 56, 58, 60, 1] rfl (fun _ => rfl) (fun _ _ _ => rfl) rfl rfl rfl hl.1 rfl (Nat.le_of_ble_eq_true rfl) dX0_mustBeThing_8 ⟨Nat.le_of_ble_eq_true rfl, Nat.le_of_ble_eq_true rfl⟩ (fun q9 u9 ee H locs hw_1 hP hD hS => ?_) (fun u_1 H locs hw_1 hP hD hS => ?_)
  · skip
    refine hthr _ _ _ _ _ _ _ q9 () ee ?_ hP hD hS (Nat.le_of_ble_eq_true rfl) (Nat.le_of_ble_eq_true rfl)
    exact hw_1
  · skip
    refine W.widen (k := 1) (n := 7) (Nat.le_of_ble_eq_true rfl) (Nat.le_of_ble_eq_true rfl) ?_
    refine hret _ _ _ _ _ _ () dX0_mustBeThing_11 ?_ hP hD hS (Nat.le_of_ble_eq_true rfl) (Nat.le_of_ble_eq_true rfl)
    exact hw_1
set_option maxHeartbeats 4000000 in
set_option maxRecDepth 100000 in
theorem m_mustStandNow (l : Launch) (hl0 : l.stackTraces = false) (G : xG) (ad : Nat → Nat → Nat) (kd k1 k2 : Nat → Option Nat) (r r1 r2 : Rw) (ho rn ln dr : Int32) (ro lt rf th sb : Nat → Int32) (hr : Ok r) (hp : r 5 3 = 0) (hk : kOk (ad 4) kd r) (t : Nat) (ht : t < mny r) : yCv l G yX0_mustStandNow cX0_mustStandNow 2 none ({ frames := 8, cells := 1, slots := 7, locals := 129 } : Room) [.ref (ad 0 0), .int (nI t)] (wX G ad ho rn ln dr ro lt rf th sb ++ wR G (ad 1) kd r ++ wR G (ad 2) k1 r1 ++ wR G (ad 3) k2 r2 ++ wK (ad 4)) (S := Unit) (SX := Unit) (fun _ => pSt r t = true) (fun _ => (wX G ad ho rn ln dr ro lt rf th sb ++ wR G (ad 1) kd r ++ wR G (ad 2) k1 r1 ++ wR G (ad 3) k2 r2 ++ wK (ad 4))) (fun n _ => pSt r t = false ∧ n = -3) (fun _ => (wX G ad ho rn ln dr ro lt rf th sb ++ wR G (ad 1) kd r ++ wR G (ad 2) k1 r1 ++ wR G (ad 3) k2 r2 ++ wK (ad 4))) := by
  refine y_openv (by decide) (Nat.le_of_ble_eq_true rfl) ?_
  intro p e s m args below meth c A Q ls C0 hK hZ hP hD hA hl hret hthr
  obtain ⟨hx, hb, hml, hown, hts⟩ := id C0
  have hS : va_S A s.heap s.heap [] := va_S.rf
  have hP : va_P G.1 vwCl (wX G ad ho rn ln dr ro lt rf th sb ++ wR G (ad 1) kd r ++ wR G (ad 2) k1 r1 ++ wR G (ad 3) k2 r2 ++ wK (ad 4)) s.heap := hP
  have hD : va_D A (wX G ad ho rn ln dr ro lt rf th sb ++ wR G (ad 1) kd r ++ wR G (ad 2) k1 r1 ++ wR G (ad 3) k2 r2 ++ wK (ad 4)) := hD
  have hl : lv_has ls 2 [(0, .ref (ad 0 0)), (1, .int (nI t))] := hl
  have hr0 := hr.n
  have hN := hr.le
  refine lv_aload_n hx hb dX0_mustStandNow_0 rfl (lv_at hl 0 rfl) ?_
  refine va_get (D := G.1) (ci := 0) (v := .ref ((ad 1) 0)) (C := RX0) (T := TX0) (N := 13) hx hb hts in_X0 hown hK.1 hP 0 rfl rfl 1 (by decide) (hts _ q222) (fun _ h9 => h9) rfl dX0_mustStandNow_1 ?_
  refine lv_iload_n hx hb dX0_mustStandNow_4 rfl (lv_at hl 1 rfl) ?_
  refine x_Vi (wN := fun _ => (wX G ad ho rn ln dr ro lt rf th sb ++ wR G (ad 1) kd r ++ wR G (ad 2) k1 r1 ++ wR G (ad 3) k2 r2 ++ wK (ad 4))) ⟨C0, hK, hP, hD, hS, hA⟩ 7 rfl (ci := 7) rfl rfl ((m_isStanding l G (ad 1) (ad 4) kd r hr hk t (by omega))) (cwV 1 hts (lw_V q744 q558 q559 q94 q560) rfl rfl rfl (by decide +kernel) ⟨Nat.le_of_ble_eq_true rfl, Nat.le_of_ble_eq_true rfl⟩) [7, 8, 9, 10, 11, 12, 25, 26, 27, 28, 29, 30] [0, 2, 4, 6, 8, 10, 12, 1, 3, 5, 7, 9, 11, 26, 28, 30, 32, 34, 36, 38, 40, 42, 44, 46, 48, 13, 15, 17, 19, 21, 23] rfl (fun _ => rfl) rfl rfl hl.1 rfl (Nat.le_of_ble_eq_true rfl) dX0_mustStandNow_5 ⟨Nat.le_of_ble_eq_true rfl, Nat.le_of_ble_eq_true rfl⟩ (fun r_1 u_1 H locs hw_1 hP hD hS => ?_)
  have hw_1 : (bI (pSt r t) : Int32) = r_1 := hw_1.symm
  subst hw_1
  refine lv_bipush (v := (-3)) hx hb dX0_mustStandNow_8 (by decide) ?_
  refine y_Sv (wN := fun _ => (wX G ad ho rn ln dr ro lt rf th sb ++ wR G (ad 1) kd r ++ wR G (ad 2) k1 r1 ++ wR G (ad 3) k2 r2 ++ wK (ad 4))) (wNx := fun u9 => (wX G ad ho rn ln dr ro lt rf th sb ++ wR G (ad 1) kd r ++ wR G (ad 2) k1 r1 ++ wR G (ad 3) k2 r2 ++ wK (ad 4))) ⟨C0, hK, hP, hD, hS, hA⟩ hZ ((m_must l hl0 G (pSt r t) (-3))) (va_cwS 2 hts (lw_S q286 q287 q86 q288) rfl rfl rfl (by decide +kernel) ⟨Nat.le_of_ble_eq_true rfl, Nat.le_of_ble_eq_true rfl⟩) [] [0, 2, 4, 6, 8, 10, 12, 14, 16, 18, 20, 22, 24, 26, 28, 30, 32, 34, 36, 38, 40, 42, 44, 46, 48, 50, 52, 54, 56, 58, 60] [0, 2, 4, 6, 8, 10, 12, 14, 16, 18, 20, 22, 24, 26, 28, 30, 32, 34, 36, 38, 40, 42, 44, 46, 48, 50, 52, 54, 56, 58, 60, 1] rfl (fun _ => rfl) (fun _ _ _ => rfl) rfl rfl rfl hl.1 rfl (Nat.le_of_ble_eq_true rfl) dX0_mustStandNow_10 ⟨Nat.le_of_ble_eq_true rfl, Nat.le_of_ble_eq_true rfl⟩ (fun q9 u9 ee H locs hw_2 hP hD hS => ?_) (fun u_2 H locs hw_2 hP hD hS => ?_)
  · skip
    refine hthr _ _ _ _ _ _ _ q9 () ee ?_ hP hD hS (Nat.le_of_ble_eq_true rfl) (Nat.le_of_ble_eq_true rfl)
    exact hw_2
  · skip
    refine W.widen (k := 1) (n := 7) (Nat.le_of_ble_eq_true rfl) (Nat.le_of_ble_eq_true rfl) ?_
    refine hret _ _ _ _ _ _ () dX0_mustStandNow_13 ?_ hP hD hS (Nat.le_of_ble_eq_true rfl) (Nat.le_of_ble_eq_true rfl)
    exact hw_2

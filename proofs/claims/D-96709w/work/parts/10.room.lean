/-! Room and kinds (printed by tools/room.py) -/
set_option maxHeartbeats 4000000 in
set_option maxRecDepth 100000 in
/-- has(bits, k) -/
theorem m_has (l : Launch) (G : xG) (x : Int32) (k : Nat) : xCi l G yX0_has cX0_has 2 (some .boolean) ({ frames := 0, cells := 0, slots := 0, locals := 0 } : Room) [.int x, .int (nI k)] ([] : va_W) (S := Unit) (fun v _ => v = bI (hs x k)) (fun _ => []) := by
  refine x_openi (by decide) (Nat.le_of_ble_eq_true rfl) (fun _ _ h => by rw [h]; exact bI_z _) ?_
  intro p e s m args below meth c A Q ls C0 hK hP hD hA hl hret
  obtain ⟨hx, hb, hml, hown, hts⟩ := id C0
  have hS : va_S A s.heap s.heap [] := va_S.rf
  have hP : va_P G.1 vwCl ([] : va_W) s.heap := hP
  have hD : va_D A ([] : va_W) := hD
  have hl : lv_has ls 2 [(0, .int x), (1, .int (nI k))] := hl
  refine lv_iload_n hx hb dX0_has_0 rfl (lv_at hl 0 rfl) ?_
  refine lv_iload_n hx hb dX0_has_1 rfl (lv_at hl 1 rfl) ?_
  refine x_ishr hx hb dX0_has_2 (v := x >>> (nI k &&& 31)) rfl ?_
  refine lv_iconst (v := 1) hx hb dX0_has_3 (by decide) ?_
  refine x_iand hx hb dX0_has_4 (v := (x >>> (nI k &&& 31)) &&& 1) rfl ?_
  refine lv_iconst (v := 1) hx hb dX0_has_5 (by decide) ?_
  refine lv_icmp_ne (tgt := 13) hx hb dX0_has_6 (by decide) (fun c_1 => ?_) (fun c_1 => ?_)
  · skip
    refine lv_iconst (v := 0) hx hb dX0_has_13 (by decide) ?_
    refine hret _ _ _ _ _ _ 0 () dX0_has_14 ?_ hP hD hS (Nat.le_of_ble_eq_true rfl) (Nat.le_of_ble_eq_true rfl)
    exact bI_F (by simpa [hs] using c_1)
  · skip
    refine lv_iconst (v := 1) hx hb dX0_has_9 (by decide) ?_
    refine lv_goto (tgt := 14) hx hb dX0_has_10 (by decide) ?_
    refine hret _ _ _ _ _ _ 1 () dX0_has_14 ?_ hP hD hS (Nat.le_of_ble_eq_true rfl) (Nat.le_of_ble_eq_true rfl)
    exact bI_T (by simpa [hs] using c_1)
set_option maxHeartbeats 4000000 in
set_option maxRecDepth 100000 in
theorem m_X2_habit (l : Launch) (G : xG) (o ci : Nat) (q9 : vw_C) (hci : vwCl[ci]? = some q9) (f : Int32) (b : Bool) : xCi l G yX2_habit cX2_habit 3 (some .int) ({ frames := 0, cells := 0, slots := 0, locals := 0 } : Room) [.ref o, .int f, .int (bI b)] ([(o, .inr (ci, []))]) (S := Unit) (fun v _ => v = (f / 3)) (fun _ => [(o, .inr (ci, []))]) := by
  refine x_openi (by decide) (Nat.le_of_ble_eq_true rfl) (fun _ _ _ => rfl) ?_
  intro p e s m args below meth c A Q ls C0 hK hP hD hA hl hret
  obtain ⟨hx, hb, hml, hown, hts⟩ := id C0
  have hS : va_S A s.heap s.heap [] := va_S.rf
  have hP : va_P G.1 vwCl ([(o, .inr (ci, []))]) s.heap := hP
  have hD : va_D A ([(o, .inr (ci, []))]) := hD
  have hl : lv_has ls 3 [(0, .ref o), (1, .int f), (2, .int (bI b))] := hl
  refine lv_iload_n hx hb dX2_habit_0 rfl (lv_at hl 1 rfl) ?_
  refine lv_iconst (v := 3) hx hb dX2_habit_1 (by decide) ?_
  refine x_idiv hx hb dX2_habit_2 (by decide) (v := f / 3) rfl ?_
  refine hret _ _ _ _ _ _ (f / 3) () dX2_habit_3 ?_ hP hD hS (Nat.le_of_ble_eq_true rfl) (Nat.le_of_ble_eq_true rfl)
  rfl
set_option maxHeartbeats 4000000 in
set_option maxRecDepth 100000 in
theorem m_X3_habit (l : Launch) (G : xG) (o ci : Nat) (q9 : vw_C) (hci : vwCl[ci]? = some q9) (f : Int32) (b : Bool) : xCi l G yX3_habit cX3_habit 3 (some .int) ({ frames := 1, cells := 0, slots := 0, locals := 22 } : Room) [.ref o, .int f, .int (bI b)] ([(o, .inr (ci, []))]) (S := Unit) (fun v _ => v = (pG f)) (fun _ => [(o, .inr (ci, []))]) := by
  refine x_openi (by decide) (Nat.le_of_ble_eq_true rfl) (fun _ _ _ => rfl) ?_
  intro p e s m args below meth c A Q ls C0 hK hP hD hA hl hret
  obtain ⟨hx, hb, hml, hown, hts⟩ := id C0
  have hS : va_S A s.heap s.heap [] := va_S.rf
  have hP : va_P G.1 vwCl ([(o, .inr (ci, []))]) s.heap := hP
  have hD : va_D A ([(o, .inr (ci, []))]) := hD
  have hl : lv_has ls 3 [(0, .ref o), (1, .int f), (2, .int (bI b))] := hl
  refine lv_iconst (v := 0) hx hb dX3_habit_0 (by decide) ?_
  refine lv_aload_n hx hb dX3_habit_1 rfl (lv_at hl 0 rfl) ?_
  refine lv_iload_n hx hb dX3_habit_2 rfl (lv_at hl 1 rfl) ?_
  refine lv_iload_n hx hb dX3_habit_3 rfl (lv_at hl 2 rfl) ?_
  refine x_SUi (wN := fun _ => ([(o, .inr (ci, []))])) ⟨C0, hK, hP, hD, hS, hA⟩ 0 rfl (ci := ci) hci rfl ((m_X2_habit l G o ci _ hci f b)) (va_cwSU 2 hts (lw_SU q655 q1486 q138 q656 q88 q657) rfl rfl rfl (by decide +kernel) ⟨Nat.le_of_ble_eq_true rfl, Nat.le_of_ble_eq_true rfl⟩) [0] [1] rfl (fun _ => rfl) rfl rfl hl.1 rfl (Nat.le_of_ble_eq_true rfl) dX3_habit_4 ⟨Nat.le_of_ble_eq_true rfl, Nat.le_of_ble_eq_true rfl⟩ (fun r_1 u_1 H locs hw_1 hP hD hS => ?_)
  have hw_1 : (f / 3 : Int32) = r_1 := hw_1.symm
  subst hw_1
  refine lv_iconst (v := 1) hx hb dX3_habit_7 (by decide) ?_
  refine x_isub hx hb dX3_habit_8 (v := (f / 3) - 1) rfl ?_
  refine va_mmax hx hb (by rw [hml]; exact hl.1.symm) hown (hts _ q658) (hts _ q659) (hts _ q111) (hts _ q660) (Nat.le_of_ble_eq_true rfl) (Nat.le_of_ble_eq_true rfl) (Nat.le_of_ble_eq_true rfl) (Nat.le_of_ble_eq_true rfl) dX3_habit_9 ?_
  refine hret _ _ _ _ _ _ (if 0 < ((f / 3) - 1) then (f / 3) - 1 else 0) () dX3_habit_12 ?_ hP hD hS (Nat.le_of_ble_eq_true rfl) (Nat.le_of_ble_eq_true rfl)
  rfl
set_option maxHeartbeats 4000000 in
set_option maxRecDepth 100000 in
theorem m_X4_habit (l : Launch) (G : xG) (o ci : Nat) (q9 : vw_C) (hci : vwCl[ci]? = some q9) (f : Int32) (b : Bool) : xCi l G yX4_habit cX4_habit 3 (some .int) ({ frames := 1, cells := 0, slots := 0, locals := 22 } : Room) [.ref o, .int f, .int (bI b)] ([(o, .inr (ci, []))]) (S := Unit) (fun v _ => v = (f / 3 + f)) (fun _ => [(o, .inr (ci, []))]) := by
  refine x_openi (by decide) (Nat.le_of_ble_eq_true rfl) (fun _ _ _ => rfl) ?_
  intro p e s m args below meth c A Q ls C0 hK hP hD hA hl hret
  obtain ⟨hx, hb, hml, hown, hts⟩ := id C0
  have hS : va_S A s.heap s.heap [] := va_S.rf
  have hP : va_P G.1 vwCl ([(o, .inr (ci, []))]) s.heap := hP
  have hD : va_D A ([(o, .inr (ci, []))]) := hD
  have hl : lv_has ls 3 [(0, .ref o), (1, .int f), (2, .int (bI b))] := hl
  refine lv_aload_n hx hb dX4_habit_0 rfl (lv_at hl 0 rfl) ?_
  refine lv_iload_n hx hb dX4_habit_1 rfl (lv_at hl 1 rfl) ?_
  refine lv_iload_n hx hb dX4_habit_2 rfl (lv_at hl 2 rfl) ?_
  refine x_SUi (wN := fun _ => ([(o, .inr (ci, []))])) ⟨C0, hK, hP, hD, hS, hA⟩ 0 rfl (ci := ci) hci rfl ((m_X2_habit l G o ci _ hci f b)) (va_cwSU 2 hts (lw_SU q667 q1486 q145 q656 q88 q657) rfl rfl rfl (by decide +kernel) ⟨Nat.le_of_ble_eq_true rfl, Nat.le_of_ble_eq_true rfl⟩) [0] [1] rfl (fun _ => rfl) rfl rfl hl.1 rfl (Nat.le_of_ble_eq_true rfl) dX4_habit_3 ⟨Nat.le_of_ble_eq_true rfl, Nat.le_of_ble_eq_true rfl⟩ (fun r_1 u_1 H locs hw_1 hP hD hS => ?_)
  have hw_1 : (f / 3 : Int32) = r_1 := hw_1.symm
  subst hw_1
  refine lv_iload_n hx hb dX4_habit_6 rfl (lv_at hl 1 rfl) ?_
  refine x_iadd hx hb dX4_habit_7 (v := (f / 3) + f) rfl ?_
  refine hret _ _ _ _ _ _ ((f / 3) + f) () dX4_habit_8 ?_ hP hD hS (Nat.le_of_ble_eq_true rfl) (Nat.le_of_ble_eq_true rfl)
  rfl
set_option maxHeartbeats 4000000 in
set_option maxRecDepth 100000 in
theorem m_X5_habit (l : Launch) (G : xG) (o ci : Nat) (q9 : vw_C) (hci : vwCl[ci]? = some q9) (f : Int32) (b : Bool) : xCi l G yX5_habit cX5_habit 3 (some .int) ({ frames := 2, cells := 0, slots := 0, locals := 44 } : Room) [.ref o, .int f, .int (bI b)] ([(o, .inr (ci, []))]) (S := Unit) (fun v _ => v = (f / 3 + f + 20)) (fun _ => [(o, .inr (ci, []))]) := by
  refine x_openi (by decide) (Nat.le_of_ble_eq_true rfl) (fun _ _ _ => rfl) ?_
  intro p e s m args below meth c A Q ls C0 hK hP hD hA hl hret
  obtain ⟨hx, hb, hml, hown, hts⟩ := id C0
  have hS : va_S A s.heap s.heap [] := va_S.rf
  have hP : va_P G.1 vwCl ([(o, .inr (ci, []))]) s.heap := hP
  have hD : va_D A ([(o, .inr (ci, []))]) := hD
  have hl : lv_has ls 3 [(0, .ref o), (1, .int f), (2, .int (bI b))] := hl
  refine lv_aload_n hx hb dX5_habit_0 rfl (lv_at hl 0 rfl) ?_
  refine lv_iload_n hx hb dX5_habit_1 rfl (lv_at hl 1 rfl) ?_
  refine lv_iload_n hx hb dX5_habit_2 rfl (lv_at hl 2 rfl) ?_
  refine x_SUi (wN := fun _ => ([(o, .inr (ci, []))])) ⟨C0, hK, hP, hD, hS, hA⟩ 0 rfl (ci := ci) hci rfl ((m_X4_habit l G o ci _ hci f b)) (va_cwSU 2 hts (lw_SU q664 q1487 q152 q665 q90 q666) rfl rfl rfl (by decide +kernel) ⟨Nat.le_of_ble_eq_true rfl, Nat.le_of_ble_eq_true rfl⟩) [0] [1] rfl (fun _ => rfl) rfl rfl hl.1 rfl (Nat.le_of_ble_eq_true rfl) dX5_habit_3 ⟨Nat.le_of_ble_eq_true rfl, Nat.le_of_ble_eq_true rfl⟩ (fun r_1 u_1 H locs hw_1 hP hD hS => ?_)
  have hw_1 : (f / 3 + f : Int32) = r_1 := hw_1.symm
  subst hw_1
  refine lv_bipush (v := 20) hx hb dX5_habit_6 (by decide) ?_
  refine x_iadd hx hb dX5_habit_8 (v := (f / 3 + f) + 20) rfl ?_
  refine hret _ _ _ _ _ _ ((f / 3 + f) + 20) () dX5_habit_9 ?_ hP hD hS (Nat.le_of_ble_eq_true rfl) (Nat.le_of_ble_eq_true rfl)
  rfl
set_option maxHeartbeats 4000000 in
set_option maxRecDepth 100000 in
theorem m_X6_habit (l : Launch) (G : xG) (o ci : Nat) (q9 : vw_C) (hci : vwCl[ci]? = some q9) (f : Int32) (b : Bool) : xCi l G yX6_habit cX6_habit 3 (some .int) ({ frames := 2, cells := 0, slots := 0, locals := 44 } : Room) [.ref o, .int f, .int (bI b)] ([(o, .inr (ci, []))]) (S := Unit) (fun v _ => v = (if b = true then 0 else f / 3 + f)) (fun _ => [(o, .inr (ci, []))]) := by
  refine x_openi (by decide) (Nat.le_of_ble_eq_true rfl) (fun _ _ _ => rfl) ?_
  intro p e s m args below meth c A Q ls C0 hK hP hD hA hl hret
  obtain ⟨hx, hb, hml, hown, hts⟩ := id C0
  have hS : va_S A s.heap s.heap [] := va_S.rf
  have hP : va_P G.1 vwCl ([(o, .inr (ci, []))]) s.heap := hP
  have hD : va_D A ([(o, .inr (ci, []))]) := hD
  have hl : lv_has ls 3 [(0, .ref o), (1, .int f), (2, .int (bI b))] := hl
  refine lv_iload_n hx hb dX6_habit_0 rfl (lv_at hl 2 rfl) ?_
  refine lv_if_eq (tgt := 8) hx hb dX6_habit_1 (by decide) (fun c_1 => ?_) (fun c_1 => ?_)
  · skip
    refine lv_aload_n hx hb dX6_habit_8 rfl (lv_at hl 0 rfl) ?_
    refine lv_iload_n hx hb dX6_habit_9 rfl (lv_at hl 1 rfl) ?_
    refine lv_iload_n hx hb dX6_habit_10 rfl (lv_at hl 2 rfl) ?_
    refine x_SUi (wN := fun _ => ([(o, .inr (ci, []))])) ⟨C0, hK, hP, hD, hS, hA⟩ 0 rfl (ci := ci) hci rfl ((m_X4_habit l G o ci _ hci f b)) (va_cwSU 2 hts (lw_SU q674 q1487 q159 q665 q90 q666) rfl rfl rfl (by decide +kernel) ⟨Nat.le_of_ble_eq_true rfl, Nat.le_of_ble_eq_true rfl⟩) [0] [1] rfl (fun _ => rfl) rfl rfl hl.1 rfl (Nat.le_of_ble_eq_true rfl) dX6_habit_11 ⟨Nat.le_of_ble_eq_true rfl, Nat.le_of_ble_eq_true rfl⟩ (fun r_2 u_2 H locs hw_2 hP hD hS => ?_)
    have hw_2 : (f / 3 + f : Int32) = r_2 := hw_2.symm
    subst hw_2
    refine hret _ _ _ _ _ _ (f / 3 + f) () dX6_habit_14 ?_ hP hD hS (Nat.le_of_ble_eq_true rfl) (Nat.le_of_ble_eq_true rfl)
    simp only [ne_eq, bI_0] at c_1
    simp [c_1]
  · skip
    refine lv_iconst (v := 0) hx hb dX6_habit_4 (by decide) ?_
    refine lv_goto (tgt := 14) hx hb dX6_habit_5 (by decide) ?_
    refine hret _ _ _ _ _ _ 0 () dX6_habit_14 ?_ hP hD hS (Nat.le_of_ble_eq_true rfl) (Nat.le_of_ble_eq_true rfl)
    simp only [ne_eq, bI_0] at c_1
    simp [c_1]
set_option maxHeartbeats 4000000 in
set_option maxRecDepth 100000 in
theorem m_X7_habit (l : Launch) (G : xG) (o ci : Nat) (q9 : vw_C) (hci : vwCl[ci]? = some q9) (f : Int32) (b : Bool) : xCi l G yX7_habit cX7_habit 3 (some .int) ({ frames := 2, cells := 0, slots := 0, locals := 44 } : Room) [.ref o, .int f, .int (bI b)] ([(o, .inr (ci, []))]) (S := Unit) (fun v _ => v = (pG f + 2)) (fun _ => [(o, .inr (ci, []))]) := by
  refine x_openi (by decide) (Nat.le_of_ble_eq_true rfl) (fun _ _ _ => rfl) ?_
  intro p e s m args below meth c A Q ls C0 hK hP hD hA hl hret
  obtain ⟨hx, hb, hml, hown, hts⟩ := id C0
  have hS : va_S A s.heap s.heap [] := va_S.rf
  have hP : va_P G.1 vwCl ([(o, .inr (ci, []))]) s.heap := hP
  have hD : va_D A ([(o, .inr (ci, []))]) := hD
  have hl : lv_has ls 3 [(0, .ref o), (1, .int f), (2, .int (bI b))] := hl
  refine lv_aload_n hx hb dX7_habit_0 rfl (lv_at hl 0 rfl) ?_
  refine lv_iload_n hx hb dX7_habit_1 rfl (lv_at hl 1 rfl) ?_
  refine lv_iload_n hx hb dX7_habit_2 rfl (lv_at hl 2 rfl) ?_
  refine x_SUi (wN := fun _ => ([(o, .inr (ci, []))])) ⟨C0, hK, hP, hD, hS, hA⟩ 0 rfl (ci := ci) hci rfl ((m_X3_habit l G o ci _ hci f b)) (va_cwSU 2 hts (lw_SU q652 q1485 q166 q653 q89 q654) rfl rfl rfl (by decide +kernel) ⟨Nat.le_of_ble_eq_true rfl, Nat.le_of_ble_eq_true rfl⟩) [0] [1] rfl (fun _ => rfl) rfl rfl hl.1 rfl (Nat.le_of_ble_eq_true rfl) dX7_habit_3 ⟨Nat.le_of_ble_eq_true rfl, Nat.le_of_ble_eq_true rfl⟩ (fun r_1 u_1 H locs hw_1 hP hD hS => ?_)
  have hw_1 : (pG f : Int32) = r_1 := hw_1.symm
  subst hw_1
  refine lv_iconst (v := 2) hx hb dX7_habit_6 (by decide) ?_
  refine x_iadd hx hb dX7_habit_7 (v := (pG f) + 2) rfl ?_
  refine hret _ _ _ _ _ _ ((pG f) + 2) () dX7_habit_8 ?_ hP hD hS (Nat.le_of_ble_eq_true rfl) (Nat.le_of_ble_eq_true rfl)
  rfl
set_option maxHeartbeats 4000000 in
set_option maxRecDepth 100000 in
theorem m_X2_grip (l : Launch) (G : xG) (o ci : Nat) (q9 : vw_C) (hci : vwCl[ci]? = some q9) (f : Int32) : xCi l G yX2_grip cX2_grip 2 (some .int) ({ frames := 0, cells := 0, slots := 0, locals := 0 } : Room) [.ref o, .int f] ([(o, .inr (ci, []))]) (S := Unit) (fun v _ => v = f) (fun _ => [(o, .inr (ci, []))]) := by
  refine x_openi (by decide) (Nat.le_of_ble_eq_true rfl) (fun _ _ _ => rfl) ?_
  intro p e s m args below meth c A Q ls C0 hK hP hD hA hl hret
  obtain ⟨hx, hb, hml, hown, hts⟩ := id C0
  have hS : va_S A s.heap s.heap [] := va_S.rf
  have hP : va_P G.1 vwCl ([(o, .inr (ci, []))]) s.heap := hP
  have hD : va_D A ([(o, .inr (ci, []))]) := hD
  have hl : lv_has ls 2 [(0, .ref o), (1, .int f)] := hl
  refine lv_iload_n hx hb dX2_grip_0 rfl (lv_at hl 1 rfl) ?_
  refine hret _ _ _ _ _ _ f () dX2_grip_1 ?_ hP hD hS (Nat.le_of_ble_eq_true rfl) (Nat.le_of_ble_eq_true rfl)
  rfl
set_option maxHeartbeats 4000000 in
set_option maxRecDepth 100000 in
theorem m_X3_grip (l : Launch) (G : xG) (o ci : Nat) (q9 : vw_C) (hci : vwCl[ci]? = some q9) (f : Int32) : xCi l G yX3_grip cX3_grip 2 (some .int) ({ frames := 1, cells := 0, slots := 0, locals := 21 } : Room) [.ref o, .int f] ([(o, .inr (ci, []))]) (S := Unit) (fun v _ => v = 9 - f) (fun _ => [(o, .inr (ci, []))]) := by
  refine x_openi (by decide) (Nat.le_of_ble_eq_true rfl) (fun _ _ _ => rfl) ?_
  intro p e s m args below meth c A Q ls C0 hK hP hD hA hl hret
  obtain ⟨hx, hb, hml, hown, hts⟩ := id C0
  have hS : va_S A s.heap s.heap [] := va_S.rf
  have hP : va_P G.1 vwCl ([(o, .inr (ci, []))]) s.heap := hP
  have hD : va_D A ([(o, .inr (ci, []))]) := hD
  have hl : lv_has ls 2 [(0, .ref o), (1, .int f)] := hl
  refine lv_bipush (v := 9) hx hb dX3_grip_0 (by decide) ?_
  refine lv_aload_n hx hb dX3_grip_2 rfl (lv_at hl 0 rfl) ?_
  refine lv_iload_n hx hb dX3_grip_3 rfl (lv_at hl 1 rfl) ?_
  refine x_SUi (wN := fun _ => ([(o, .inr (ci, []))])) ⟨C0, hK, hP, hD, hS, hA⟩ 0 rfl (ci := ci) hci rfl ((m_X2_grip l G o ci _ hci f)) (va_cwSU 1 hts (lw_SU q603 q1484 q138 q604 q88 q605) rfl rfl rfl (by decide +kernel) ⟨Nat.le_of_ble_eq_true rfl, Nat.le_of_ble_eq_true rfl⟩) [0] [1] rfl (fun _ => rfl) rfl rfl hl.1 rfl (Nat.le_of_ble_eq_true rfl) dX3_grip_4 ⟨Nat.le_of_ble_eq_true rfl, Nat.le_of_ble_eq_true rfl⟩ (fun r_1 u_1 H locs hw_1 hP hD hS => ?_)
  have hw_1 : (f : Int32) = r_1 := hw_1.symm
  subst hw_1
  refine x_isub hx hb dX3_grip_7 (v := 9 - f) rfl ?_
  refine hret _ _ _ _ _ _ (9 - f) () dX3_grip_8 ?_ hP hD hS (Nat.le_of_ble_eq_true rfl) (Nat.le_of_ble_eq_true rfl)
  rfl
set_option maxHeartbeats 4000000 in
set_option maxRecDepth 100000 in
theorem m_X4_grip (l : Launch) (G : xG) (o ci : Nat) (q9 : vw_C) (hci : vwCl[ci]? = some q9) (f : Int32) : xCi l G yX4_grip cX4_grip 2 (some .int) ({ frames := 1, cells := 0, slots := 0, locals := 21 } : Room) [.ref o, .int f] ([(o, .inr (ci, []))]) (S := Unit) (fun v _ => v = f / 2) (fun _ => [(o, .inr (ci, []))]) := by
  refine x_openi (by decide) (Nat.le_of_ble_eq_true rfl) (fun _ _ _ => rfl) ?_
  intro p e s m args below meth c A Q ls C0 hK hP hD hA hl hret
  obtain ⟨hx, hb, hml, hown, hts⟩ := id C0
  have hS : va_S A s.heap s.heap [] := va_S.rf
  have hP : va_P G.1 vwCl ([(o, .inr (ci, []))]) s.heap := hP
  have hD : va_D A ([(o, .inr (ci, []))]) := hD
  have hl : lv_has ls 2 [(0, .ref o), (1, .int f)] := hl
  refine lv_aload_n hx hb dX4_grip_0 rfl (lv_at hl 0 rfl) ?_
  refine lv_iload_n hx hb dX4_grip_1 rfl (lv_at hl 1 rfl) ?_
  refine x_SUi (wN := fun _ => ([(o, .inr (ci, []))])) ⟨C0, hK, hP, hD, hS, hA⟩ 0 rfl (ci := ci) hci rfl ((m_X2_grip l G o ci _ hci f)) (va_cwSU 1 hts (lw_SU q613 q1484 q145 q604 q88 q605) rfl rfl rfl (by decide +kernel) ⟨Nat.le_of_ble_eq_true rfl, Nat.le_of_ble_eq_true rfl⟩) [0] [1] rfl (fun _ => rfl) rfl rfl hl.1 rfl (Nat.le_of_ble_eq_true rfl) dX4_grip_2 ⟨Nat.le_of_ble_eq_true rfl, Nat.le_of_ble_eq_true rfl⟩ (fun r_1 u_1 H locs hw_1 hP hD hS => ?_)
  have hw_1 : (f : Int32) = r_1 := hw_1.symm
  subst hw_1
  refine lv_iconst (v := 2) hx hb dX4_grip_5 (by decide) ?_
  refine x_idiv hx hb dX4_grip_6 (by decide) (v := f / 2) rfl ?_
  refine hret _ _ _ _ _ _ (f / 2) () dX4_grip_7 ?_ hP hD hS (Nat.le_of_ble_eq_true rfl) (Nat.le_of_ble_eq_true rfl)
  rfl
set_option maxHeartbeats 4000000 in
set_option maxRecDepth 100000 in
theorem m_X5_grip (l : Launch) (G : xG) (o ci : Nat) (q9 : vw_C) (hci : vwCl[ci]? = some q9) (f : Int32) : xCi l G yX5_grip cX5_grip 2 (some .int) ({ frames := 0, cells := 0, slots := 0, locals := 0 } : Room) [.ref o, .int f] ([(o, .inr (ci, []))]) (S := Unit) (fun v _ => v = 0) (fun _ => [(o, .inr (ci, []))]) := by
  refine x_openi (by decide) (Nat.le_of_ble_eq_true rfl) (fun _ _ _ => rfl) ?_
  intro p e s m args below meth c A Q ls C0 hK hP hD hA hl hret
  obtain ⟨hx, hb, hml, hown, hts⟩ := id C0
  have hS : va_S A s.heap s.heap [] := va_S.rf
  have hP : va_P G.1 vwCl ([(o, .inr (ci, []))]) s.heap := hP
  have hD : va_D A ([(o, .inr (ci, []))]) := hD
  have hl : lv_has ls 2 [(0, .ref o), (1, .int f)] := hl
  refine lv_iconst (v := 0) hx hb dX5_grip_0 (by decide) ?_
  refine hret _ _ _ _ _ _ 0 () dX5_grip_1 ?_ hP hD hS (Nat.le_of_ble_eq_true rfl) (Nat.le_of_ble_eq_true rfl)
  rfl
set_option maxHeartbeats 4000000 in
set_option maxRecDepth 100000 in
theorem m_X7_grip (l : Launch) (G : xG) (o ci : Nat) (q9 : vw_C) (hci : vwCl[ci]? = some q9) (f : Int32) : xCi l G yX7_grip cX7_grip 2 (some .int) ({ frames := 2, cells := 0, slots := 0, locals := 42 } : Room) [.ref o, .int f] ([(o, .inr (ci, []))]) (S := Unit) (fun v _ => v = 9 - f + 1) (fun _ => [(o, .inr (ci, []))]) := by
  refine x_openi (by decide) (Nat.le_of_ble_eq_true rfl) (fun _ _ _ => rfl) ?_
  intro p e s m args below meth c A Q ls C0 hK hP hD hA hl hret
  obtain ⟨hx, hb, hml, hown, hts⟩ := id C0
  have hS : va_S A s.heap s.heap [] := va_S.rf
  have hP : va_P G.1 vwCl ([(o, .inr (ci, []))]) s.heap := hP
  have hD : va_D A ([(o, .inr (ci, []))]) := hD
  have hl : lv_has ls 2 [(0, .ref o), (1, .int f)] := hl
  refine lv_aload_n hx hb dX7_grip_0 rfl (lv_at hl 0 rfl) ?_
  refine lv_iload_n hx hb dX7_grip_1 rfl (lv_at hl 1 rfl) ?_
  refine x_SUi (wN := fun _ => ([(o, .inr (ci, []))])) ⟨C0, hK, hP, hD, hS, hA⟩ 0 rfl (ci := ci) hci rfl ((m_X3_grip l G o ci _ hci f)) (va_cwSU 1 hts (lw_SU q600 q1483 q166 q601 q89 q602) rfl rfl rfl (by decide +kernel) ⟨Nat.le_of_ble_eq_true rfl, Nat.le_of_ble_eq_true rfl⟩) [0] [1] rfl (fun _ => rfl) rfl rfl hl.1 rfl (Nat.le_of_ble_eq_true rfl) dX7_grip_2 ⟨Nat.le_of_ble_eq_true rfl, Nat.le_of_ble_eq_true rfl⟩ (fun r_1 u_1 H locs hw_1 hP hD hS => ?_)
  have hw_1 : (9 - f : Int32) = r_1 := hw_1.symm
  subst hw_1
  refine lv_iconst (v := 1) hx hb dX7_grip_5 (by decide) ?_
  refine x_iadd hx hb dX7_grip_6 (v := (9 - f) + 1) rfl ?_
  refine hret _ _ _ _ _ _ ((9 - f) + 1) () dX7_grip_7 ?_ hP hD hS (Nat.le_of_ble_eq_true rfl) (Nat.le_of_ble_eq_true rfl)
  rfl
set_option maxHeartbeats 4000000 in
set_option maxRecDepth 100000 in
theorem m_X2_kind (l : Launch) (G : xG) (o ci : Nat) (q9 : vw_C) (hci : vwCl[ci]? = some q9) : xCi l G yX2_kind cX2_kind 1 (some .int) ({ frames := 0, cells := 0, slots := 0, locals := 0 } : Room) [.ref o] ([(o, .inr (ci, []))]) (S := Unit) (fun v _ => v = nI 0) (fun _ => [(o, .inr (ci, []))]) := by
  refine x_openi (by decide) (Nat.le_of_ble_eq_true rfl) (fun _ _ _ => rfl) ?_
  intro p e s m args below meth c A Q ls C0 hK hP hD hA hl hret
  obtain ⟨hx, hb, hml, hown, hts⟩ := id C0
  have hS : va_S A s.heap s.heap [] := va_S.rf
  have hP : va_P G.1 vwCl ([(o, .inr (ci, []))]) s.heap := hP
  have hD : va_D A ([(o, .inr (ci, []))]) := hD
  have hl : lv_has ls 1 [(0, .ref o)] := hl
  refine lv_iconst (v := 0) hx hb dX2_kind_0 (by decide) ?_
  refine hret _ _ _ _ _ _ 0 () dX2_kind_1 ?_ hP hD hS (Nat.le_of_ble_eq_true rfl) (Nat.le_of_ble_eq_true rfl)
  rfl
set_option maxHeartbeats 4000000 in
set_option maxRecDepth 100000 in
theorem m_X3_kind (l : Launch) (G : xG) (o ci : Nat) (q9 : vw_C) (hci : vwCl[ci]? = some q9) : xCi l G yX3_kind cX3_kind 1 (some .int) ({ frames := 0, cells := 0, slots := 0, locals := 0 } : Room) [.ref o] ([(o, .inr (ci, []))]) (S := Unit) (fun v _ => v = nI 1) (fun _ => [(o, .inr (ci, []))]) := by
  refine x_openi (by decide) (Nat.le_of_ble_eq_true rfl) (fun _ _ _ => rfl) ?_
  intro p e s m args below meth c A Q ls C0 hK hP hD hA hl hret
  obtain ⟨hx, hb, hml, hown, hts⟩ := id C0
  have hS : va_S A s.heap s.heap [] := va_S.rf
  have hP : va_P G.1 vwCl ([(o, .inr (ci, []))]) s.heap := hP
  have hD : va_D A ([(o, .inr (ci, []))]) := hD
  have hl : lv_has ls 1 [(0, .ref o)] := hl
  refine lv_iconst (v := 1) hx hb dX3_kind_0 (by decide) ?_
  refine hret _ _ _ _ _ _ 1 () dX3_kind_1 ?_ hP hD hS (Nat.le_of_ble_eq_true rfl) (Nat.le_of_ble_eq_true rfl)
  rfl
set_option maxHeartbeats 4000000 in
set_option maxRecDepth 100000 in
theorem m_X4_kind (l : Launch) (G : xG) (o ci : Nat) (q9 : vw_C) (hci : vwCl[ci]? = some q9) : xCi l G yX4_kind cX4_kind 1 (some .int) ({ frames := 0, cells := 0, slots := 0, locals := 0 } : Room) [.ref o] ([(o, .inr (ci, []))]) (S := Unit) (fun v _ => v = nI 2) (fun _ => [(o, .inr (ci, []))]) := by
  refine x_openi (by decide) (Nat.le_of_ble_eq_true rfl) (fun _ _ _ => rfl) ?_
  intro p e s m args below meth c A Q ls C0 hK hP hD hA hl hret
  obtain ⟨hx, hb, hml, hown, hts⟩ := id C0
  have hS : va_S A s.heap s.heap [] := va_S.rf
  have hP : va_P G.1 vwCl ([(o, .inr (ci, []))]) s.heap := hP
  have hD : va_D A ([(o, .inr (ci, []))]) := hD
  have hl : lv_has ls 1 [(0, .ref o)] := hl
  refine lv_iconst (v := 2) hx hb dX4_kind_0 (by decide) ?_
  refine hret _ _ _ _ _ _ 2 () dX4_kind_1 ?_ hP hD hS (Nat.le_of_ble_eq_true rfl) (Nat.le_of_ble_eq_true rfl)
  rfl
set_option maxHeartbeats 4000000 in
set_option maxRecDepth 100000 in
theorem m_X5_kind (l : Launch) (G : xG) (o ci : Nat) (q9 : vw_C) (hci : vwCl[ci]? = some q9) : xCi l G yX5_kind cX5_kind 1 (some .int) ({ frames := 0, cells := 0, slots := 0, locals := 0 } : Room) [.ref o] ([(o, .inr (ci, []))]) (S := Unit) (fun v _ => v = nI 3) (fun _ => [(o, .inr (ci, []))]) := by
  refine x_openi (by decide) (Nat.le_of_ble_eq_true rfl) (fun _ _ _ => rfl) ?_
  intro p e s m args below meth c A Q ls C0 hK hP hD hA hl hret
  obtain ⟨hx, hb, hml, hown, hts⟩ := id C0
  have hS : va_S A s.heap s.heap [] := va_S.rf
  have hP : va_P G.1 vwCl ([(o, .inr (ci, []))]) s.heap := hP
  have hD : va_D A ([(o, .inr (ci, []))]) := hD
  have hl : lv_has ls 1 [(0, .ref o)] := hl
  refine lv_iconst (v := 3) hx hb dX5_kind_0 (by decide) ?_
  refine hret _ _ _ _ _ _ 3 () dX5_kind_1 ?_ hP hD hS (Nat.le_of_ble_eq_true rfl) (Nat.le_of_ble_eq_true rfl)
  rfl
set_option maxHeartbeats 4000000 in
set_option maxRecDepth 100000 in
theorem m_X6_kind (l : Launch) (G : xG) (o ci : Nat) (q9 : vw_C) (hci : vwCl[ci]? = some q9) : xCi l G yX6_kind cX6_kind 1 (some .int) ({ frames := 0, cells := 0, slots := 0, locals := 0 } : Room) [.ref o] ([(o, .inr (ci, []))]) (S := Unit) (fun v _ => v = nI 4) (fun _ => [(o, .inr (ci, []))]) := by
  refine x_openi (by decide) (Nat.le_of_ble_eq_true rfl) (fun _ _ _ => rfl) ?_
  intro p e s m args below meth c A Q ls C0 hK hP hD hA hl hret
  obtain ⟨hx, hb, hml, hown, hts⟩ := id C0
  have hS : va_S A s.heap s.heap [] := va_S.rf
  have hP : va_P G.1 vwCl ([(o, .inr (ci, []))]) s.heap := hP
  have hD : va_D A ([(o, .inr (ci, []))]) := hD
  have hl : lv_has ls 1 [(0, .ref o)] := hl
  refine lv_iconst (v := 4) hx hb dX6_kind_0 (by decide) ?_
  refine hret _ _ _ _ _ _ 4 () dX6_kind_1 ?_ hP hD hS (Nat.le_of_ble_eq_true rfl) (Nat.le_of_ble_eq_true rfl)
  rfl
set_option maxHeartbeats 4000000 in
set_option maxRecDepth 100000 in
theorem m_X7_kind (l : Launch) (G : xG) (o ci : Nat) (q9 : vw_C) (hci : vwCl[ci]? = some q9) : xCi l G yX7_kind cX7_kind 1 (some .int) ({ frames := 0, cells := 0, slots := 0, locals := 0 } : Room) [.ref o] ([(o, .inr (ci, []))]) (S := Unit) (fun v _ => v = nI 5) (fun _ => [(o, .inr (ci, []))]) := by
  refine x_openi (by decide) (Nat.le_of_ble_eq_true rfl) (fun _ _ _ => rfl) ?_
  intro p e s m args below meth c A Q ls C0 hK hP hD hA hl hret
  obtain ⟨hx, hb, hml, hown, hts⟩ := id C0
  have hS : va_S A s.heap s.heap [] := va_S.rf
  have hP : va_P G.1 vwCl ([(o, .inr (ci, []))]) s.heap := hP
  have hD : va_D A ([(o, .inr (ci, []))]) := hD
  have hl : lv_has ls 1 [(0, .ref o)] := hl
  refine lv_iconst (v := 5) hx hb dX7_kind_0 (by decide) ?_
  refine hret _ _ _ _ _ _ 5 () dX7_kind_1 ?_ hP hD hS (Nat.le_of_ble_eq_true rfl) (Nat.le_of_ble_eq_true rfl)
  rfl
set_option maxHeartbeats 4000000 in
set_option maxRecDepth 100000 in
theorem m_isStanding (l : Launch) (G : xG) (a ka : Nat → Nat) (kd : Nat → Option Nat) (r : Rw) (hr : Ok r) (hk : kOk ka kd r) (k : Nat) (hk1 : k < 10) : xCi l G yX8_isStanding cX8_isStanding 2 (some .boolean) ({ frames := 0, cells := 0, slots := 0, locals := 0 } : Room) [.ref (a 0), .int (nI k)] (wR G a kd r ++ wK ka) (S := Unit) (fun v _ => v = bI (pSt r k)) (fun _ => wR G a kd r ++ wK ka) := by
  refine x_openi (by decide) (Nat.le_of_ble_eq_true rfl) (fun _ _ h => by rw [h]; exact bI_z _) ?_
  intro p e s m args below meth c A Q ls C0 hK hP hD hA hl hret
  obtain ⟨hx, hb, hml, hown, hts⟩ := id C0
  have hS : va_S A s.heap s.heap [] := va_S.rf
  have hP : va_P G.1 vwCl (wR G a kd r ++ wK ka) s.heap := hP
  have hD : va_D A (wR G a kd r ++ wK ka) := hD
  have hl : lv_has ls 2 [(0, .ref (a 0)), (1, .int (nI k))] := hl
  have hr0 := hr.n
  have hN := hr.le
  refine lv_aload_n hx hb dX8_isStanding_0 rfl (lv_at hl 0 rfl) ?_
  refine va_get (D := G.1) (ci := 7) (v := .ref (a 4)) (C := RX8) (T := TX8) (N := 9) hx hb hts in_X8 hown hK.1 hP 0 rfl rfl 4 (by decide) (hts _ q186) (fun _ h9 => h9) rfl dX8_isStanding_1 ?_
  refine lv_iload_n hx hb dX8_isStanding_4 rfl (lv_at hl 1 rfl) ?_
  refine x_ialdn (k := k) hx hb hK.1 hP 4 0 rfl rfl (by omega) (by decide) (v := (r 3) k) rfl dX8_isStanding_5 ?_
  refine lv_if_ne (tgt := 13) hx hb dX8_isStanding_6 (by decide) (fun c_1 => ?_) (fun c_1 => ?_)
  · skip
    refine lv_iconst (v := 0) hx hb dX8_isStanding_13 (by decide) ?_
    refine hret _ _ _ _ _ _ 0 () dX8_isStanding_14 ?_ hP hD hS (Nat.le_of_ble_eq_true rfl) (Nat.le_of_ble_eq_true rfl)
    exact bI_F (by simpa [pSt] using c_1)
  · skip
    refine lv_iconst (v := 1) hx hb dX8_isStanding_9 (by decide) ?_
    refine lv_goto (tgt := 14) hx hb dX8_isStanding_10 (by decide) ?_
    refine hret _ _ _ _ _ _ 1 () dX8_isStanding_14 ?_ hP hD hS (Nat.le_of_ble_eq_true rfl) (Nat.le_of_ble_eq_true rfl)
    exact bI_T (by simpa [pSt] using c_1)
set_option maxHeartbeats 4000000 in
set_option maxRecDepth 100000 in
/-- the set of those that are so -/
theorem m_bits (l : Launch) (G : xG) (a ka : Nat → Nat) (kd : Nat → Option Nat) (r : Rw) (hr : Ok r) (hk : kOk ka kd r) (w : Int32) : xCi l G yX8_bits cX8_bits 4 (some .int) ({ frames := 0, cells := 0, slots := 0, locals := 0 } : Room) [.ref (a 0), .int w] (wR G a kd r ++ wK ka) (S := Unit) (fun v _ => v = pSet r w) (fun _ => wR G a kd r ++ wK ka) := by
  refine x_openi (by decide) (Nat.le_of_ble_eq_true rfl) (fun _ _ _ => rfl) ?_
  intro p e s m args below meth c A Q ls C0 hK hP hD hA hl hret
  obtain ⟨hx, hb, hml, hown, hts⟩ := id C0
  have hS : va_S A s.heap s.heap [] := va_S.rf
  have hP : va_P G.1 vwCl (wR G a kd r ++ wK ka) s.heap := hP
  have hD : va_D A (wR G a kd r ++ wK ka) := hD
  have hl : lv_has ls 4 [(0, .ref (a 0)), (1, .int w)] := hl
  have hr0 := hr.n
  have hN := hr.le
  refine lv_iconst (v := 0) hx hb dX8_bits_0 (by decide) ?_
  refine lv_istore_n (lv' := [(2, .int 0), (0, .ref (a 0)), (1, .int w)]) hx hb dX8_bits_1 rfl hl (by decide) rfl (fun ls hl => ?_)
  refine lv_iconst (v := 0) hx hb dX8_bits_2 (by decide) ?_
  refine lv_istore_n (lv' := [(3, .int 0), (2, .int 0), (0, .ref (a 0)), (1, .int w)]) hx hb dX8_bits_3 rfl hl (by decide) rfl (fun ls hl => ?_)
  have loop_4 : ∀ (n : Nat) (i : Nat), (i ≤ mny r) → (mny r < i + n) → ∀ (H : Heap) (locs : List Loc) (ls : Array Slot), va_P G.1 vwCl (wR G a kd r ++ wK ka) H → va_D A (wR G a kd r ++ wK ka) → va_S A s.heap H locs → lv_has ls 4 [(3, .int (nI i)), (2, .int (bs (pHow r w) i)), (0, .ref (a 0)), (1, .int w)] → W p l e ({ frames := 0, cells := 0, slots := 0, locals := 0 } : Room) s m args below meth c H locs 0 0 Q (F0 m 4 ls []) := by
    intro n
    induction n with
    | zero => intro i hi4_0 hi4_1; exact absurd hi4_1 (by omega)
    | succ n ih_4 =>
      intro i hi4_0 hi4_1 H locs ls hP hD hS hl
      refine lv_iload_n hx hb dX8_bits_4 rfl (lv_at hl 0 rfl) ?_
      refine lv_aload_n hx hb dX8_bits_5 rfl (lv_at hl 2 rfl) ?_
      refine va_get (D := G.1) (ci := 7) (v := .int (nI (mny r))) (C := RX8) (T := TX8) (N := 9) hx hb hts in_X8 hown hK.1 hP 0 rfl rfl 0 (by decide) (hts _ q174) (fun _ h9 => h9) (x_some hr0) dX8_bits_6 ?_
      refine lv_icmp_ge (tgt := 38) hx hb dX8_bits_9 (by decide) (fun c_1 => ?_) (fun c_1 => ?_)
      · skip
        have g_1 := (nI_leI (by omega) (by omega)).mp c_1
        refine lv_iload_n hx hb dX8_bits_38 rfl (lv_at hl 1 rfl) ?_
        refine hret _ _ _ _ _ _ (bs (pHow r w) i) () dX8_bits_39 ?_ hP hD hS (Nat.le_of_ble_eq_true rfl) (Nat.le_of_ble_eq_true rfl)
        show bs (pHow r w) i = bs (pHow r w) (mny r)
        rw [show i = mny r by omega]
      · skip
        have g_1 := mt (nI_leI (by omega) (by omega)).mpr c_1
        refine lv_iload_n hx hb dX8_bits_12 rfl (lv_at hl 1 rfl) ?_
        refine lv_aload_n hx hb dX8_bits_13 rfl (lv_at hl 2 rfl) ?_
        refine va_get (D := G.1) (ci := 7) (v := .ref (a 4)) (C := RX8) (T := TX8) (N := 9) hx hb hts in_X8 hown hK.1 hP 0 rfl rfl 4 (by decide) (hts _ q186) (fun _ h9 => h9) rfl dX8_bits_14 ?_
        refine lv_iload_n hx hb dX8_bits_17 rfl (lv_at hl 0 rfl) ?_
        refine x_ialdn (k := i) hx hb hK.1 hP 4 0 rfl rfl (by omega) (by decide) (v := (r 3) i) rfl dX8_bits_18 ?_
        refine lv_iload_n hx hb dX8_bits_19 rfl (lv_at hl 3 rfl) ?_
        refine lv_icmp_ne (tgt := 29) hx hb dX8_bits_20 (by decide) (fun c_2 => ?_) (fun c_2 => ?_)
        · skip
          refine lv_iconst (v := 0) hx hb dX8_bits_29 (by decide) ?_
          refine x_ior hx hb dX8_bits_30 (v := bs (pHow r w) (i + 1)) (bs_f (by simpa [pHow] using c_2)) ?_
          refine lv_istore_n (lv' := [(2, .int (bs (pHow r w) (i + 1))), (3, .int (nI i)), (0, .ref (a 0)), (1, .int w)]) hx hb dX8_bits_31 rfl hl (by decide) rfl (fun ls hl => ?_)
          refine lv_iinc (v := nI (i + 1)) (lv' := [(3, .int (nI (i + 1))), (2, .int (bs (pHow r w) (i + 1))), (0, .ref (a 0)), (1, .int w)]) hx hb dX8_bits_32 hl (k := 1) rfl (x_inc1 _) (by decide) rfl (fun ls hl => ?_)
          refine lv_goto (tgt := 4) hx hb dX8_bits_35 (by decide) ?_
          exact ih_4 (i + 1) (by omega) (by omega) _ _ _ hP hD hS (lv_sub hl [0, 1, 2, 3] rfl)
        · skip
          refine lv_iconst (v := 1) hx hb dX8_bits_23 (by decide) ?_
          refine lv_iload_n hx hb dX8_bits_24 rfl (lv_at hl 0 rfl) ?_
          refine x_ishl hx hb dX8_bits_25 (v := b1 i) rfl ?_
          refine lv_goto (tgt := 30) hx hb dX8_bits_26 (by decide) ?_
          refine x_ior hx hb dX8_bits_30 (v := bs (pHow r w) (i + 1)) (bs_t (by simpa [pHow] using c_2)) ?_
          refine lv_istore_n (lv' := [(2, .int (bs (pHow r w) (i + 1))), (3, .int (nI i)), (0, .ref (a 0)), (1, .int w)]) hx hb dX8_bits_31 rfl hl (by decide) rfl (fun ls hl => ?_)
          refine lv_iinc (v := nI (i + 1)) (lv' := [(3, .int (nI (i + 1))), (2, .int (bs (pHow r w) (i + 1))), (0, .ref (a 0)), (1, .int w)]) hx hb dX8_bits_32 hl (k := 1) rfl (x_inc1 _) (by decide) rfl (fun ls hl => ?_)
          refine lv_goto (tgt := 4) hx hb dX8_bits_35 (by decide) ?_
          exact ih_4 (i + 1) (by omega) (by omega) _ _ _ hP hD hS (lv_sub hl [0, 1, 2, 3] rfl)
  exact loop_4 (mny r + 1) 0 (Nat.zero_le _) (by omega) _ _ _ hP hD hS (lv_sub hl [0, 1, 2, 3] rfl)
set_option maxHeartbeats 4000000 in
set_option maxRecDepth 100000 in
theorem m_hasUnder (l : Launch) (G : xG) (a ka : Nat → Nat) (kd : Nat → Option Nat) (r : Rw) (hr : Ok r) (hk : kOk ka kd r) (k : Nat) (hk1 : k < mny r) : xCi l G yX8_hasUnder cX8_hasUnder 2 (some .boolean) ({ frames := 1, cells := 0, slots := 0, locals := 21 } : Room) [.ref (a 0), .int (nI k)] (wR G a kd r ++ wK ka) (S := Unit) (fun v _ => v = bI (pHu r k)) (fun _ => wR G a kd r ++ wK ka) := by
  refine x_openi (by decide) (Nat.le_of_ble_eq_true rfl) (fun _ _ h => by rw [h]; exact bI_z _) ?_
  intro p e s m args below meth c A Q ls C0 hK hP hD hA hl hret
  obtain ⟨hx, hb, hml, hown, hts⟩ := id C0
  have hS : va_S A s.heap s.heap [] := va_S.rf
  have hP : va_P G.1 vwCl (wR G a kd r ++ wK ka) s.heap := hP
  have hD : va_D A (wR G a kd r ++ wK ka) := hD
  have hl : lv_has ls 2 [(0, .ref (a 0)), (1, .int (nI k))] := hl
  have hr0 := hr.n
  have hN := hr.le
  refine lv_aload_n hx hb dX8_hasUnder_0 rfl (lv_at hl 0 rfl) ?_
  refine va_get (D := G.1) (ci := 7) (v := .ref (a 3)) (C := RX8) (T := TX8) (N := 9) hx hb hts in_X8 hown hK.1 hP 0 rfl rfl 3 (by decide) (hts _ q184) (fun _ h9 => h9) rfl dX8_hasUnder_1 ?_
  refine lv_iload_n hx hb dX8_hasUnder_4 rfl (lv_at hl 1 rfl) ?_
  refine x_ialdn (k := k) hx hb hK.1 hP 3 0 rfl rfl (by omega) (by decide) (v := (r 2) k) rfl dX8_hasUnder_5 ?_
  refine lv_bipush (v := (-9)) hx hb dX8_hasUnder_6 (by decide) ?_
  refine lv_icmp_ne (tgt := 18) hx hb dX8_hasUnder_8 (by decide) (fun c_1 => ?_) (fun c_1 => ?_)
  · skip
    refine lv_aload_n hx hb dX8_hasUnder_18 rfl (lv_at hl 0 rfl) ?_
    refine lv_aload_n hx hb dX8_hasUnder_19 rfl (lv_at hl 0 rfl) ?_
    refine va_get (D := G.1) (ci := 7) (v := .ref (a 3)) (C := RX8) (T := TX8) (N := 9) hx hb hts in_X8 hown hK.1 hP 0 rfl rfl 3 (by decide) (hts _ q184) (fun _ h9 => h9) rfl dX8_hasUnder_20 ?_
    refine lv_iload_n hx hb dX8_hasUnder_23 rfl (lv_at hl 1 rfl) ?_
    refine x_ialdn (k := k) hx hb hK.1 hP 3 0 rfl rfl (by omega) (by decide) (v := (r 2) k) rfl dX8_hasUnder_24 ?_
    obtain ⟨j, hj, ej⟩ := (hr.on hk1).resolve_left (by simpa using c_1)
    rw [ej]
    refine x_Vi (wN := fun _ => (wR G a kd r ++ wK ka)) ⟨C0, hK, hP, hD, hS, hA⟩ 0 rfl (ci := 7) rfl rfl ((m_isStanding l G a ka kd r hr hk j (by omega))) (cwV 1 hts (lw_V q589 q558 q559 q94 q560) rfl rfl rfl (by decide +kernel) ⟨Nat.le_of_ble_eq_true rfl, Nat.le_of_ble_eq_true rfl⟩) [0, 1, 2, 3, 4, 5, 6, 7, 8, 9, 10, 11] [1, 3, 5, 7, 9, 11, 13, 15, 17, 19, 21, 23] rfl (fun _ => rfl) rfl rfl hl.1 rfl (Nat.le_of_ble_eq_true rfl) dX8_hasUnder_25 ⟨Nat.le_of_ble_eq_true rfl, Nat.le_of_ble_eq_true rfl⟩ (fun r_2 u_2 H locs hw_2 hP hD hS => ?_)
    have hw_2 : (bI (pSt r j) : Int32) = r_2 := hw_2.symm
    subst hw_2
    refine hret _ _ _ _ _ _ (bI (pSt r j)) () dX8_hasUnder_28 ?_ hP hD hS (Nat.le_of_ble_eq_true rfl) (Nat.le_of_ble_eq_true rfl)
    rw [pHu_n ej (by omega)]
  · skip
    refine lv_aload_n hx hb dX8_hasUnder_11 rfl (lv_at hl 0 rfl) ?_
    refine va_get (D := G.1) (ci := 7) (v := .int (r 5 2)) (C := RX8) (T := TX8) (N := 9) hx hb hts in_X8 hown hK.1 hP 0 rfl rfl 6 (by decide) (hts _ q191) (fun _ h9 => h9) rfl dX8_hasUnder_12 ?_
    refine lv_goto (tgt := 28) hx hb dX8_hasUnder_15 (by decide) ?_
    refine hret _ _ _ _ _ _ (r 5 2) () dX8_hasUnder_28 ?_ hP hD hS (Nat.le_of_ble_eq_true rfl) (Nat.le_of_ble_eq_true rfl)
    exact pHu_f hr (by simpa using c_1)
set_option maxHeartbeats 4000000 in
set_option maxRecDepth 100000 in
theorem m_isHeld (l : Launch) (G : xG) (a ka : Nat → Nat) (kd : Nat → Option Nat) (r : Rw) (hr : Ok r) (hk : kOk ka kd r) (k : Nat) (hk1 : k < mny r) : xCi l G yX8_isHeld cX8_isHeld 2 (some .boolean) ({ frames := 2, cells := 0, slots := 0, locals := 42 } : Room) [.ref (a 0), .int (nI k)] (wR G a kd r ++ wK ka) (S := Unit) (fun v _ => v = bI (pHeld r k)) (fun _ => wR G a kd r ++ wK ka) := by
  refine x_openi (by decide) (Nat.le_of_ble_eq_true rfl) (fun _ _ h => by rw [h]; exact bI_z _) ?_
  intro p e s m args below meth c A Q ls C0 hK hP hD hA hl hret
  obtain ⟨hx, hb, hml, hown, hts⟩ := id C0
  have hS : va_S A s.heap s.heap [] := va_S.rf
  have hP : va_P G.1 vwCl (wR G a kd r ++ wK ka) s.heap := hP
  have hD : va_D A (wR G a kd r ++ wK ka) := hD
  have hl : lv_has ls 2 [(0, .ref (a 0)), (1, .int (nI k))] := hl
  have hr0 := hr.n
  have hN := hr.le
  refine lv_aload_n hx hb dX8_isHeld_0 rfl (lv_at hl 0 rfl) ?_
  refine lv_iload_n hx hb dX8_isHeld_1 rfl (lv_at hl 1 rfl) ?_
  refine x_Vi (wN := fun _ => (wR G a kd r ++ wK ka)) ⟨C0, hK, hP, hD, hS, hA⟩ 0 rfl (ci := 7) rfl rfl ((m_isStanding l G a ka kd r hr hk k (by omega))) (cwV 1 hts (lw_V q589 q558 q559 q94 q560) rfl rfl rfl (by decide +kernel) ⟨Nat.le_of_ble_eq_true rfl, Nat.le_of_ble_eq_true rfl⟩) [0, 1, 2, 3, 4, 5, 6, 7, 8, 9, 10, 11] [1, 3, 5, 7, 9, 11, 13, 15, 17, 19, 21, 23] rfl (fun _ => rfl) rfl rfl hl.1 rfl (Nat.le_of_ble_eq_true rfl) dX8_isHeld_2 ⟨Nat.le_of_ble_eq_true rfl, Nat.le_of_ble_eq_true rfl⟩ (fun r_1 u_1 H locs hw_1 hP hD hS => ?_)
  have hw_1 : (bI (pSt r k) : Int32) = r_1 := hw_1.symm
  subst hw_1
  refine lv_if_eq (tgt := 31) hx hb dX8_isHeld_5 (by decide) (fun c_2 => ?_) (fun c_2 => ?_)
  · skip
    refine lv_iconst (v := 0) hx hb dX8_isHeld_31 (by decide) ?_
    refine hret _ _ _ _ _ _ 0 () dX8_isHeld_32 ?_ hP hD hS (Nat.le_of_ble_eq_true rfl) (Nat.le_of_ble_eq_true rfl)
    simp only [ne_eq, Decidable.not_not, bI_0, Bool.not_eq_false] at c_2
    simp [pHeld, pHl, bI, c_2]
  · skip
    refine lv_aload_n hx hb dX8_isHeld_8 rfl (lv_at hl 0 rfl) ?_
    refine va_get (D := G.1) (ci := 7) (v := .int (r 5 3)) (C := RX8) (T := TX8) (N := 9) hx hb hts in_X8 hown hK.1 hP 0 rfl rfl 8 (by decide) (hts _ q198) (fun _ h9 => h9) rfl dX8_isHeld_9 ?_
    refine lv_iload_n hx hb dX8_isHeld_12 rfl (lv_at hl 1 rfl) ?_
    refine x_SNi (wN := fun _ => (wR G a kd r ++ wK ka)) ⟨C0, hK, hP, hD, hS, hA⟩ ((m_has l G (r 5 3) k)) ⟨va_cnB 2 hts (lw_meth q618) rfl rfl rfl (hK.2.M 19 rfl) (hts _ q86) (by decide +kernel) ⟨Nat.le_of_ble_eq_true rfl, Nat.le_of_ble_eq_true rfl⟩, hts _ q617, trivial⟩ [] [0, 2, 4, 6, 8, 10, 12, 14, 16, 18, 20, 22] rfl (fun _ => rfl) rfl rfl hl.1 rfl (Nat.le_of_ble_eq_true rfl) dX8_isHeld_13 ⟨Nat.le_of_ble_eq_true rfl, Nat.le_of_ble_eq_true rfl⟩ (fun r_3 u_3 H locs hw_3 hP hD hS => ?_)
    have hw_3 : (bI (hs (r 5 3) k) : Int32) = r_3 := hw_3.symm
    subst hw_3
    refine lv_if_ne (tgt := 27) hx hb dX8_isHeld_16 (by decide) (fun c_4 => ?_) (fun c_4 => ?_)
    · skip
      refine lv_iconst (v := 1) hx hb dX8_isHeld_27 (by decide) ?_
      refine lv_goto (tgt := 32) hx hb dX8_isHeld_28 (by decide) ?_
      refine hret _ _ _ _ _ _ 1 () dX8_isHeld_32 ?_ hP hD hS (Nat.le_of_ble_eq_true rfl) (Nat.le_of_ble_eq_true rfl)
      simp only [ne_eq, Decidable.not_not, bI_0, Bool.not_eq_false] at c_2 c_4
      simp [pHeld, pHl, bI, c_2, c_4]
    · skip
      refine lv_aload_n hx hb dX8_isHeld_19 rfl (lv_at hl 0 rfl) ?_
      refine lv_iload_n hx hb dX8_isHeld_20 rfl (lv_at hl 1 rfl) ?_
      refine x_Vi (wN := fun _ => (wR G a kd r ++ wK ka)) ⟨C0, hK, hP, hD, hS, hA⟩ 0 rfl (ci := 7) rfl rfl ((m_hasUnder l G a ka kd r hr hk k (show k < mny r by omega))) (cwV 1 hts (lw_V q634 q635 q636 q94 q637) rfl rfl rfl (by decide +kernel) ⟨Nat.le_of_ble_eq_true rfl, Nat.le_of_ble_eq_true rfl⟩) [0, 1, 2, 3, 4, 5, 6, 7, 8, 9, 10, 11] [1, 3, 5, 7, 9, 11, 13, 15, 17, 19, 21, 23] rfl (fun _ => rfl) rfl rfl hl.1 rfl (Nat.le_of_ble_eq_true rfl) dX8_isHeld_21 ⟨Nat.le_of_ble_eq_true rfl, Nat.le_of_ble_eq_true rfl⟩ (fun r_5 u_5 H locs hw_5 hP hD hS => ?_)
      have hw_5 : (bI (pHu r k) : Int32) = r_5 := hw_5.symm
      subst hw_5
      refine lv_if_eq (tgt := 31) hx hb dX8_isHeld_24 (by decide) (fun c_6 => ?_) (fun c_6 => ?_)
      · skip
        refine lv_iconst (v := 0) hx hb dX8_isHeld_31 (by decide) ?_
        refine hret _ _ _ _ _ _ 0 () dX8_isHeld_32 ?_ hP hD hS (Nat.le_of_ble_eq_true rfl) (Nat.le_of_ble_eq_true rfl)
        simp only [ne_eq, Decidable.not_not, bI_0, Bool.not_eq_false] at c_2 c_4 c_6
        simp [pHeld, pHl, bI, c_2, c_4, c_6]
      · skip
        refine lv_iconst (v := 1) hx hb dX8_isHeld_27 (by decide) ?_
        refine lv_goto (tgt := 32) hx hb dX8_isHeld_28 (by decide) ?_
        refine hret _ _ _ _ _ _ 1 () dX8_isHeld_32 ?_ hP hD hS (Nat.le_of_ble_eq_true rfl) (Nat.le_of_ble_eq_true rfl)
        simp only [ne_eq, Decidable.not_not, bI_0, Bool.not_eq_false] at c_2 c_4 c_6
        simp [pHeld, pHl, bI, c_2, c_4, c_6]
set_option maxHeartbeats 4000000 in
set_option maxRecDepth 100000 in
theorem m_habit (l : Launch) (G : xG) (a ka : Nat → Nat) (kd : Nat → Option Nat) (r : Rw) (hr : Ok r) (hk : kOk ka kd r) (k : Nat) (hk1 : k < mny r) : xCi l G yX8_habit cX8_habit 2 (some .int) ({ frames := 3, cells := 0, slots := 0, locals := 66 } : Room) [.ref (a 0), .int (nI k)] (wR G a kd r ++ wK ka) (S := Unit) (fun v _ => v = pHabit (r 0 k) (r 1 k) (decide (pSet r 1 &&& (b1 k ^^^ -1) ≠ 0))) (fun _ => wR G a kd r ++ wK ka) := by
  refine x_openi (by decide) (Nat.le_of_ble_eq_true rfl) (fun _ _ _ => rfl) ?_
  intro p e s m args below meth c A Q ls C0 hK hP hD hA hl hret
  obtain ⟨hx, hb, hml, hown, hts⟩ := id C0
  have hS : va_S A s.heap s.heap [] := va_S.rf
  have hP : va_P G.1 vwCl (wR G a kd r ++ wK ka) s.heap := hP
  have hD : va_D A (wR G a kd r ++ wK ka) := hD
  have hl : lv_has ls 2 [(0, .ref (a 0)), (1, .int (nI k))] := hl
  have hr0 := hr.n
  have hN := hr.le
  obtain ⟨c0, hc0, ec0⟩ := hr.kd hk1
  refine lv_aload_n hx hb dX8_habit_0 rfl (lv_at hl 0 rfl) ?_
  refine va_get (D := G.1) (ci := 7) (v := .ref (a 1)) (C := RX8) (T := TX8) (N := 9) hx hb hts in_X8 hown hK.1 hP 0 rfl rfl 1 (by decide) (hts _ q180) (fun _ h9 => h9) rfl dX8_habit_1 ?_
  refine lv_iload_n hx hb dX8_habit_4 rfl (lv_at hl 1 rfl) ?_
  refine x_aald hx hb hK.1 hP 1 3 rfl rfl (vp_in_nI (by omega) (by decide)) (x := ka c0) (hk.at hk1 (by omega) ec0 hc0) dX8_habit_5 ?_
  refine lv_aload_n hx hb dX8_habit_6 rfl (lv_at hl 0 rfl) ?_
  refine va_get (D := G.1) (ci := 7) (v := .ref (a 2)) (C := RX8) (T := TX8) (N := 9) hx hb hts in_X8 hown hK.1 hP 0 rfl rfl 2 (by decide) (hts _ q182) (fun _ h9 => h9) rfl dX8_habit_7 ?_
  refine lv_iload_n hx hb dX8_habit_10 rfl (lv_at hl 1 rfl) ?_
  refine x_ialdn (k := k) hx hb hK.1 hP 2 0 rfl rfl (by omega) (by decide) (v := (r 1) k) rfl dX8_habit_11 ?_
  refine lv_aload_n hx hb dX8_habit_12 rfl (lv_at hl 0 rfl) ?_
  refine lv_iconst (v := 1) hx hb dX8_habit_13 (by decide) ?_
  refine x_Vi (wN := fun _ => (wR G a kd r ++ wK ka)) ⟨C0, hK, hP, hD, hS, hA⟩ 0 rfl (ci := 7) rfl rfl ((m_bits l G a ka kd r hr hk 1)) (cwV 1 hts (lw_V q642 q643 q644 q94 q645) rfl rfl rfl (by decide +kernel) ⟨Nat.le_of_ble_eq_true rfl, Nat.le_of_ble_eq_true rfl⟩) [0, 1, 2, 3, 4, 5, 6, 7, 8, 9, 10, 11] [1, 3, 5, 7, 9, 11, 13, 15, 17, 19, 21, 23] rfl (fun _ => rfl) rfl rfl hl.1 rfl (Nat.le_of_ble_eq_true rfl) dX8_habit_14 ⟨Nat.le_of_ble_eq_true rfl, Nat.le_of_ble_eq_true rfl⟩ (fun r_1 u_1 H locs hw_1 hP hD hS => ?_)
  have hw_1 : (pSet r 1 : Int32) = r_1 := hw_1.symm
  subst hw_1
  refine lv_iconst (v := 1) hx hb dX8_habit_17 (by decide) ?_
  refine lv_iload_n hx hb dX8_habit_18 rfl (lv_at hl 1 rfl) ?_
  refine x_ishl hx hb dX8_habit_19 (v := b1 k) rfl ?_
  refine lv_iconst (v := (-1)) hx hb dX8_habit_20 (by decide) ?_
  refine x_ixor hx hb dX8_habit_21 (v := (b1 k) ^^^ (-1)) rfl ?_
  refine x_iand hx hb dX8_habit_22 (v := (pSet r 1) &&& ((b1 k) ^^^ (-1))) rfl ?_
  refine lv_if_eq (tgt := 30) hx hb dX8_habit_23 (by decide) (fun c_2 => ?_) (fun c_2 => ?_)
  · skip
    refine lv_iconst (v := 0) hx hb dX8_habit_30 (by decide) ?_
    have eb : (0 : Int32) = bI (decide (pSet r 1 &&& (b1 k ^^^ -1) ≠ 0)) := by
      exact bI_F (decide_eq_false (fun h => h c_2))
    rw [eb]
    rcases (show c0 = 0 ∨ c0 = 1 ∨ c0 = 2 ∨ c0 = 3 ∨ c0 = 4 ∨ c0 = 5 by omega) with rfl | rfl | rfl | rfl | rfl | rfl
    · skip
      refine x_Ui (wN := fun _ => (wR G a kd r ++ wK ka)) ⟨C0, hK, hP, hD, hS, hA⟩ 6 rfl (ci := 1) rfl rfl ((m_X2_habit l G (ka 0) 1 _ rfl ((r 1) k) (decide (pSet r 1 &&& (b1 k ^^^ -1) ≠ 0)))) (va_cwA (owner := "PulledFromUnder$Kind") 2 hts (lw_U q646 q648 q670 q656 q88 q657) rfl rfl rfl (hK.2.D 10 rfl) (by decide +kernel) ⟨Nat.le_of_ble_eq_true rfl, Nat.le_of_ble_eq_true rfl⟩) [6] [0, 2, 4, 6, 8, 10, 1, 14, 16, 18, 20, 22] rfl (fun _ => rfl) rfl rfl hl.1 rfl (Nat.le_of_ble_eq_true rfl) dX8_habit_31 ⟨Nat.le_of_ble_eq_true rfl, Nat.le_of_ble_eq_true rfl⟩ (fun r_3 u_3 H locs hw_3 hP hD hS => ?_)
      have hw_3 : (((r 1) k) / 3 : Int32) = r_3 := hw_3.symm
      subst hw_3
      refine hret _ _ _ _ _ _ (((r 1) k) / 3) () dX8_habit_34 ?_ hP hD hS (Nat.le_of_ble_eq_true rfl) (Nat.le_of_ble_eq_true rfl)
      rw [ec0]
      exact pHabit_0 _ _
    · skip
      refine x_Ui (wN := fun _ => (wR G a kd r ++ wK ka)) ⟨C0, hK, hP, hD, hS, hA⟩ 7 rfl (ci := 2) rfl rfl ((m_X3_habit l G (ka 1) 2 _ rfl ((r 1) k) (decide (pSet r 1 &&& (b1 k ^^^ -1) ≠ 0)))) (va_cwA (owner := "PulledFromUnder$Kind") 2 hts (lw_U q646 q648 q668 q653 q89 q654) rfl rfl rfl (hK.2.D 10 rfl) (by decide +kernel) ⟨Nat.le_of_ble_eq_true rfl, Nat.le_of_ble_eq_true rfl⟩) [7] [0, 2, 4, 6, 8, 10, 12, 1, 16, 18, 20, 22] rfl (fun _ => rfl) rfl rfl hl.1 rfl (Nat.le_of_ble_eq_true rfl) dX8_habit_31 ⟨Nat.le_of_ble_eq_true rfl, Nat.le_of_ble_eq_true rfl⟩ (fun r_4 u_4 H locs hw_4 hP hD hS => ?_)
      have hw_4 : (pG ((r 1) k) : Int32) = r_4 := hw_4.symm
      subst hw_4
      refine hret _ _ _ _ _ _ (pG ((r 1) k)) () dX8_habit_34 ?_ hP hD hS (Nat.le_of_ble_eq_true rfl) (Nat.le_of_ble_eq_true rfl)
      rw [ec0]
      exact pHabit_1 _ _
    · skip
      refine x_Ui (wN := fun _ => (wR G a kd r ++ wK ka)) ⟨C0, hK, hP, hD, hS, hA⟩ 8 rfl (ci := 3) rfl rfl ((m_X4_habit l G (ka 2) 3 _ rfl ((r 1) k) (decide (pSet r 1 &&& (b1 k ^^^ -1) ≠ 0)))) (va_cwA (owner := "PulledFromUnder$Kind") 2 hts (lw_U q646 q648 q669 q665 q90 q666) rfl rfl rfl (hK.2.D 10 rfl) (by decide +kernel) ⟨Nat.le_of_ble_eq_true rfl, Nat.le_of_ble_eq_true rfl⟩) [8] [0, 2, 4, 6, 8, 10, 12, 14, 1, 18, 20, 22] rfl (fun _ => rfl) rfl rfl hl.1 rfl (Nat.le_of_ble_eq_true rfl) dX8_habit_31 ⟨Nat.le_of_ble_eq_true rfl, Nat.le_of_ble_eq_true rfl⟩ (fun r_5 u_5 H locs hw_5 hP hD hS => ?_)
      have hw_5 : (((r 1) k) / 3 + ((r 1) k) : Int32) = r_5 := hw_5.symm
      subst hw_5
      refine hret _ _ _ _ _ _ (((r 1) k) / 3 + ((r 1) k)) () dX8_habit_34 ?_ hP hD hS (Nat.le_of_ble_eq_true rfl) (Nat.le_of_ble_eq_true rfl)
      rw [ec0]
      exact pHabit_2 _ _
    · skip
      refine x_Ui (wN := fun _ => (wR G a kd r ++ wK ka)) ⟨C0, hK, hP, hD, hS, hA⟩ 9 rfl (ci := 4) rfl rfl ((m_X5_habit l G (ka 3) 4 _ rfl ((r 1) k) (decide (pSet r 1 &&& (b1 k ^^^ -1) ≠ 0)))) (va_cwA (owner := "PulledFromUnder$Kind") 2 hts (lw_U q646 q648 q661 q662 q91 q663) rfl rfl rfl (hK.2.D 10 rfl) (by decide +kernel) ⟨Nat.le_of_ble_eq_true rfl, Nat.le_of_ble_eq_true rfl⟩) [9] [0, 2, 4, 6, 8, 10, 12, 14, 16, 1, 20, 22] rfl (fun _ => rfl) rfl rfl hl.1 rfl (Nat.le_of_ble_eq_true rfl) dX8_habit_31 ⟨Nat.le_of_ble_eq_true rfl, Nat.le_of_ble_eq_true rfl⟩ (fun r_6 u_6 H locs hw_6 hP hD hS => ?_)
      have hw_6 : (((r 1) k) / 3 + ((r 1) k) + 20 : Int32) = r_6 := hw_6.symm
      subst hw_6
      refine hret _ _ _ _ _ _ (((r 1) k) / 3 + ((r 1) k) + 20) () dX8_habit_34 ?_ hP hD hS (Nat.le_of_ble_eq_true rfl) (Nat.le_of_ble_eq_true rfl)
      rw [ec0]
      exact pHabit_3 _ _
    · skip
      refine x_Ui (wN := fun _ => (wR G a kd r ++ wK ka)) ⟨C0, hK, hP, hD, hS, hA⟩ 10 rfl (ci := 5) rfl rfl ((m_X6_habit l G (ka 4) 5 _ rfl ((r 1) k) (decide (pSet r 1 &&& (b1 k ^^^ -1) ≠ 0)))) (va_cwA (owner := "PulledFromUnder$Kind") 2 hts (lw_U q646 q648 q671 q672 q92 q673) rfl rfl rfl (hK.2.D 10 rfl) (by decide +kernel) ⟨Nat.le_of_ble_eq_true rfl, Nat.le_of_ble_eq_true rfl⟩) [10] [0, 2, 4, 6, 8, 10, 12, 14, 16, 18, 1, 22] rfl (fun _ => rfl) rfl rfl hl.1 rfl (Nat.le_of_ble_eq_true rfl) dX8_habit_31 ⟨Nat.le_of_ble_eq_true rfl, Nat.le_of_ble_eq_true rfl⟩ (fun r_7 u_7 H locs hw_7 hP hD hS => ?_)
      have hw_7 : (if (decide (pSet r 1 &&& (b1 k ^^^ -1) ≠ 0)) = true then 0 else ((r 1) k) / 3 + ((r 1) k) : Int32) = r_7 := hw_7.symm
      subst hw_7
      refine hret _ _ _ _ _ _ (if (decide (pSet r 1 &&& (b1 k ^^^ -1) ≠ 0)) = true then 0 else ((r 1) k) / 3 + ((r 1) k)) () dX8_habit_34 ?_ hP hD hS (Nat.le_of_ble_eq_true rfl) (Nat.le_of_ble_eq_true rfl)
      rw [ec0]
      exact pHabit_4 _ _
    · skip
      refine x_Ui (wN := fun _ => (wR G a kd r ++ wK ka)) ⟨C0, hK, hP, hD, hS, hA⟩ 11 rfl (ci := 6) rfl rfl ((m_X7_habit l G (ka 5) 6 _ rfl ((r 1) k) (decide (pSet r 1 &&& (b1 k ^^^ -1) ≠ 0)))) (va_cwA (owner := "PulledFromUnder$Kind") 2 hts (lw_U q646 q648 q649 q650 q93 q651) rfl rfl rfl (hK.2.D 10 rfl) (by decide +kernel) ⟨Nat.le_of_ble_eq_true rfl, Nat.le_of_ble_eq_true rfl⟩) [11] [0, 2, 4, 6, 8, 10, 12, 14, 16, 18, 20, 1] rfl (fun _ => rfl) rfl rfl hl.1 rfl (Nat.le_of_ble_eq_true rfl) dX8_habit_31 ⟨Nat.le_of_ble_eq_true rfl, Nat.le_of_ble_eq_true rfl⟩ (fun r_8 u_8 H locs hw_8 hP hD hS => ?_)
      have hw_8 : (pG ((r 1) k) + 2 : Int32) = r_8 := hw_8.symm
      subst hw_8
      refine hret _ _ _ _ _ _ (pG ((r 1) k) + 2) () dX8_habit_34 ?_ hP hD hS (Nat.le_of_ble_eq_true rfl) (Nat.le_of_ble_eq_true rfl)
      rw [ec0]
      exact pHabit_5 _ _
  · skip
    refine lv_iconst (v := 1) hx hb dX8_habit_26 (by decide) ?_
    refine lv_goto (tgt := 31) hx hb dX8_habit_27 (by decide) ?_
    have eb : (1 : Int32) = bI (decide (pSet r 1 &&& (b1 k ^^^ -1) ≠ 0)) := by
      exact bI_T (decide_eq_true c_2)
    rw [eb]
    rcases (show c0 = 0 ∨ c0 = 1 ∨ c0 = 2 ∨ c0 = 3 ∨ c0 = 4 ∨ c0 = 5 by omega) with rfl | rfl | rfl | rfl | rfl | rfl
    · skip
      refine x_Ui (wN := fun _ => (wR G a kd r ++ wK ka)) ⟨C0, hK, hP, hD, hS, hA⟩ 6 rfl (ci := 1) rfl rfl ((m_X2_habit l G (ka 0) 1 _ rfl ((r 1) k) (decide (pSet r 1 &&& (b1 k ^^^ -1) ≠ 0)))) (va_cwA (owner := "PulledFromUnder$Kind") 2 hts (lw_U q646 q648 q670 q656 q88 q657) rfl rfl rfl (hK.2.D 10 rfl) (by decide +kernel) ⟨Nat.le_of_ble_eq_true rfl, Nat.le_of_ble_eq_true rfl⟩) [6] [0, 2, 4, 6, 8, 10, 1, 14, 16, 18, 20, 22] rfl (fun _ => rfl) rfl rfl hl.1 rfl (Nat.le_of_ble_eq_true rfl) dX8_habit_31 ⟨Nat.le_of_ble_eq_true rfl, Nat.le_of_ble_eq_true rfl⟩ (fun r_9 u_9 H locs hw_9 hP hD hS => ?_)
      have hw_9 : (((r 1) k) / 3 : Int32) = r_9 := hw_9.symm
      subst hw_9
      refine hret _ _ _ _ _ _ (((r 1) k) / 3) () dX8_habit_34 ?_ hP hD hS (Nat.le_of_ble_eq_true rfl) (Nat.le_of_ble_eq_true rfl)
      rw [ec0]
      exact pHabit_0 _ _
    · skip
      refine x_Ui (wN := fun _ => (wR G a kd r ++ wK ka)) ⟨C0, hK, hP, hD, hS, hA⟩ 7 rfl (ci := 2) rfl rfl ((m_X3_habit l G (ka 1) 2 _ rfl ((r 1) k) (decide (pSet r 1 &&& (b1 k ^^^ -1) ≠ 0)))) (va_cwA (owner := "PulledFromUnder$Kind") 2 hts (lw_U q646 q648 q668 q653 q89 q654) rfl rfl rfl (hK.2.D 10 rfl) (by decide +kernel) ⟨Nat.le_of_ble_eq_true rfl, Nat.le_of_ble_eq_true rfl⟩) [7] [0, 2, 4, 6, 8, 10, 12, 1, 16, 18, 20, 22] rfl (fun _ => rfl) rfl rfl hl.1 rfl (Nat.le_of_ble_eq_true rfl) dX8_habit_31 ⟨Nat.le_of_ble_eq_true rfl, Nat.le_of_ble_eq_true rfl⟩ (fun r_10 u_10 H locs hw_10 hP hD hS => ?_)
      have hw_10 : (pG ((r 1) k) : Int32) = r_10 := hw_10.symm
      subst hw_10
      refine hret _ _ _ _ _ _ (pG ((r 1) k)) () dX8_habit_34 ?_ hP hD hS (Nat.le_of_ble_eq_true rfl) (Nat.le_of_ble_eq_true rfl)
      rw [ec0]
      exact pHabit_1 _ _
    · skip
      refine x_Ui (wN := fun _ => (wR G a kd r ++ wK ka)) ⟨C0, hK, hP, hD, hS, hA⟩ 8 rfl (ci := 3) rfl rfl ((m_X4_habit l G (ka 2) 3 _ rfl ((r 1) k) (decide (pSet r 1 &&& (b1 k ^^^ -1) ≠ 0)))) (va_cwA (owner := "PulledFromUnder$Kind") 2 hts (lw_U q646 q648 q669 q665 q90 q666) rfl rfl rfl (hK.2.D 10 rfl) (by decide +kernel) ⟨Nat.le_of_ble_eq_true rfl, Nat.le_of_ble_eq_true rfl⟩) [8] [0, 2, 4, 6, 8, 10, 12, 14, 1, 18, 20, 22] rfl (fun _ => rfl) rfl rfl hl.1 rfl (Nat.le_of_ble_eq_true rfl) dX8_habit_31 ⟨Nat.le_of_ble_eq_true rfl, Nat.le_of_ble_eq_true rfl⟩ (fun r_11 u_11 H locs hw_11 hP hD hS => ?_)
      have hw_11 : (((r 1) k) / 3 + ((r 1) k) : Int32) = r_11 := hw_11.symm
      subst hw_11
      refine hret _ _ _ _ _ _ (((r 1) k) / 3 + ((r 1) k)) () dX8_habit_34 ?_ hP hD hS (Nat.le_of_ble_eq_true rfl) (Nat.le_of_ble_eq_true rfl)
      rw [ec0]
      exact pHabit_2 _ _
    · skip
      refine x_Ui (wN := fun _ => (wR G a kd r ++ wK ka)) ⟨C0, hK, hP, hD, hS, hA⟩ 9 rfl (ci := 4) rfl rfl ((m_X5_habit l G (ka 3) 4 _ rfl ((r 1) k) (decide (pSet r 1 &&& (b1 k ^^^ -1) ≠ 0)))) (va_cwA (owner := "PulledFromUnder$Kind") 2 hts (lw_U q646 q648 q661 q662 q91 q663) rfl rfl rfl (hK.2.D 10 rfl) (by decide +kernel) ⟨Nat.le_of_ble_eq_true rfl, Nat.le_of_ble_eq_true rfl⟩) [9] [0, 2, 4, 6, 8, 10, 12, 14, 16, 1, 20, 22] rfl (fun _ => rfl) rfl rfl hl.1 rfl (Nat.le_of_ble_eq_true rfl) dX8_habit_31 ⟨Nat.le_of_ble_eq_true rfl, Nat.le_of_ble_eq_true rfl⟩ (fun r_12 u_12 H locs hw_12 hP hD hS => ?_)
      have hw_12 : (((r 1) k) / 3 + ((r 1) k) + 20 : Int32) = r_12 := hw_12.symm
      subst hw_12
      refine hret _ _ _ _ _ _ (((r 1) k) / 3 + ((r 1) k) + 20) () dX8_habit_34 ?_ hP hD hS (Nat.le_of_ble_eq_true rfl) (Nat.le_of_ble_eq_true rfl)
      rw [ec0]
      exact pHabit_3 _ _
    · skip
      refine x_Ui (wN := fun _ => (wR G a kd r ++ wK ka)) ⟨C0, hK, hP, hD, hS, hA⟩ 10 rfl (ci := 5) rfl rfl ((m_X6_habit l G (ka 4) 5 _ rfl ((r 1) k) (decide (pSet r 1 &&& (b1 k ^^^ -1) ≠ 0)))) (va_cwA (owner := "PulledFromUnder$Kind") 2 hts (lw_U q646 q648 q671 q672 q92 q673) rfl rfl rfl (hK.2.D 10 rfl) (by decide +kernel) ⟨Nat.le_of_ble_eq_true rfl, Nat.le_of_ble_eq_true rfl⟩) [10] [0, 2, 4, 6, 8, 10, 12, 14, 16, 18, 1, 22] rfl (fun _ => rfl) rfl rfl hl.1 rfl (Nat.le_of_ble_eq_true rfl) dX8_habit_31 ⟨Nat.le_of_ble_eq_true rfl, Nat.le_of_ble_eq_true rfl⟩ (fun r_13 u_13 H locs hw_13 hP hD hS => ?_)
      have hw_13 : (if (decide (pSet r 1 &&& (b1 k ^^^ -1) ≠ 0)) = true then 0 else ((r 1) k) / 3 + ((r 1) k) : Int32) = r_13 := hw_13.symm
      subst hw_13
      refine hret _ _ _ _ _ _ (if (decide (pSet r 1 &&& (b1 k ^^^ -1) ≠ 0)) = true then 0 else ((r 1) k) / 3 + ((r 1) k)) () dX8_habit_34 ?_ hP hD hS (Nat.le_of_ble_eq_true rfl) (Nat.le_of_ble_eq_true rfl)
      rw [ec0]
      exact pHabit_4 _ _
    · skip
      refine x_Ui (wN := fun _ => (wR G a kd r ++ wK ka)) ⟨C0, hK, hP, hD, hS, hA⟩ 11 rfl (ci := 6) rfl rfl ((m_X7_habit l G (ka 5) 6 _ rfl ((r 1) k) (decide (pSet r 1 &&& (b1 k ^^^ -1) ≠ 0)))) (va_cwA (owner := "PulledFromUnder$Kind") 2 hts (lw_U q646 q648 q649 q650 q93 q651) rfl rfl rfl (hK.2.D 10 rfl) (by decide +kernel) ⟨Nat.le_of_ble_eq_true rfl, Nat.le_of_ble_eq_true rfl⟩) [11] [0, 2, 4, 6, 8, 10, 12, 14, 16, 18, 20, 1] rfl (fun _ => rfl) rfl rfl hl.1 rfl (Nat.le_of_ble_eq_true rfl) dX8_habit_31 ⟨Nat.le_of_ble_eq_true rfl, Nat.le_of_ble_eq_true rfl⟩ (fun r_14 u_14 H locs hw_14 hP hD hS => ?_)
      have hw_14 : (pG ((r 1) k) + 2 : Int32) = r_14 := hw_14.symm
      subst hw_14
      refine hret _ _ _ _ _ _ (pG ((r 1) k) + 2) () dX8_habit_34 ?_ hP hD hS (Nat.le_of_ble_eq_true rfl) (Nat.le_of_ble_eq_true rfl)
      rw [ec0]
      exact pHabit_5 _ _
set_option maxHeartbeats 4000000 in
set_option maxRecDepth 100000 in
theorem m_grip (l : Launch) (G : xG) (a ka : Nat → Nat) (kd : Nat → Option Nat) (r : Rw) (hr : Ok r) (hk : kOk ka kd r) (k : Nat) (hk1 : k < mny r) : xCi l G yX8_grip cX8_grip 2 (some .int) ({ frames := 3, cells := 0, slots := 0, locals := 63 } : Room) [.ref (a 0), .int (nI k)] (wR G a kd r ++ wK ka) (S := Unit) (fun v _ => v = pGrip (r 0 k) (r 1 k)) (fun _ => wR G a kd r ++ wK ka) := by
  refine x_openi (by decide) (Nat.le_of_ble_eq_true rfl) (fun _ _ _ => rfl) ?_
  intro p e s m args below meth c A Q ls C0 hK hP hD hA hl hret
  obtain ⟨hx, hb, hml, hown, hts⟩ := id C0
  have hS : va_S A s.heap s.heap [] := va_S.rf
  have hP : va_P G.1 vwCl (wR G a kd r ++ wK ka) s.heap := hP
  have hD : va_D A (wR G a kd r ++ wK ka) := hD
  have hl : lv_has ls 2 [(0, .ref (a 0)), (1, .int (nI k))] := hl
  have hr0 := hr.n
  have hN := hr.le
  obtain ⟨c0, hc0, ec0⟩ := hr.kd hk1
  refine lv_aload_n hx hb dX8_grip_0 rfl (lv_at hl 0 rfl) ?_
  refine va_get (D := G.1) (ci := 7) (v := .ref (a 1)) (C := RX8) (T := TX8) (N := 9) hx hb hts in_X8 hown hK.1 hP 0 rfl rfl 1 (by decide) (hts _ q180) (fun _ h9 => h9) rfl dX8_grip_1 ?_
  refine lv_iload_n hx hb dX8_grip_4 rfl (lv_at hl 1 rfl) ?_
  refine x_aald hx hb hK.1 hP 1 3 rfl rfl (vp_in_nI (by omega) (by decide)) (x := ka c0) (hk.at hk1 (by omega) ec0 hc0) dX8_grip_5 ?_
  refine lv_aload_n hx hb dX8_grip_6 rfl (lv_at hl 0 rfl) ?_
  refine va_get (D := G.1) (ci := 7) (v := .ref (a 2)) (C := RX8) (T := TX8) (N := 9) hx hb hts in_X8 hown hK.1 hP 0 rfl rfl 2 (by decide) (hts _ q182) (fun _ h9 => h9) rfl dX8_grip_7 ?_
  refine lv_iload_n hx hb dX8_grip_10 rfl (lv_at hl 1 rfl) ?_
  refine x_ialdn (k := k) hx hb hK.1 hP 2 0 rfl rfl (by omega) (by decide) (v := (r 1) k) rfl dX8_grip_11 ?_
  rcases (show c0 = 0 ∨ c0 = 1 ∨ c0 = 2 ∨ c0 = 3 ∨ c0 = 4 ∨ c0 = 5 by omega) with rfl | rfl | rfl | rfl | rfl | rfl
  · skip
    refine x_Ui (wN := fun _ => (wR G a kd r ++ wK ka)) ⟨C0, hK, hP, hD, hS, hA⟩ 6 rfl (ci := 1) rfl rfl ((m_X2_grip l G (ka 0) 1 _ rfl ((r 1) k))) (va_cwA (owner := "PulledFromUnder$Kind") 1 hts (lw_U q594 q596 q614 q604 q88 q605) rfl rfl rfl (hK.2.D 9 rfl) (by decide +kernel) ⟨Nat.le_of_ble_eq_true rfl, Nat.le_of_ble_eq_true rfl⟩) [6] [0, 2, 4, 6, 8, 10, 1, 14, 16, 18, 20, 22] rfl (fun _ => rfl) rfl rfl hl.1 rfl (Nat.le_of_ble_eq_true rfl) dX8_grip_12 ⟨Nat.le_of_ble_eq_true rfl, Nat.le_of_ble_eq_true rfl⟩ (fun r_1 u_1 H locs hw_1 hP hD hS => ?_)
    have hw_1 : (((r 1) k) : Int32) = r_1 := hw_1.symm
    subst hw_1
    refine hret _ _ _ _ _ _ ((r 1) k) () dX8_grip_15 ?_ hP hD hS (Nat.le_of_ble_eq_true rfl) (Nat.le_of_ble_eq_true rfl)
    rw [ec0]
    exact pGrip_0 _
  · skip
    refine x_Ui (wN := fun _ => (wR G a kd r ++ wK ka)) ⟨C0, hK, hP, hD, hS, hA⟩ 7 rfl (ci := 2) rfl rfl ((m_X3_grip l G (ka 1) 2 _ rfl ((r 1) k))) (va_cwA (owner := "PulledFromUnder$Kind") 1 hts (lw_U q594 q596 q609 q601 q89 q602) rfl rfl rfl (hK.2.D 9 rfl) (by decide +kernel) ⟨Nat.le_of_ble_eq_true rfl, Nat.le_of_ble_eq_true rfl⟩) [7] [0, 2, 4, 6, 8, 10, 12, 1, 16, 18, 20, 22] rfl (fun _ => rfl) rfl rfl hl.1 rfl (Nat.le_of_ble_eq_true rfl) dX8_grip_12 ⟨Nat.le_of_ble_eq_true rfl, Nat.le_of_ble_eq_true rfl⟩ (fun r_2 u_2 H locs hw_2 hP hD hS => ?_)
    have hw_2 : (9 - ((r 1) k) : Int32) = r_2 := hw_2.symm
    subst hw_2
    refine hret _ _ _ _ _ _ (9 - ((r 1) k)) () dX8_grip_15 ?_ hP hD hS (Nat.le_of_ble_eq_true rfl) (Nat.le_of_ble_eq_true rfl)
    rw [ec0]
    exact pGrip_1 _
  · skip
    refine x_Ui (wN := fun _ => (wR G a kd r ++ wK ka)) ⟨C0, hK, hP, hD, hS, hA⟩ 8 rfl (ci := 3) rfl rfl ((m_X4_grip l G (ka 2) 3 _ rfl ((r 1) k))) (va_cwA (owner := "PulledFromUnder$Kind") 1 hts (lw_U q594 q596 q610 q611 q90 q612) rfl rfl rfl (hK.2.D 9 rfl) (by decide +kernel) ⟨Nat.le_of_ble_eq_true rfl, Nat.le_of_ble_eq_true rfl⟩) [8] [0, 2, 4, 6, 8, 10, 12, 14, 1, 18, 20, 22] rfl (fun _ => rfl) rfl rfl hl.1 rfl (Nat.le_of_ble_eq_true rfl) dX8_grip_12 ⟨Nat.le_of_ble_eq_true rfl, Nat.le_of_ble_eq_true rfl⟩ (fun r_3 u_3 H locs hw_3 hP hD hS => ?_)
    have hw_3 : (((r 1) k) / 2 : Int32) = r_3 := hw_3.symm
    subst hw_3
    refine hret _ _ _ _ _ _ (((r 1) k) / 2) () dX8_grip_15 ?_ hP hD hS (Nat.le_of_ble_eq_true rfl) (Nat.le_of_ble_eq_true rfl)
    rw [ec0]
    exact pGrip_2 _
  · skip
    refine x_Ui (wN := fun _ => (wR G a kd r ++ wK ka)) ⟨C0, hK, hP, hD, hS, hA⟩ 9 rfl (ci := 4) rfl rfl ((m_X5_grip l G (ka 3) 4 _ rfl ((r 1) k))) (va_cwA (owner := "PulledFromUnder$Kind") 1 hts (lw_U q594 q596 q606 q607 q91 q608) rfl rfl rfl (hK.2.D 9 rfl) (by decide +kernel) ⟨Nat.le_of_ble_eq_true rfl, Nat.le_of_ble_eq_true rfl⟩) [9] [0, 2, 4, 6, 8, 10, 12, 14, 16, 1, 20, 22] rfl (fun _ => rfl) rfl rfl hl.1 rfl (Nat.le_of_ble_eq_true rfl) dX8_grip_12 ⟨Nat.le_of_ble_eq_true rfl, Nat.le_of_ble_eq_true rfl⟩ (fun r_4 u_4 H locs hw_4 hP hD hS => ?_)
    have hw_4 : (0 : Int32) = r_4 := hw_4.symm
    subst hw_4
    refine hret _ _ _ _ _ _ 0 () dX8_grip_15 ?_ hP hD hS (Nat.le_of_ble_eq_true rfl) (Nat.le_of_ble_eq_true rfl)
    rw [ec0]
    exact pGrip_3 _
  · skip
    refine x_Ui (wN := fun _ => (wR G a kd r ++ wK ka)) ⟨C0, hK, hP, hD, hS, hA⟩ 10 rfl (ci := 5) rfl rfl ((m_X4_grip l G (ka 4) 5 _ rfl ((r 1) k))) (va_cwA (owner := "PulledFromUnder$Kind") 1 hts (lw_U q594 q596 q615 q611 q90 q612) rfl rfl rfl (hK.2.D 9 rfl) (by decide +kernel) ⟨Nat.le_of_ble_eq_true rfl, Nat.le_of_ble_eq_true rfl⟩) [10] [0, 2, 4, 6, 8, 10, 12, 14, 16, 18, 1, 22] rfl (fun _ => rfl) rfl rfl hl.1 rfl (Nat.le_of_ble_eq_true rfl) dX8_grip_12 ⟨Nat.le_of_ble_eq_true rfl, Nat.le_of_ble_eq_true rfl⟩ (fun r_5 u_5 H locs hw_5 hP hD hS => ?_)
    have hw_5 : (((r 1) k) / 2 : Int32) = r_5 := hw_5.symm
    subst hw_5
    refine hret _ _ _ _ _ _ (((r 1) k) / 2) () dX8_grip_15 ?_ hP hD hS (Nat.le_of_ble_eq_true rfl) (Nat.le_of_ble_eq_true rfl)
    rw [ec0]
    exact pGrip_4 _
  · skip
    refine x_Ui (wN := fun _ => (wR G a kd r ++ wK ka)) ⟨C0, hK, hP, hD, hS, hA⟩ 11 rfl (ci := 6) rfl rfl ((m_X7_grip l G (ka 5) 6 _ rfl ((r 1) k))) (va_cwA (owner := "PulledFromUnder$Kind") 1 hts (lw_U q594 q596 q597 q598 q93 q599) rfl rfl rfl (hK.2.D 9 rfl) (by decide +kernel) ⟨Nat.le_of_ble_eq_true rfl, Nat.le_of_ble_eq_true rfl⟩) [11] [0, 2, 4, 6, 8, 10, 12, 14, 16, 18, 20, 1] rfl (fun _ => rfl) rfl rfl hl.1 rfl (Nat.le_of_ble_eq_true rfl) dX8_grip_12 ⟨Nat.le_of_ble_eq_true rfl, Nat.le_of_ble_eq_true rfl⟩ (fun r_6 u_6 H locs hw_6 hP hD hS => ?_)
    have hw_6 : (9 - ((r 1) k) + 1 : Int32) = r_6 := hw_6.symm
    subst hw_6
    refine hret _ _ _ _ _ _ (9 - ((r 1) k) + 1) () dX8_grip_15 ?_ hP hD hS (Nat.le_of_ble_eq_true rfl) (Nat.le_of_ble_eq_true rfl)
    rw [ec0]
    exact pGrip_5 _
set_option maxHeartbeats 4000000 in
set_option maxRecDepth 100000 in
theorem m_fall (l : Launch) (G : xG) (a ka : Nat → Nat) (kd : Nat → Option Nat) (r : Rw) (hr : Ok r) (hk : kOk ka kd r) (u sp : Int32) (hp : r 5 3 = 0) : xCi l G yX8_fall cX8_fall 5 (some .int) ({ frames := 4, cells := 0, slots := 0, locals := 84 } : Room) [.ref (a 0), .int u, .int sp] (wR G a kd r ++ wK ka) (S := Unit) (fun v _ => v = pFallN r u sp) (fun _ => wR G a kd (pFall r u sp) ++ wK ka) := by
  refine x_openi (by decide) (Nat.le_of_ble_eq_true rfl) (fun _ _ _ => rfl) ?_
  intro p e s m args below meth c A Q ls C0 hK hP hD hA hl hret
  obtain ⟨hx, hb, hml, hown, hts⟩ := id C0
  have hS : va_S A s.heap s.heap [] := va_S.rf
  have hP : va_P G.1 vwCl (wR G a kd r ++ wK ka) s.heap := hP
  have hD : va_D A (wR G a kd r ++ wK ka) := hD
  have hl : lv_has ls 5 [(0, .ref (a 0)), (1, .int u), (2, .int sp)] := hl
  have hr0 := hr.n
  have hN := hr.le
  refine lv_iconst (v := 0) hx hb dX8_fall_0 (by decide) ?_
  refine lv_istore_n (lv' := [(3, .int 0), (0, .ref (a 0)), (1, .int u), (2, .int sp)]) hx hb dX8_fall_1 rfl hl (by decide) rfl (fun ls hl => ?_)
  refine lv_iconst (v := 0) hx hb dX8_fall_2 (by decide) ?_
  refine lv_istore (lv' := [(4, .int 0), (3, .int 0), (0, .ref (a 0)), (1, .int u), (2, .int sp)]) hx hb dX8_fall_3 hl (by decide) rfl (fun ls hl => ?_)
  have loop_5 : ∀ (n : Nat) (i : Nat), (i ≤ mny r) → (mny r < i + n) → ∀ (H : Heap) (locs : List Loc) (ls : Array Slot), va_P G.1 vwCl (wR G a kd (pFallTo r u sp i) ++ wK ka) H → va_D A (wR G a kd (pFallTo r u sp i) ++ wK ka) → va_S A s.heap H locs → lv_has ls 5 [(4, .int (nI i)), (3, .int (nI (cn (pShk r u sp) i))), (0, .ref (a 0)), (1, .int u), (2, .int sp)] → W p l e ({ frames := 4, cells := 0, slots := 0, locals := 84 } : Room) s m args below meth c H locs 0 0 Q (F0 m 5 ls []) := by
    intro n
    induction n with
    | zero => intro i hi5_0 hi5_1; exact absurd hi5_1 (by omega)
    | succ n ih_5 =>
      intro i hi5_0 hi5_1 H locs ls hP hD hS hl
      refine lv_iload hx hb dX8_fall_5 (lv_at hl 0 rfl) ?_
      refine lv_aload_n hx hb dX8_fall_7 rfl (lv_at hl 2 rfl) ?_
      refine va_get (D := G.1) (ci := 7) (v := .int (nI (mny r))) (C := RX8) (T := TX8) (N := 9) hx hb hts in_X8 hown hK.1 hP 0 rfl rfl 0 (by decide) (hts _ q174) (fun _ h9 => h9) (x_some hr0) dX8_fall_8 ?_
      refine lv_icmp_ge (tgt := 73) hx hb dX8_fall_11 (by decide) (fun c_1 => ?_) (fun c_1 => ?_)
      · skip
        have g_1 := (nI_leI (by omega) (by omega)).mp c_1
        refine lv_iload_n hx hb dX8_fall_73 rfl (lv_at hl 1 rfl) ?_
        have ei : i = mny r := by omega
        rw [ei] at hP hD
        refine hret _ _ _ _ _ _ (nI (cn (pShk r u sp) i)) () dX8_fall_74 ?_ hP hD hS (Nat.le_of_ble_eq_true rfl) (Nat.le_of_ble_eq_true rfl)
        show nI (cn (pShk r u sp) i) = nI (cn (pShk r u sp) (mny r))
        rw [show i = mny r by omega]
      · skip
        have g_1 := mt (nI_leI (by omega) (by omega)).mpr c_1
        refine lv_aload_n hx hb dX8_fall_14 rfl (lv_at hl 2 rfl) ?_
        refine lv_iload hx hb dX8_fall_15 (lv_at hl 0 rfl) ?_
        refine x_Vi (wN := fun _ => (wR G a kd (pFallTo r u sp i) ++ wK ka)) ⟨C0, hK, hP, hD, hS, hA⟩ 0 rfl (ci := 7) rfl rfl ((m_isStanding l G a ka kd (pFallTo r u sp i) hr.fallTo hk.fallTo i (by omega))) (cwV 1 hts (lw_V q589 q558 q559 q94 q560) rfl rfl rfl (by decide +kernel) ⟨Nat.le_of_ble_eq_true rfl, Nat.le_of_ble_eq_true rfl⟩) [0, 1, 2, 3, 4, 5, 6, 7, 8, 9, 10, 11] [1, 3, 5, 7, 9, 11, 13, 15, 17, 19, 21, 23] rfl (fun _ => rfl) rfl rfl hl.1 rfl (Nat.le_of_ble_eq_true rfl) dX8_fall_17 ⟨Nat.le_of_ble_eq_true rfl, Nat.le_of_ble_eq_true rfl⟩ (fun r_2 u_2 H locs hw_2 hP hD hS => ?_)
        have hw_2 : r_2 = bI (pSt r i) := hw_2.trans (congrArg bI (pSt_fallTo r u sp i))
        have hw_2 : (bI (pSt r i) : Int32) = r_2 := hw_2.symm
        subst hw_2
        refine lv_if_eq (tgt := 67) hx hb dX8_fall_20 (by decide) (fun c_3 => ?_) (fun c_3 => ?_)
        · skip
          refine lv_iinc (v := nI (i + 1)) (lv' := [(4, .int (nI (i + 1))), (3, .int (nI (cn (pShk r u sp) i))), (0, .ref (a 0)), (1, .int u), (2, .int sp)]) hx hb dX8_fall_67 hl (k := 0) rfl (x_inc1 _) (by decide) rfl (fun ls hl => ?_)
          refine lv_goto (tgt := 5) hx hb dX8_fall_70 (by decide) ?_
          rw [bI_0] at c_3
          have hs0 : pShk r u sp i = false := by simp [pShk, c_3]
          rw [pFallTo_n hs0] at hP hD
          rw [← cn_f hs0] at hl
          exact ih_5 (i + 1) (by omega) (by omega) _ _ _ hP hD hS (lv_sub hl [0, 1, 2, 3, 4] rfl)
        · skip
          refine lv_aload_n hx hb dX8_fall_23 rfl (lv_at hl 2 rfl) ?_
          refine va_get (D := G.1) (ci := 7) (v := .ref (a 3)) (C := RX8) (T := TX8) (N := 9) hx hb hts in_X8 hown hK.1 hP 0 rfl rfl 3 (by decide) (hts _ q184) (fun _ h9 => h9) rfl dX8_fall_24 ?_
          refine lv_iload hx hb dX8_fall_27 (lv_at hl 0 rfl) ?_
          refine x_ialdn (k := i) hx hb hK.1 hP 3 0 rfl rfl (by omega) (by decide) (v := (r 2) i) rfl dX8_fall_29 ?_
          refine lv_iload_n hx hb dX8_fall_30 rfl (lv_at hl 3 rfl) ?_
          refine lv_icmp_ne (tgt := 67) hx hb dX8_fall_31 (by decide) (fun c_4 => ?_) (fun c_4 => ?_)
          · skip
            refine lv_iinc (v := nI (i + 1)) (lv' := [(4, .int (nI (i + 1))), (3, .int (nI (cn (pShk r u sp) i))), (0, .ref (a 0)), (1, .int u), (2, .int sp)]) hx hb dX8_fall_67 hl (k := 0) rfl (x_inc1 _) (by decide) rfl (fun ls hl => ?_)
            refine lv_goto (tgt := 5) hx hb dX8_fall_70 (by decide) ?_
            have hs0 : pShk r u sp i = false := by simp [pShk, show ¬ r 2 i = u from c_4]
            rw [pFallTo_n hs0] at hP hD
            rw [← cn_f hs0] at hl
            exact ih_5 (i + 1) (by omega) (by omega) _ _ _ hP hD hS (lv_sub hl [0, 1, 2, 3, 4] rfl)
          · skip
            refine lv_aload_n hx hb dX8_fall_34 rfl (lv_at hl 2 rfl) ?_
            refine lv_iload hx hb dX8_fall_35 (lv_at hl 0 rfl) ?_
            refine x_Vi (wN := fun _ => (wR G a kd (pFallTo r u sp i) ++ wK ka)) ⟨C0, hK, hP, hD, hS, hA⟩ 0 rfl (ci := 7) rfl rfl ((m_grip l G a ka kd (pFallTo r u sp i) hr.fallTo hk.fallTo i (show i < mny r by omega))) (cwV 1 hts (lw_V q590 q591 q592 q94 q593) rfl rfl rfl (by decide +kernel) ⟨Nat.le_of_ble_eq_true rfl, Nat.le_of_ble_eq_true rfl⟩) [0, 1, 2, 3, 4, 5, 6, 7, 8, 9, 10, 11] [1, 3, 5, 7, 9, 11, 13, 15, 17, 19, 21, 23] rfl (fun _ => rfl) rfl rfl hl.1 rfl (Nat.le_of_ble_eq_true rfl) dX8_fall_37 ⟨Nat.le_of_ble_eq_true rfl, Nat.le_of_ble_eq_true rfl⟩ (fun r_5 u_5 H locs hw_5 hP hD hS => ?_)
            have hw_5 : (pGrip (r 0 i) (r 1 i) : Int32) = r_5 := hw_5.symm
            subst hw_5
            refine lv_iload_n hx hb dX8_fall_40 rfl (lv_at hl 4 rfl) ?_
            refine lv_icmp_le (tgt := 67) hx hb dX8_fall_41 (by decide) (fun c_6 => ?_) (fun c_6 => ?_)
            · skip
              refine lv_iinc (v := nI (i + 1)) (lv' := [(4, .int (nI (i + 1))), (3, .int (nI (cn (pShk r u sp) i))), (0, .ref (a 0)), (1, .int u), (2, .int sp)]) hx hb dX8_fall_67 hl (k := 0) rfl (x_inc1 _) (by decide) rfl (fun ls hl => ?_)
              refine lv_goto (tgt := 5) hx hb dX8_fall_70 (by decide) ?_
              have hs0 : pShk r u sp i = false := by simp [pShk, Int32.not_lt.mpr c_6]
              rw [pFallTo_n hs0] at hP hD
              rw [← cn_f hs0] at hl
              exact ih_5 (i + 1) (by omega) (by omega) _ _ _ hP hD hS (lv_sub hl [0, 1, 2, 3, 4] rfl)
            · skip
              refine lv_aload_n hx hb dX8_fall_44 rfl (lv_at hl 2 rfl) ?_
              refine va_get (D := G.1) (ci := 7) (v := .int (r 5 3)) (C := RX8) (T := TX8) (N := 9) hx hb hts in_X8 hown hK.1 hP 0 rfl rfl 8 (by decide) (hts _ q198) (fun _ h9 => h9) rfl dX8_fall_45 ?_
              refine lv_iload hx hb dX8_fall_48 (lv_at hl 0 rfl) ?_
              refine x_SNi (wN := fun _ => (wR G a kd (pFallTo r u sp i) ++ wK ka)) ⟨C0, hK, hP, hD, hS, hA⟩ ((m_has l G (r 5 3) i)) ⟨va_cnB 2 hts (lw_meth q618) rfl rfl rfl (hK.2.M 19 rfl) (hts _ q86) (by decide +kernel) ⟨Nat.le_of_ble_eq_true rfl, Nat.le_of_ble_eq_true rfl⟩, hts _ q617, trivial⟩ [] [0, 2, 4, 6, 8, 10, 12, 14, 16, 18, 20, 22] rfl (fun _ => rfl) rfl rfl hl.1 rfl (Nat.le_of_ble_eq_true rfl) dX8_fall_50 ⟨Nat.le_of_ble_eq_true rfl, Nat.le_of_ble_eq_true rfl⟩ (fun r_7 u_7 H locs hw_7 hP hD hS => ?_)
              have hw_7 : (bI (hs (r 5 3) i) : Int32) = r_7 := hw_7.symm
              subst hw_7
              refine lv_if_ne (tgt := 67) hx hb dX8_fall_53 (by decide) (fun c_8 => ?_) (fun c_8 => ?_)
              · skip
                exact absurd (show bI (hs (r 5 3) i) = 0 by rw [hp, hs_0 _ (by omega)]; rfl) c_8
              · skip
                refine lv_aload_n hx hb dX8_fall_56 rfl (lv_at hl 2 rfl) ?_
                refine va_get (D := G.1) (ci := 7) (v := .ref (a 4)) (C := RX8) (T := TX8) (N := 9) hx hb hts in_X8 hown hK.1 hP 0 rfl rfl 4 (by decide) (hts _ q186) (fun _ h9 => h9) rfl dX8_fall_57 ?_
                refine lv_iload hx hb dX8_fall_60 (lv_at hl 0 rfl) ?_
                refine lv_iconst (v := 1) hx hb dX8_fall_62 (by decide) ?_
                refine x_iastn (k := i) hx hb hK.1 hP hD hS 4 0 rfl rfl (by omega) (by decide) (g := upd (pFallTo r u sp i 3) i 1) rfl dX8_fall_63 (fun H locs hP hD hS => ?_)
                have hP : va_P G.1 vwCl (wR G a kd (sf (pFallTo r u sp i) 3 (upd (pFallTo r u sp i 3) i 1)) ++ wK ka) H := hP
                have hD : va_D A (wR G a kd (sf (pFallTo r u sp i) 3 (upd (pFallTo r u sp i 3) i 1)) ++ wK ka) := hD
                refine lv_iinc (v := nI ((cn (pShk r u sp) i) + 1)) (lv' := [(3, .int (nI ((cn (pShk r u sp) i) + 1))), (4, .int (nI i)), (0, .ref (a 0)), (1, .int u), (2, .int sp)]) hx hb dX8_fall_64 hl (k := 1) rfl (x_inc1 _) (by decide) rfl (fun ls hl => ?_)
                refine lv_iinc (v := nI (i + 1)) (lv' := [(4, .int (nI (i + 1))), (3, .int (nI ((cn (pShk r u sp) i) + 1))), (0, .ref (a 0)), (1, .int u), (2, .int sp)]) hx hb dX8_fall_67 hl (k := 1) rfl (x_inc1 _) (by decide) rfl (fun ls hl => ?_)
                refine lv_goto (tgt := 5) hx hb dX8_fall_70 (by decide) ?_
                simp only [ne_eq, Decidable.not_not, bI_0, Bool.not_eq_false] at c_3 c_4 c_6
                have hs1 : pShk r u sp i = true := by simp [pShk, c_3, c_4, Int32.not_le.mp c_6]
                rw [pFallTo_y hs1] at hP hD
                rw [← cn_t hs1] at hl
                exact ih_5 (i + 1) (by omega) (by omega) _ _ _ hP hD hS (lv_sub hl [0, 1, 2, 3, 4] rfl)
  exact loop_5 (mny r + 1) 0 (Nat.zero_le _) (by omega) _ _ _ (by rw [pFallTo_0]; exact hP) (by rw [pFallTo_0]; exact hD) hS (lv_sub hl [0, 1, 2, 3, 4] rfl)
set_option maxHeartbeats 4000000 in
set_option maxRecDepth 100000 in
theorem m_pull (l : Launch) (G : xG) (a ka : Nat → Nat) (kd : Nat → Option Nat) (r : Rw) (hr : Ok r) (hk : kOk ka kd r) (t : Nat) (sp : Int32) (ht : t < mny r) (hp : r 5 3 = 0) : xCi l G yX8_pull cX8_pull 3 (some .int) ({ frames := 5, cells := 0, slots := 0, locals := 108 } : Room) [.ref (a 0), .int (nI t), .int sp] (wR G a kd r ++ wK ka) (S := Unit) (fun v _ => v = pPullN r t sp) (fun _ => wR G a kd (pPull r t sp) ++ wK ka) := by
  refine x_openi (by decide) (Nat.le_of_ble_eq_true rfl) (fun _ _ _ => rfl) ?_
  intro p e s m args below meth c A Q ls C0 hK hP hD hA hl hret
  obtain ⟨hx, hb, hml, hown, hts⟩ := id C0
  have hS : va_S A s.heap s.heap [] := va_S.rf
  have hP : va_P G.1 vwCl (wR G a kd r ++ wK ka) s.heap := hP
  have hD : va_D A (wR G a kd r ++ wK ka) := hD
  have hl : lv_has ls 3 [(0, .ref (a 0)), (1, .int (nI t)), (2, .int sp)] := hl
  have hr0 := hr.n
  have hN := hr.le
  refine lv_aload_n hx hb dX8_pull_0 rfl (lv_at hl 0 rfl) ?_
  refine va_get (D := G.1) (ci := 7) (v := .ref (a 4)) (C := RX8) (T := TX8) (N := 9) hx hb hts in_X8 hown hK.1 hP 0 rfl rfl 4 (by decide) (hts _ q186) (fun _ h9 => h9) rfl dX8_pull_1 ?_
  refine lv_iload_n hx hb dX8_pull_4 rfl (lv_at hl 1 rfl) ?_
  refine lv_iconst (v := 2) hx hb dX8_pull_5 (by decide) ?_
  refine x_iastn (k := t) hx hb hK.1 hP hD hS 4 0 rfl rfl (by omega) (by decide) (g := upd (r 3) t 2) rfl dX8_pull_6 (fun H locs hP hD hS => ?_)
  have hP : va_P G.1 vwCl (wR G a kd (sf r 3 (upd (r 3) t 2)) ++ wK ka) H := hP
  have hD : va_D A (wR G a kd (sf r 3 (upd (r 3) t 2)) ++ wK ka) := hD
  refine lv_aload_n hx hb dX8_pull_7 rfl (lv_at hl 0 rfl) ?_
  refine lv_iload_n hx hb dX8_pull_8 rfl (lv_at hl 1 rfl) ?_
  refine lv_iload_n hx hb dX8_pull_9 rfl (lv_at hl 2 rfl) ?_
  refine x_Vi (wN := fun _ => (wR G a kd (pFall (sf r 3 (upd (r 3) t 2)) (nI t) sp) ++ wK ka)) ⟨C0, hK, hP, hD, hS, hA⟩ 0 rfl (ci := 7) rfl rfl ((m_fall l G a ka kd (sf r 3 (upd (r 3) t 2)) (Ok.s3 hr) (kOk.s3 hk) (nI t) sp hp)) (cwV 2 hts (lw_V q585 q587 qs12 q94 q588) rfl rfl rfl (by decide +kernel) ⟨Nat.le_of_ble_eq_true rfl, Nat.le_of_ble_eq_true rfl⟩) [0, 1, 2, 3, 4, 5, 6, 7, 8, 9, 10, 11] [1, 3, 5, 7, 9, 11, 13, 15, 17, 19, 21, 23] rfl (fun _ => rfl) rfl rfl hl.1 rfl (Nat.le_of_ble_eq_true rfl) dX8_pull_10 ⟨Nat.le_of_ble_eq_true rfl, Nat.le_of_ble_eq_true rfl⟩ (fun r_1 u_1 H locs hw_1 hP hD hS => ?_)
  have hw_1 : (pFallN (sf r 3 (upd (r 3) t 2)) (nI t) sp : Int32) = r_1 := hw_1.symm
  subst hw_1
  have hP : va_P G.1 vwCl (wR G a kd (pFall (sf r 3 (upd (r 3) t 2)) (nI t) sp) ++ wK ka) H := hP
  have hD : va_D A (wR G a kd (pFall (sf r 3 (upd (r 3) t 2)) (nI t) sp) ++ wK ka) := hD
  refine hret _ _ _ _ _ _ (pFallN (sf r 3 (upd (r 3) t 2)) (nI t) sp) () dX8_pull_13 ?_ hP hD hS (Nat.le_of_ble_eq_true rfl) (Nat.le_of_ble_eq_true rfl)
  rfl
set_option maxHeartbeats 4000000 in
set_option maxRecDepth 100000 in
theorem m_pullFloor (l : Launch) (G : xG) (a ka : Nat → Nat) (kd : Nat → Option Nat) (r : Rw) (hr : Ok r) (hk : kOk ka kd r) (sp : Int32) (hp : r 5 3 = 0) : xCi l G yX8_pullFloor cX8_pullFloor 2 (some .int) ({ frames := 5, cells := 0, slots := 0, locals := 108 } : Room) [.ref (a 0), .int sp] (wR G a kd r ++ wK ka) (S := Unit) (fun v _ => v = pPullFN r sp) (fun _ => wR G a kd (pPullF r sp) ++ wK ka) := by
  refine x_openi (by decide) (Nat.le_of_ble_eq_true rfl) (fun _ _ _ => rfl) ?_
  intro p e s m args below meth c A Q ls C0 hK hP hD hA hl hret
  obtain ⟨hx, hb, hml, hown, hts⟩ := id C0
  have hS : va_S A s.heap s.heap [] := va_S.rf
  have hP : va_P G.1 vwCl (wR G a kd r ++ wK ka) s.heap := hP
  have hD : va_D A (wR G a kd r ++ wK ka) := hD
  have hl : lv_has ls 2 [(0, .ref (a 0)), (1, .int sp)] := hl
  have hr0 := hr.n
  have hN := hr.le
  refine lv_aload_n hx hb dX8_pullFloor_0 rfl (lv_at hl 0 rfl) ?_
  refine lv_iconst (v := 0) hx hb dX8_pullFloor_1 (by decide) ?_
  refine va_put (D := G.1) (ci := 7) (v := .int 0) (ty := .boolean) (C := RX8) (T := TX8) (N := 9) hx hb hts in_X8 tyX8 tyX8_ok nmX8 hown hK.1 hP hD hS 0 rfl rfl 6 (by decide) (hts _ q191) (fun _ h9 => h9) rfl (by decide +kernel) (by decide) (by decide) (Nat.le_of_ble_eq_true rfl) dX8_pullFloor_2 (fun H locs hP hD hS => ?_)
  have hP : va_P G.1 vwCl (wR G a kd (sf r 5 (upd (r 5) 2 0)) ++ wK ka) H := hP
  have hD : va_D A (wR G a kd (sf r 5 (upd (r 5) 2 0)) ++ wK ka) := hD
  refine lv_aload_n hx hb dX8_pullFloor_5 rfl (lv_at hl 0 rfl) ?_
  refine lv_bipush (v := (-9)) hx hb dX8_pullFloor_6 (by decide) ?_
  refine lv_iload_n hx hb dX8_pullFloor_8 rfl (lv_at hl 1 rfl) ?_
  refine x_Vi (wN := fun _ => (wR G a kd (pFall (sf r 5 (upd (r 5) 2 0)) (-9) sp) ++ wK ka)) ⟨C0, hK, hP, hD, hS, hA⟩ 0 rfl (ci := 7) rfl rfl ((m_fall l G a ka kd (sf r 5 (upd (r 5) 2 0)) (Ok.noFl hr) (kOk.noFl hk) (-9) sp hp)) (cwV 2 hts (lw_V q585 q587 qs12 q94 q588) rfl rfl rfl (by decide +kernel) ⟨Nat.le_of_ble_eq_true rfl, Nat.le_of_ble_eq_true rfl⟩) [0, 1, 2, 3, 4, 5, 6, 7, 8, 9, 10, 11] [1, 3, 5, 7, 9, 11, 13, 15, 17, 19, 21, 23] rfl (fun _ => rfl) rfl rfl hl.1 rfl (Nat.le_of_ble_eq_true rfl) dX8_pullFloor_9 ⟨Nat.le_of_ble_eq_true rfl, Nat.le_of_ble_eq_true rfl⟩ (fun r_1 u_1 H locs hw_1 hP hD hS => ?_)
  have hw_1 : (pFallN (sf r 5 (upd (r 5) 2 0)) (-9) sp : Int32) = r_1 := hw_1.symm
  subst hw_1
  have hP : va_P G.1 vwCl (wR G a kd (pFall (sf r 5 (upd (r 5) 2 0)) (-9) sp) ++ wK ka) H := hP
  have hD : va_D A (wR G a kd (pFall (sf r 5 (upd (r 5) 2 0)) (-9) sp) ++ wK ka) := hD
  refine hret _ _ _ _ _ _ (pFallN (sf r 5 (upd (r 5) 2 0)) (-9) sp) () dX8_pullFloor_12 ?_ hP hD hS (Nat.le_of_ble_eq_true rfl) (Nat.le_of_ble_eq_true rfl)
  rfl
set_option maxHeartbeats 4000000 in
set_option maxRecDepth 100000 in
theorem m_setUp (l : Launch) (G : xG) (a ka : Nat → Nat) (kd : Nat → Option Nat) (r : Rw) (hr : Ok r) (hk : kOk ka kd r) (t : Nat) (ht : t < 10) : xCv l G yX8_setUp cX8_setUp 2 none ({ frames := 0, cells := 0, slots := 0, locals := 0 } : Room) [.ref (a 0), .int (nI t)] (wR G a kd r ++ wK ka) (S := Unit) (fun _ => True) (fun _ => wR G a kd (pSetUp r t) ++ wK ka) := by
  refine x_openv (by decide) (Nat.le_of_ble_eq_true rfl) ?_
  intro p e s m args below meth c A Q ls C0 hK hP hD hA hl hret
  obtain ⟨hx, hb, hml, hown, hts⟩ := id C0
  have hS : va_S A s.heap s.heap [] := va_S.rf
  have hP : va_P G.1 vwCl (wR G a kd r ++ wK ka) s.heap := hP
  have hD : va_D A (wR G a kd r ++ wK ka) := hD
  have hl : lv_has ls 2 [(0, .ref (a 0)), (1, .int (nI t))] := hl
  have hr0 := hr.n
  have hN := hr.le
  refine lv_aload_n hx hb dX8_setUp_0 rfl (lv_at hl 0 rfl) ?_
  refine va_get (D := G.1) (ci := 7) (v := .ref (a 4)) (C := RX8) (T := TX8) (N := 9) hx hb hts in_X8 hown hK.1 hP 0 rfl rfl 4 (by decide) (hts _ q186) (fun _ h9 => h9) rfl dX8_setUp_1 ?_
  refine lv_iload_n hx hb dX8_setUp_4 rfl (lv_at hl 1 rfl) ?_
  refine lv_iconst (v := 0) hx hb dX8_setUp_5 (by decide) ?_
  refine x_iastn (k := t) hx hb hK.1 hP hD hS 4 0 rfl rfl (by omega) (by decide) (g := upd (r 3) t 0) rfl dX8_setUp_6 (fun H locs hP hD hS => ?_)
  have hP : va_P G.1 vwCl (wR G a kd (sf r 3 (upd (r 3) t 0)) ++ wK ka) H := hP
  have hD : va_D A (wR G a kd (sf r 3 (upd (r 3) t 0)) ++ wK ka) := hD
  refine lv_aload_n hx hb dX8_setUp_7 rfl (lv_at hl 0 rfl) ?_
  refine va_get (D := G.1) (ci := 7) (v := .ref (a 5)) (C := RX8) (T := TX8) (N := 9) hx hb hts in_X8 hown hK.1 hP 0 rfl rfl 5 (by decide) (hts _ q189) (fun _ h9 => h9) rfl dX8_setUp_8 ?_
  refine lv_iload_n hx hb dX8_setUp_11 rfl (lv_at hl 1 rfl) ?_
  refine lv_iconst (v := 0) hx hb dX8_setUp_12 (by decide) ?_
  refine x_iastn (k := t) hx hb hK.1 hP hD hS 5 0 rfl rfl (by omega) (by decide) (g := upd (r 4) t 0) rfl dX8_setUp_13 (fun H locs hP hD hS => ?_)
  have hP : va_P G.1 vwCl (wR G a kd (sf (sf r 3 (upd (r 3) t 0)) 4 (upd (r 4) t 0)) ++ wK ka) H := hP
  have hD : va_D A (wR G a kd (sf (sf r 3 (upd (r 3) t 0)) 4 (upd (r 4) t 0)) ++ wK ka) := hD
  refine hret _ _ _ _ _ _ () dX8_setUp_14 ?_ hP hD hS (Nat.le_of_ble_eq_true rfl) (Nat.le_of_ble_eq_true rfl)
  trivial
set_option maxHeartbeats 4000000 in
set_option maxRecDepth 100000 in
theorem m_minuteOn (l : Launch) (G : xG) (a ka : Nat → Nat) (kd : Nat → Option Nat) (r : Rw) (hr : Ok r) (hk : kOk ka kd r) (d : Int32) : xCv l G yX8_minuteOn cX8_minuteOn 5 none ({ frames := 4, cells := 0, slots := 0, locals := 87 } : Room) [.ref (a 0), .int d] (wR G a kd r ++ wK ka) (S := Unit) (fun _ => True) (fun _ => wR G a kd (pMin r d) ++ wK ka) := by
  refine x_openv (by decide) (Nat.le_of_ble_eq_true rfl) ?_
  intro p e s m args below meth c A Q ls C0 hK hP hD hA hl hret
  obtain ⟨hx, hb, hml, hown, hts⟩ := id C0
  have hS : va_S A s.heap s.heap [] := va_S.rf
  have hP : va_P G.1 vwCl (wR G a kd r ++ wK ka) s.heap := hP
  have hD : va_D A (wR G a kd r ++ wK ka) := hD
  have hl : lv_has ls 5 [(0, .ref (a 0)), (1, .int d)] := hl
  have hr0 := hr.n
  have hN := hr.le
  refine lv_aload_n hx hb dX8_minuteOn_0 rfl (lv_at hl 0 rfl) ?_
  refine lv_dup hx hb dX8_minuteOn_1 rfl ?_
  refine va_get (D := G.1) (ci := 7) (v := .int (r 5 1)) (C := RX8) (T := TX8) (N := 9) hx hb hts in_X8 hown hK.1 hP 0 rfl rfl 7 (by decide) (hts _ q196) (fun _ h9 => h9) rfl dX8_minuteOn_2 ?_
  refine lv_iconst (v := 1) hx hb dX8_minuteOn_5 (by decide) ?_
  refine x_iadd hx hb dX8_minuteOn_6 (v := (r 5 1) + 1) rfl ?_
  refine va_put (D := G.1) (ci := 7) (v := .int ((r 5 1) + 1)) (ty := .int) (C := RX8) (T := TX8) (N := 9) hx hb hts in_X8 tyX8 tyX8_ok nmX8 hown hK.1 hP hD hS 0 rfl rfl 7 (by decide) (hts _ q196) (fun _ h9 => h9) rfl (by decide +kernel) rfl rfl (Nat.le_of_ble_eq_true rfl) dX8_minuteOn_7 (fun H locs hP hD hS => ?_)
  have hP : va_P G.1 vwCl (wR G a kd (sf r 5 (upd (r 5) 1 ((r 5 1) + 1))) ++ wK ka) H := hP
  have hD : va_D A (wR G a kd (sf r 5 (upd (r 5) 1 ((r 5 1) + 1))) ++ wK ka) := hD
  refine lv_iconst (v := 0) hx hb dX8_minuteOn_10 (by decide) ?_
  refine lv_istore_n (lv' := [(2, .int 0), (0, .ref (a 0)), (1, .int d)]) hx hb dX8_minuteOn_11 rfl hl (by decide) rfl (fun ls hl => ?_)
  refine lv_iconst (v := 0) hx hb dX8_minuteOn_12 (by decide) ?_
  refine lv_istore_n (lv' := [(3, .int 0), (2, .int 0), (0, .ref (a 0)), (1, .int d)]) hx hb dX8_minuteOn_13 rfl hl (by decide) rfl (fun ls hl => ?_)
  have loop_14 : ∀ (n : Nat) (i : Nat), (i ≤ mny r) → (mny r < i + n) → ∀ (H : Heap) (locs : List Loc) (ls : Array Slot), va_P G.1 vwCl (wR G a kd (sf r 5 (upd (r 5) 1 ((r 5 1) + 1))) ++ wK ka) H → va_D A (wR G a kd (sf r 5 (upd (r 5) 1 ((r 5 1) + 1))) ++ wK ka) → va_S A s.heap H locs → lv_has ls 5 [(3, .int (nI i)), (2, .int (bs (pHeld r) i)), (0, .ref (a 0)), (1, .int d)] → W p l e ({ frames := 4, cells := 0, slots := 0, locals := 87 } : Room) s m args below meth c H locs 0 0 Q (F0 m 14 ls []) := by
    intro n
    induction n with
    | zero => intro i hi14_0 hi14_1; exact absurd hi14_1 (by omega)
    | succ n ih_14 =>
      intro i hi14_0 hi14_1 H locs ls hP hD hS hl
      refine lv_iload_n hx hb dX8_minuteOn_14 rfl (lv_at hl 0 rfl) ?_
      refine lv_aload_n hx hb dX8_minuteOn_15 rfl (lv_at hl 2 rfl) ?_
      refine va_get (D := G.1) (ci := 7) (v := .int (nI (mny r))) (C := RX8) (T := TX8) (N := 9) hx hb hts in_X8 hown hK.1 hP 0 rfl rfl 0 (by decide) (hts _ q174) (fun _ h9 => h9) (x_some hr0) dX8_minuteOn_16 ?_
      refine lv_icmp_ge (tgt := 46) hx hb dX8_minuteOn_19 (by decide) (fun c_1 => ?_) (fun c_1 => ?_)
      · skip
        have g_1 := (nI_leI (by omega) (by omega)).mp c_1
        obtain rfl : i = mny r := by omega
        refine lv_iconst (v := 0) hx hb dX8_minuteOn_46 (by decide) ?_
        refine lv_istore_n (lv' := [(3, .int 0), (2, .int (bs (pHeld r) (mny r))), (0, .ref (a 0)), (1, .int d)]) hx hb dX8_minuteOn_47 rfl hl (by decide) rfl (fun ls hl => ?_)
        refine lv_iconst (v := 0) hx hb dX8_minuteOn_48 (by decide) ?_
        refine lv_istore (lv' := [(4, .int 0), (3, .int 0), (2, .int (bs (pHeld r) (mny r))), (0, .ref (a 0)), (1, .int d)]) hx hb dX8_minuteOn_49 hl (by decide) rfl (fun ls hl => ?_)
        have loop_51 : ∀ (n : Nat) (i : Nat), (i ≤ mny r) → (mny r < i + n) → ∀ (H : Heap) (locs : List Loc) (ls : Array Slot), va_P G.1 vwCl (wR G a kd (pMinA r d i) ++ wK ka) H → va_D A (wR G a kd (pMinA r d i) ++ wK ka) → va_S A s.heap H locs → lv_has ls 5 [(4, .int (nI i)), (3, .int (bs (pDrop r d) i)), (2, .int (bs (pHeld r) (mny r))), (0, .ref (a 0)), (1, .int d)] → W p l e ({ frames := 4, cells := 0, slots := 0, locals := 87 } : Room) s m args below meth c H locs 0 0 Q (F0 m 51 ls []) := by
          intro n
          induction n with
          | zero => intro i hi51_0 hi51_1; exact absurd hi51_1 (by omega)
          | succ n ih_51 =>
            intro i hi51_0 hi51_1 H locs ls hP hD hS hl
            refine lv_iload hx hb dX8_minuteOn_51 (lv_at hl 0 rfl) ?_
            refine lv_aload_n hx hb dX8_minuteOn_53 rfl (lv_at hl 3 rfl) ?_
            refine va_get (D := G.1) (ci := 7) (v := .int (nI (mny r))) (C := RX8) (T := TX8) (N := 9) hx hb hts in_X8 hown hK.1 hP 0 rfl rfl 0 (by decide) (hts _ q174) (fun _ h9 => h9) (x_some hr0) dX8_minuteOn_54 ?_
            refine lv_icmp_ge (tgt := 142) hx hb dX8_minuteOn_57 (by decide) (fun c_2 => ?_) (fun c_2 => ?_)
            · skip
              have g_2 := (nI_leI (by omega) (by omega)).mp c_2
              obtain rfl : i = mny r := by omega
              refine lv_iconst (v := 0) hx hb dX8_minuteOn_142 (by decide) ?_
              refine lv_istore (lv' := [(4, .int 0), (3, .int (bs (pDrop r d) (mny r))), (2, .int (bs (pHeld r) (mny r))), (0, .ref (a 0)), (1, .int d)]) hx hb dX8_minuteOn_143 hl (by decide) rfl (fun ls hl => ?_)
              have loop_145 : ∀ (n : Nat) (i : Nat), (i ≤ mny r) → (mny r < i + n) → ∀ (H : Heap) (locs : List Loc) (ls : Array Slot), va_P G.1 vwCl (wR G a kd (pMinH r d i) ++ wK ka) H → va_D A (wR G a kd (pMinH r d i) ++ wK ka) → va_S A s.heap H locs → lv_has ls 5 [(4, .int (nI i)), (3, .int (bs (pDrop r d) (mny r))), (2, .int (bs (pHeld r) (mny r))), (0, .ref (a 0)), (1, .int d)] → W p l e ({ frames := 4, cells := 0, slots := 0, locals := 87 } : Room) s m args below meth c H locs 0 0 Q (F0 m 145 ls []) := by
                intro n
                induction n with
                | zero => intro i hi145_0 hi145_1; exact absurd hi145_1 (by omega)
                | succ n ih_145 =>
                  intro i hi145_0 hi145_1 H locs ls hP hD hS hl
                  refine lv_iload hx hb dX8_minuteOn_145 (lv_at hl 0 rfl) ?_
                  refine lv_aload_n hx hb dX8_minuteOn_147 rfl (lv_at hl 3 rfl) ?_
                  refine va_get (D := G.1) (ci := 7) (v := .int (nI (mny r))) (C := RX8) (T := TX8) (N := 9) hx hb hts in_X8 hown hK.1 hP 0 rfl rfl 0 (by decide) (hts _ q174) (fun _ h9 => h9) (x_some hr0) dX8_minuteOn_148 ?_
                  refine lv_icmp_ge (tgt := 187) hx hb dX8_minuteOn_151 (by decide) (fun c_3 => ?_) (fun c_3 => ?_)
                  · skip
                    have g_3 := (nI_leI (by omega) (by omega)).mp c_3
                    obtain rfl : i = mny r := by omega
                    refine hret _ _ _ _ _ _ () dX8_minuteOn_187 ?_ hP hD hS (Nat.le_of_ble_eq_true rfl) (Nat.le_of_ble_eq_true rfl)
                    trivial
                  · skip
                    have g_3 := mt (nI_leI (by omega) (by omega)).mpr c_3
                    refine lv_aload_n hx hb dX8_minuteOn_154 rfl (lv_at hl 3 rfl) ?_
                    refine va_get (D := G.1) (ci := 7) (v := .ref (a 4)) (C := RX8) (T := TX8) (N := 9) hx hb hts in_X8 hown hK.1 hP 0 rfl rfl 4 (by decide) (hts _ q186) (fun _ h9 => h9) rfl dX8_minuteOn_155 ?_
                    refine lv_iload hx hb dX8_minuteOn_158 (lv_at hl 0 rfl) ?_
                    refine lv_iload_n hx hb dX8_minuteOn_160 rfl (lv_at hl 1 rfl) ?_
                    refine lv_iload hx hb dX8_minuteOn_161 (lv_at hl 0 rfl) ?_
                    refine x_SNi (wN := fun _ => (wR G a kd (pMinH r d i) ++ wK ka)) ⟨C0, hK, hP, hD, hS, hA⟩ ((m_has l G (bs (pDrop r d) (mny r)) i)) ⟨va_cnB 2 hts (lw_meth q618) rfl rfl rfl (hK.2.M 19 rfl) (hts _ q86) (by decide +kernel) ⟨Nat.le_of_ble_eq_true rfl, Nat.le_of_ble_eq_true rfl⟩, hts _ q617, trivial⟩ [] [0, 2, 4, 6, 8, 10, 12, 14, 16, 18, 20, 22] rfl (fun _ => rfl) rfl rfl hl.1 rfl (Nat.le_of_ble_eq_true rfl) dX8_minuteOn_163 ⟨Nat.le_of_ble_eq_true rfl, Nat.le_of_ble_eq_true rfl⟩ (fun r_4 u_4 H locs hw_4 hP hD hS => ?_)
                    have hw_4 : r_4 = bI (pDrop r d i) := hw_4.trans (congrArg bI (hs_in (by omega) (by omega)))
                    have hw_4 : (bI (pDrop r d i) : Int32) = r_4 := hw_4.symm
                    subst hw_4
                    refine lv_if_eq (tgt := 173) hx hb dX8_minuteOn_166 (by decide) (fun c_5 => ?_) (fun c_5 => ?_)
                    · skip
                      refine lv_aload_n hx hb dX8_minuteOn_173 rfl (lv_at hl 3 rfl) ?_
                      refine va_get (D := G.1) (ci := 7) (v := .ref (a 4)) (C := RX8) (T := TX8) (N := 9) hx hb hts in_X8 hown hK.1 hP 0 rfl rfl 4 (by decide) (hts _ q186) (fun _ h9 => h9) rfl dX8_minuteOn_174 ?_
                      refine lv_iload hx hb dX8_minuteOn_177 (lv_at hl 0 rfl) ?_
                      refine x_ialdn (k := i) hx hb hK.1 hP 4 0 rfl rfl (by omega) (by decide) (v := r 3 i) (pMinH_at r d i) dX8_minuteOn_179 ?_
                      simp only [bI_0, Bool.not_eq_false] at c_5
                      refine x_iastn (k := i) hx hb hK.1 hP hD hS 4 0 rfl rfl (by omega) (by decide) (g := upd (pMinH r d i 3) i (r 3 i)) rfl dX8_minuteOn_180 (fun H locs hP hD hS => ?_)
                      have hP : va_P G.1 vwCl (wR G a kd (sf (pMinH r d i) 3 (upd (pMinH r d i 3) i (r 3 i))) ++ wK ka) H := hP
                      have hD : va_D A (wR G a kd (sf (pMinH r d i) 3 (upd (pMinH r d i 3) i (r 3 i))) ++ wK ka) := hD
                      refine lv_iinc (v := nI (i + 1)) (lv' := [(4, .int (nI (i + 1))), (3, .int (bs (pDrop r d) (mny r))), (2, .int (bs (pHeld r) (mny r))), (0, .ref (a 0)), (1, .int d)]) hx hb dX8_minuteOn_181 hl (k := 0) rfl (x_inc1 _) (by decide) rfl (fun ls hl => ?_)
                      refine lv_goto (tgt := 145) hx hb dX8_minuteOn_184 (by decide) ?_
                      rw [pMinH_s (v := r 3 i) (if_neg (by simp [c_5]))] at hP hD
                      exact ih_145 (i + 1) (by omega) (by omega) _ _ _ hP hD hS (lv_sub hl [0, 1, 2, 3, 4] rfl)
                    · skip
                      refine lv_iconst (v := 1) hx hb dX8_minuteOn_169 (by decide) ?_
                      refine lv_goto (tgt := 180) hx hb dX8_minuteOn_170 (by decide) ?_
                      simp only [bI_0, Bool.not_eq_false] at c_5
                      refine x_iastn (k := i) hx hb hK.1 hP hD hS 4 0 rfl rfl (by omega) (by decide) (g := upd (pMinH r d i 3) i 1) rfl dX8_minuteOn_180 (fun H locs hP hD hS => ?_)
                      have hP : va_P G.1 vwCl (wR G a kd (sf (pMinH r d i) 3 (upd (pMinH r d i 3) i 1)) ++ wK ka) H := hP
                      have hD : va_D A (wR G a kd (sf (pMinH r d i) 3 (upd (pMinH r d i 3) i 1)) ++ wK ka) := hD
                      refine lv_iinc (v := nI (i + 1)) (lv' := [(4, .int (nI (i + 1))), (3, .int (bs (pDrop r d) (mny r))), (2, .int (bs (pHeld r) (mny r))), (0, .ref (a 0)), (1, .int d)]) hx hb dX8_minuteOn_181 hl (k := 0) rfl (x_inc1 _) (by decide) rfl (fun ls hl => ?_)
                      refine lv_goto (tgt := 145) hx hb dX8_minuteOn_184 (by decide) ?_
                      rw [pMinH_s (v := 1) (if_pos c_5)] at hP hD
                      exact ih_145 (i + 1) (by omega) (by omega) _ _ _ hP hD hS (lv_sub hl [0, 1, 2, 3, 4] rfl)
              exact loop_145 (mny r + 1) 0 (Nat.zero_le _) (by omega) _ _ _ (by rw [pMinH_0]; exact hP) (by rw [pMinH_0]; exact hD) hS (lv_sub hl [0, 1, 2, 3, 4] rfl)
            · skip
              have g_2 := mt (nI_leI (by omega) (by omega)).mpr c_2
              refine lv_aload_n hx hb dX8_minuteOn_60 rfl (lv_at hl 3 rfl) ?_
              refine lv_iload hx hb dX8_minuteOn_61 (lv_at hl 0 rfl) ?_
              refine x_Vi (wN := fun _ => (wR G a kd (pMinA r d i) ++ wK ka)) ⟨C0, hK, hP, hD, hS, hA⟩ 0 rfl (ci := 7) rfl rfl ((m_isStanding l G a ka kd (pMinA r d i) (Ok.minA hr) (kOk.minA hk) i (by omega))) (cwV 1 hts (lw_V q589 q558 q559 q94 q560) rfl rfl rfl (by decide +kernel) ⟨Nat.le_of_ble_eq_true rfl, Nat.le_of_ble_eq_true rfl⟩) [0, 1, 2, 3, 4, 5, 6, 7, 8, 9, 10, 11] [1, 3, 5, 7, 9, 11, 13, 15, 17, 19, 21, 23] rfl (fun _ => rfl) rfl rfl hl.1 rfl (Nat.le_of_ble_eq_true rfl) dX8_minuteOn_63 ⟨Nat.le_of_ble_eq_true rfl, Nat.le_of_ble_eq_true rfl⟩ (fun r_6 u_6 H locs hw_6 hP hD hS => ?_)
              have hw_6 : r_6 = bI (pSt r i) := hw_6.trans rfl
              have hw_6 : (bI (pSt r i) : Int32) = r_6 := hw_6.symm
              subst hw_6
              refine lv_if_eq (tgt := 136) hx hb dX8_minuteOn_66 (by decide) (fun c_7 => ?_) (fun c_7 => ?_)
              · skip
                refine lv_iinc (v := nI (i + 1)) (lv' := [(4, .int (nI (i + 1))), (3, .int (bs (pDrop r d) i)), (2, .int (bs (pHeld r) (mny r))), (0, .ref (a 0)), (1, .int d)]) hx hb dX8_minuteOn_136 hl (k := 0) rfl (x_inc1 _) (by decide) rfl (fun ls hl => ?_)
                refine lv_goto (tgt := 51) hx hb dX8_minuteOn_139 (by decide) ?_
                rw [bI_0] at c_7
                rw [pMinA_n c_7] at hP hD
                have hd0 : pDrop r d i = false := by simp [pDrop, c_7]
                have el : bs (pDrop r d) i = bs (pDrop r d) (i + 1) := by rw [← bs_f hd0, Int32.or_zero]
                rw [el] at hl
                exact ih_51 (i + 1) (by omega) (by omega) _ _ _ hP hD hS (lv_sub hl [0, 1, 2, 3, 4] rfl)
              · skip
                have hst : pSt r i = true := by simpa [bI_0] using c_7
                refine lv_aload_n hx hb dX8_minuteOn_69 rfl (lv_at hl 3 rfl) ?_
                refine va_get (D := G.1) (ci := 7) (v := .ref (a 5)) (C := RX8) (T := TX8) (N := 9) hx hb hts in_X8 hown hK.1 hP 0 rfl rfl 5 (by decide) (hts _ q189) (fun _ h9 => h9) rfl dX8_minuteOn_70 ?_
                refine lv_iload hx hb dX8_minuteOn_73 (lv_at hl 0 rfl) ?_
                refine lv_iload_n hx hb dX8_minuteOn_75 rfl (lv_at hl 2 rfl) ?_
                refine lv_iload hx hb dX8_minuteOn_76 (lv_at hl 0 rfl) ?_
                refine x_SNi (wN := fun _ => (wR G a kd (pMinA r d i) ++ wK ka)) ⟨C0, hK, hP, hD, hS, hA⟩ ((m_has l G (bs (pHeld r) (mny r)) i)) ⟨va_cnB 2 hts (lw_meth q618) rfl rfl rfl (hK.2.M 19 rfl) (hts _ q86) (by decide +kernel) ⟨Nat.le_of_ble_eq_true rfl, Nat.le_of_ble_eq_true rfl⟩, hts _ q617, trivial⟩ [] [0, 2, 4, 6, 8, 10, 12, 14, 16, 18, 20, 22] rfl (fun _ => rfl) rfl rfl hl.1 rfl (Nat.le_of_ble_eq_true rfl) dX8_minuteOn_78 ⟨Nat.le_of_ble_eq_true rfl, Nat.le_of_ble_eq_true rfl⟩ (fun r_8 u_8 H locs hw_8 hP hD hS => ?_)
                have hw_8 : r_8 = bI (pHeld r i) := hw_8.trans (congrArg bI (hs_in (by omega) (by omega)))
                have hw_8 : (bI (pHeld r i) : Int32) = r_8 := hw_8.symm
                subst hw_8
                refine lv_if_eq (tgt := 88) hx hb dX8_minuteOn_81 (by decide) (fun c_9 => ?_) (fun c_9 => ?_)
                · skip
                  simp only [bI_0, Bool.not_eq_false] at c_9
                  refine lv_aload_n hx hb dX8_minuteOn_88 rfl (lv_at hl 3 rfl) ?_
                  refine va_get (D := G.1) (ci := 7) (v := .ref (a 5)) (C := RX8) (T := TX8) (N := 9) hx hb hts in_X8 hown hK.1 hP 0 rfl rfl 5 (by decide) (hts _ q189) (fun _ h9 => h9) rfl dX8_minuteOn_89 ?_
                  refine lv_iload hx hb dX8_minuteOn_92 (lv_at hl 0 rfl) ?_
                  refine x_ialdn (k := i) hx hb hK.1 hP 5 0 rfl rfl (by omega) (by decide) (v := r 4 i) (pMinA_at r d i) dX8_minuteOn_94 ?_
                  refine lv_iconst (v := 1) hx hb dX8_minuteOn_95 (by decide) ?_
                  refine x_iadd hx hb dX8_minuteOn_96 (v := (r 4 i) + 1) rfl ?_
                  refine lv_iload_n hx hb dX8_minuteOn_97 rfl (lv_at hl 4 rfl) ?_
                  refine x_iadd hx hb dX8_minuteOn_98 (v := ((r 4 i) + 1) + d) rfl ?_
                  have eA : pAir r d i = r 4 i + 1 + d := by unfold pAir; rw [if_pos hst, if_neg]; simpa [pHeld, hst] using c_9
                  refine x_iastn (k := i) hx hb hK.1 hP hD hS 5 0 rfl rfl (by omega) (by decide) (g := upd (pMinA r d i 4) i (((r 4 i) + 1) + d)) rfl dX8_minuteOn_99 (fun H locs hP hD hS => ?_)
                  have hP : va_P G.1 vwCl (wR G a kd (sf (pMinA r d i) 4 (upd (pMinA r d i 4) i (((r 4 i) + 1) + d))) ++ wK ka) H := hP
                  have hD : va_D A (wR G a kd (sf (pMinA r d i) 4 (upd (pMinA r d i 4) i (((r 4 i) + 1) + d))) ++ wK ka) := hD
                  rw [pMinA_y eA] at hP hD
                  refine lv_iload_n hx hb dX8_minuteOn_100 rfl (lv_at hl 1 rfl) ?_
                  refine lv_aload_n hx hb dX8_minuteOn_101 rfl (lv_at hl 3 rfl) ?_
                  refine va_get (D := G.1) (ci := 7) (v := .ref (a 5)) (C := RX8) (T := TX8) (N := 9) hx hb hts in_X8 hown hK.1 hP 0 rfl rfl 5 (by decide) (hts _ q189) (fun _ h9 => h9) rfl dX8_minuteOn_102 ?_
                  refine lv_iload hx hb dX8_minuteOn_105 (lv_at hl 0 rfl) ?_
                  refine x_ialdn (k := i) hx hb hK.1 hP 5 0 rfl rfl (by omega) (by decide) (v := ((r 4 i) + 1) + d) (show pMinA r d (i + 1) 4 i = _ by rw [← eA]; exact if_pos (by omega)) dX8_minuteOn_107 ?_
                  refine lv_aload_n hx hb dX8_minuteOn_108 rfl (lv_at hl 3 rfl) ?_
                  refine lv_iload hx hb dX8_minuteOn_109 (lv_at hl 0 rfl) ?_
                  refine x_Vi (wN := fun _ => (wR G a kd (pMinA r d (i + 1)) ++ wK ka)) ⟨C0, hK, hP, hD, hS, hA⟩ 0 rfl (ci := 7) rfl rfl ((m_habit l G a ka kd (pMinA r d (i + 1)) (Ok.minA hr) (kOk.minA hk) i (show i < mny r by omega))) (cwV 1 hts (lw_V q638 q639 q640 q94 q641) rfl rfl rfl (by decide +kernel) ⟨Nat.le_of_ble_eq_true rfl, Nat.le_of_ble_eq_true rfl⟩) [0, 1, 2, 3, 4, 5, 6, 7, 8, 9, 10, 11] [1, 3, 5, 7, 9, 11, 13, 15, 17, 19, 21, 23] rfl (fun _ => rfl) rfl rfl hl.1 rfl (Nat.le_of_ble_eq_true rfl) dX8_minuteOn_111 ⟨Nat.le_of_ble_eq_true rfl, Nat.le_of_ble_eq_true rfl⟩ (fun r_10 u_10 H locs hw_10 hP hD hS => ?_)
                  have hw_10 : r_10 = pHabit (r 0 i) (r 1 i) (pLie r) := hw_10.trans (congrArg (pHabit (r 0 i) (r 1 i)) (lie_at (r := r) (i := i) hr (show i < mny r by omega) hst))
                  have hw_10 : (pHabit (r 0 i) (r 1 i) (pLie r) : Int32) = r_10 := hw_10.symm
                  subst hw_10
                  refine lv_icmp_le (tgt := 133) hx hb dX8_minuteOn_114 (by decide) (fun c_11 => ?_) (fun c_11 => ?_)
                  · skip
                    refine lv_iconst (v := 0) hx hb dX8_minuteOn_133 (by decide) ?_
                    refine x_ior hx hb dX8_minuteOn_134 (v := bs (pDrop r d) (i + 1)) (bs_f (by simp [pDrop, hst, Int32.not_lt.mpr c_11, eA])) ?_
                    refine lv_istore_n (lv' := [(3, .int (bs (pDrop r d) (i + 1))), (4, .int (nI i)), (2, .int (bs (pHeld r) (mny r))), (0, .ref (a 0)), (1, .int d)]) hx hb dX8_minuteOn_135 rfl hl (by decide) rfl (fun ls hl => ?_)
                    refine lv_iinc (v := nI (i + 1)) (lv' := [(4, .int (nI (i + 1))), (3, .int (bs (pDrop r d) (i + 1))), (2, .int (bs (pHeld r) (mny r))), (0, .ref (a 0)), (1, .int d)]) hx hb dX8_minuteOn_136 hl (k := 1) rfl (x_inc1 _) (by decide) rfl (fun ls hl => ?_)
                    refine lv_goto (tgt := 51) hx hb dX8_minuteOn_139 (by decide) ?_
                    exact ih_51 (i + 1) (by omega) (by omega) _ _ _ hP hD hS (lv_sub hl [0, 1, 2, 3, 4] rfl)
                  · skip
                    refine lv_iload_n hx hb dX8_minuteOn_117 rfl (lv_at hl 2 rfl) ?_
                    refine lv_iload hx hb dX8_minuteOn_118 (lv_at hl 0 rfl) ?_
                    refine x_SNi (wN := fun _ => (wR G a kd (pMinA r d (i + 1)) ++ wK ka)) ⟨C0, hK, hP, hD, hS, hA⟩ ((m_has l G (bs (pHeld r) (mny r)) i)) ⟨va_cnB 2 hts (lw_meth q618) rfl rfl rfl (hK.2.M 19 rfl) (hts _ q86) (by decide +kernel) ⟨Nat.le_of_ble_eq_true rfl, Nat.le_of_ble_eq_true rfl⟩, hts _ q617, trivial⟩ [] [0, 2, 4, 6, 8, 10, 12, 14, 16, 18, 20, 22] rfl (fun _ => rfl) rfl rfl hl.1 rfl (Nat.le_of_ble_eq_true rfl) dX8_minuteOn_120 ⟨Nat.le_of_ble_eq_true rfl, Nat.le_of_ble_eq_true rfl⟩ (fun r_12 u_12 H locs hw_12 hP hD hS => ?_)
                    have hw_12 : r_12 = bI (pHeld r i) := hw_12.trans (congrArg bI (hs_in (by omega) (by omega)))
                    have hw_12 : (bI (pHeld r i) : Int32) = r_12 := hw_12.symm
                    subst hw_12
                    refine lv_if_ne (tgt := 133) hx hb dX8_minuteOn_123 (by decide) (fun c_13 => ?_) (fun c_13 => ?_)
                    · skip
                      exact absurd (show bI (pHeld r i) = 0 by rw [c_9]; rfl) c_13
                    · skip
                      refine lv_iconst (v := 1) hx hb dX8_minuteOn_126 (by decide) ?_
                      refine lv_iload hx hb dX8_minuteOn_127 (lv_at hl 0 rfl) ?_
                      refine x_ishl hx hb dX8_minuteOn_129 (v := b1 i) rfl ?_
                      refine lv_goto (tgt := 134) hx hb dX8_minuteOn_130 (by decide) ?_
                      refine x_ior hx hb dX8_minuteOn_134 (v := bs (pDrop r d) (i + 1)) (bs_t (by simp [pDrop, hst, Int32.not_le.mp c_11, eA])) ?_
                      refine lv_istore_n (lv' := [(3, .int (bs (pDrop r d) (i + 1))), (4, .int (nI i)), (2, .int (bs (pHeld r) (mny r))), (0, .ref (a 0)), (1, .int d)]) hx hb dX8_minuteOn_135 rfl hl (by decide) rfl (fun ls hl => ?_)
                      refine lv_iinc (v := nI (i + 1)) (lv' := [(4, .int (nI (i + 1))), (3, .int (bs (pDrop r d) (i + 1))), (2, .int (bs (pHeld r) (mny r))), (0, .ref (a 0)), (1, .int d)]) hx hb dX8_minuteOn_136 hl (k := 1) rfl (x_inc1 _) (by decide) rfl (fun ls hl => ?_)
                      refine lv_goto (tgt := 51) hx hb dX8_minuteOn_139 (by decide) ?_
                      exact ih_51 (i + 1) (by omega) (by omega) _ _ _ hP hD hS (lv_sub hl [0, 1, 2, 3, 4] rfl)
                · skip
                  simp only [bI_0, Bool.not_eq_false] at c_9
                  refine lv_iconst (v := 0) hx hb dX8_minuteOn_84 (by decide) ?_
                  refine lv_goto (tgt := 99) hx hb dX8_minuteOn_85 (by decide) ?_
                  have eA : pAir r d i = 0 := by unfold pAir; rw [if_pos hst, if_pos]; simpa [pHeld, hst] using c_9
                  refine x_iastn (k := i) hx hb hK.1 hP hD hS 5 0 rfl rfl (by omega) (by decide) (g := upd (pMinA r d i 4) i 0) rfl dX8_minuteOn_99 (fun H locs hP hD hS => ?_)
                  have hP : va_P G.1 vwCl (wR G a kd (sf (pMinA r d i) 4 (upd (pMinA r d i 4) i 0)) ++ wK ka) H := hP
                  have hD : va_D A (wR G a kd (sf (pMinA r d i) 4 (upd (pMinA r d i 4) i 0)) ++ wK ka) := hD
                  rw [pMinA_y eA] at hP hD
                  refine lv_iload_n hx hb dX8_minuteOn_100 rfl (lv_at hl 1 rfl) ?_
                  refine lv_aload_n hx hb dX8_minuteOn_101 rfl (lv_at hl 3 rfl) ?_
                  refine va_get (D := G.1) (ci := 7) (v := .ref (a 5)) (C := RX8) (T := TX8) (N := 9) hx hb hts in_X8 hown hK.1 hP 0 rfl rfl 5 (by decide) (hts _ q189) (fun _ h9 => h9) rfl dX8_minuteOn_102 ?_
                  refine lv_iload hx hb dX8_minuteOn_105 (lv_at hl 0 rfl) ?_
                  refine x_ialdn (k := i) hx hb hK.1 hP 5 0 rfl rfl (by omega) (by decide) (v := 0) (show pMinA r d (i + 1) 4 i = _ by rw [← eA]; exact if_pos (by omega)) dX8_minuteOn_107 ?_
                  refine lv_aload_n hx hb dX8_minuteOn_108 rfl (lv_at hl 3 rfl) ?_
                  refine lv_iload hx hb dX8_minuteOn_109 (lv_at hl 0 rfl) ?_
                  refine x_Vi (wN := fun _ => (wR G a kd (pMinA r d (i + 1)) ++ wK ka)) ⟨C0, hK, hP, hD, hS, hA⟩ 0 rfl (ci := 7) rfl rfl ((m_habit l G a ka kd (pMinA r d (i + 1)) (Ok.minA hr) (kOk.minA hk) i (show i < mny r by omega))) (cwV 1 hts (lw_V q638 q639 q640 q94 q641) rfl rfl rfl (by decide +kernel) ⟨Nat.le_of_ble_eq_true rfl, Nat.le_of_ble_eq_true rfl⟩) [0, 1, 2, 3, 4, 5, 6, 7, 8, 9, 10, 11] [1, 3, 5, 7, 9, 11, 13, 15, 17, 19, 21, 23] rfl (fun _ => rfl) rfl rfl hl.1 rfl (Nat.le_of_ble_eq_true rfl) dX8_minuteOn_111 ⟨Nat.le_of_ble_eq_true rfl, Nat.le_of_ble_eq_true rfl⟩ (fun r_14 u_14 H locs hw_14 hP hD hS => ?_)
                  have hw_14 : r_14 = pHabit (r 0 i) (r 1 i) (pLie r) := hw_14.trans (congrArg (pHabit (r 0 i) (r 1 i)) (lie_at (r := r) (i := i) hr (show i < mny r by omega) hst))
                  have hw_14 : (pHabit (r 0 i) (r 1 i) (pLie r) : Int32) = r_14 := hw_14.symm
                  subst hw_14
                  refine lv_icmp_le (tgt := 133) hx hb dX8_minuteOn_114 (by decide) (fun c_15 => ?_) (fun c_15 => ?_)
                  · skip
                    refine lv_iconst (v := 0) hx hb dX8_minuteOn_133 (by decide) ?_
                    refine x_ior hx hb dX8_minuteOn_134 (v := bs (pDrop r d) (i + 1)) (bs_f (by simp [pDrop, hst, Int32.not_lt.mpr c_15, eA])) ?_
                    refine lv_istore_n (lv' := [(3, .int (bs (pDrop r d) (i + 1))), (4, .int (nI i)), (2, .int (bs (pHeld r) (mny r))), (0, .ref (a 0)), (1, .int d)]) hx hb dX8_minuteOn_135 rfl hl (by decide) rfl (fun ls hl => ?_)
                    refine lv_iinc (v := nI (i + 1)) (lv' := [(4, .int (nI (i + 1))), (3, .int (bs (pDrop r d) (i + 1))), (2, .int (bs (pHeld r) (mny r))), (0, .ref (a 0)), (1, .int d)]) hx hb dX8_minuteOn_136 hl (k := 1) rfl (x_inc1 _) (by decide) rfl (fun ls hl => ?_)
                    refine lv_goto (tgt := 51) hx hb dX8_minuteOn_139 (by decide) ?_
                    exact ih_51 (i + 1) (by omega) (by omega) _ _ _ hP hD hS (lv_sub hl [0, 1, 2, 3, 4] rfl)
                  · skip
                    exact absurd (Int32.not_le.mp c_15) (hr.hab (by omega) _)
        exact loop_51 (mny r + 1) 0 (Nat.zero_le _) (by omega) _ _ _ (by rw [pMinA_0]; exact hP) (by rw [pMinA_0]; exact hD) hS (lv_sub hl [0, 1, 2, 3, 4] rfl)
      · skip
        have g_1 := mt (nI_leI (by omega) (by omega)).mpr c_1
        refine lv_iload_n hx hb dX8_minuteOn_22 rfl (lv_at hl 1 rfl) ?_
        refine lv_aload_n hx hb dX8_minuteOn_23 rfl (lv_at hl 2 rfl) ?_
        refine lv_iload_n hx hb dX8_minuteOn_24 rfl (lv_at hl 0 rfl) ?_
        refine x_Vi (wN := fun _ => (wR G a kd (sf r 5 (upd (r 5) 1 ((r 5 1) + 1))) ++ wK ka)) ⟨C0, hK, hP, hD, hS, hA⟩ 0 rfl (ci := 7) rfl rfl ((m_isHeld l G a ka kd (sf r 5 (upd (r 5) 1 ((r 5 1) + 1))) (Ok.h1 hr) (kOk.h1 hk) i (show i < mny r by omega))) (cwV 1 hts (lw_V q630 q631 q632 q94 q633) rfl rfl rfl (by decide +kernel) ⟨Nat.le_of_ble_eq_true rfl, Nat.le_of_ble_eq_true rfl⟩) [0, 1, 2, 3, 4, 5, 6, 7, 8, 9, 10, 11] [1, 3, 5, 7, 9, 11, 13, 15, 17, 19, 21, 23] rfl (fun _ => rfl) rfl rfl hl.1 rfl (Nat.le_of_ble_eq_true rfl) dX8_minuteOn_25 ⟨Nat.le_of_ble_eq_true rfl, Nat.le_of_ble_eq_true rfl⟩ (fun r_16 u_16 H locs hw_16 hP hD hS => ?_)
        have hw_16 : r_16 = bI (pHeld r i) := hw_16.trans rfl
        have hw_16 : (bI (pHeld r i) : Int32) = r_16 := hw_16.symm
        subst hw_16
        refine lv_if_eq (tgt := 37) hx hb dX8_minuteOn_28 (by decide) (fun c_17 => ?_) (fun c_17 => ?_)
        · skip
          refine lv_iconst (v := 0) hx hb dX8_minuteOn_37 (by decide) ?_
          refine x_ior hx hb dX8_minuteOn_38 (v := bs (pHeld r) (i + 1)) (bs_f (by simpa [bI_0] using c_17)) ?_
          refine lv_istore_n (lv' := [(2, .int (bs (pHeld r) (i + 1))), (3, .int (nI i)), (0, .ref (a 0)), (1, .int d)]) hx hb dX8_minuteOn_39 rfl hl (by decide) rfl (fun ls hl => ?_)
          refine lv_iinc (v := nI (i + 1)) (lv' := [(3, .int (nI (i + 1))), (2, .int (bs (pHeld r) (i + 1))), (0, .ref (a 0)), (1, .int d)]) hx hb dX8_minuteOn_40 hl (k := 1) rfl (x_inc1 _) (by decide) rfl (fun ls hl => ?_)
          refine lv_goto (tgt := 14) hx hb dX8_minuteOn_43 (by decide) ?_
          exact ih_14 (i + 1) (by omega) (by omega) _ _ _ hP hD hS (lv_sub hl [0, 1, 2, 3] rfl)
        · skip
          refine lv_iconst (v := 1) hx hb dX8_minuteOn_31 (by decide) ?_
          refine lv_iload_n hx hb dX8_minuteOn_32 rfl (lv_at hl 0 rfl) ?_
          refine x_ishl hx hb dX8_minuteOn_33 (v := b1 i) rfl ?_
          refine lv_goto (tgt := 38) hx hb dX8_minuteOn_34 (by decide) ?_
          refine x_ior hx hb dX8_minuteOn_38 (v := bs (pHeld r) (i + 1)) (bs_t (by simpa [bI_0] using c_17)) ?_
          refine lv_istore_n (lv' := [(2, .int (bs (pHeld r) (i + 1))), (3, .int (nI i)), (0, .ref (a 0)), (1, .int d)]) hx hb dX8_minuteOn_39 rfl hl (by decide) rfl (fun ls hl => ?_)
          refine lv_iinc (v := nI (i + 1)) (lv' := [(3, .int (nI (i + 1))), (2, .int (bs (pHeld r) (i + 1))), (0, .ref (a 0)), (1, .int d)]) hx hb dX8_minuteOn_40 hl (k := 1) rfl (x_inc1 _) (by decide) rfl (fun ls hl => ?_)
          refine lv_goto (tgt := 14) hx hb dX8_minuteOn_43 (by decide) ?_
          exact ih_14 (i + 1) (by omega) (by omega) _ _ _ hP hD hS (lv_sub hl [0, 1, 2, 3] rfl)
  exact loop_14 (mny r + 1) 0 (Nat.zero_le _) (by omega) _ _ _ hP hD hS (lv_sub hl [0, 1, 2, 3] rfl)

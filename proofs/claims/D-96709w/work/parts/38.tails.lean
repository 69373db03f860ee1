/-! worlds with a tail: parts of worlds, throwing calls beside a tail, a call on one cell of the tail -/
set_option maxRecDepth 100000
theorem x_subP {D : va_G} {cl : List vw_C} {w w' : va_W} {H : Heap} (hs : w'.Sublist w) (h : va_P D cl w H) : va_P D cl w' H := fun k q hk => by
  obtain ⟨i, hi⟩ := List.mem_iff_getElem?.mp (hs.subset (List.mem_of_getElem? hk))
  exact h i q hi
theorem x_pwD {w : va_W} : (∀ (i j : Nat) (p q : Nat × va_E), w[i]? = some p → w[j]? = some q → p.1 = q.1 → i = j) ↔ w.Pairwise (fun p q => p.1 ≠ q.1) := by
  rw [List.pairwise_iff_getElem]
  constructor
  · intro h i j hi hj hij e
    have := h i j _ _ (List.getElem?_eq_getElem hi) (List.getElem?_eq_getElem hj) e
    omega
  · intro h i j p q hp hq e
    obtain ⟨hi, rfl⟩ := List.getElem?_eq_some_iff.mp hp
    obtain ⟨hj, rfl⟩ := List.getElem?_eq_some_iff.mp hq
    rcases Nat.lt_trichotomy i j with h1 | h1 | h1
    · exact absurd e (h i j hi hj h1)
    · exact h1
    · exact absurd e.symm (h j i hj hi h1)
theorem x_subD {A : Nat → Prop} {w w' : va_W} (hs : w'.Sublist w) (h : va_D A w) : va_D A w' :=
  ⟨x_pwD.mpr ((x_pwD.mp h.1).sublist hs), fun k q hk => by
    obtain ⟨i, hi⟩ := List.mem_iff_getElem?.mp (hs.subset (List.mem_of_getElem? hk))
    exact h.2 i q hi⟩
theorem tl_cons {w tl : va_W} {x : Nat × va_E} : w ++ [x] ++ tl = w ++ (x :: tl) := by rw [List.append_assoc]; rfl
theorem tl_Nx {ws tl w1 wN : va_W} {pl : List Nat} {o : Nat} {y : Nat × va_E} (h : pl.map (fun n => xlk ws w1 n) = wN.map some) (h2 : xlk ws w1 o = some y) : (pl ++ tlp ws.length tl.length ++ [o]).map (fun n => xlk (ws ++ tl) w1 n) = (wN ++ tl ++ [y]).map some := by
  have e : (wN ++ tl ++ [y]).map some = (wN ++ tl).map some ++ [some y] := List.map_append
  rw [List.map_append, tl_N h, e]
  show _ ++ [xlk (ws ++ tl) w1 o] = _
  rw [tl_xlk h2]
theorem tl_okx {isC pl : List Nat} {k n o : Nat} (h : xok isC (pl ++ [o]) = true) (h1 : (pl ++ [o]).all (fun j => Nat.beq (j % 2) 1 || Nat.blt (j / 2) k) = true) (h2 : isC.all (fun i => Nat.blt i k) = true) (h3 : Nat.beq (o % 2) 1 = true) : xok isC (pl ++ tlp k n ++ [o]) = true := by
  have h0 := tl_ok (n := n) h h1 h2
  unfold xok at h0 ⊢
  rw [Bool.and_eq_true] at h0 ⊢
  refine ⟨nd_iff.mpr ?_, ?_⟩
  · have h4 := nd_iff.mp h0.1
    refine (List.Perm.nodup_iff ?_).mp h4
    rw [List.append_assoc, List.append_assoc]
    exact List.Perm.append_left _ List.perm_append_comm
  · rw [List.all_append, List.all_append, Bool.and_eq_true, Bool.and_eq_true]
    have h5 := h0.2
    rw [List.all_append, List.all_append, Bool.and_eq_true, Bool.and_eq_true] at h5
    exact ⟨⟨h5.1.1, h5.2⟩, h5.1.2⟩
/-! one cell of the tail -/
def tlq (k n j : Nat) : List Nat := (List.range n).map (fun i => if i = j then 1 else 2 * (k + i))
theorem tlq_at (k n j i : Nat) : (tlq k n j)[i]? = if i < n then some (if i = j then 1 else 2 * (k + i)) else none := by
  unfold tlq
  rw [List.getElem?_map]
  by_cases h : i < n
  · rw [if_pos h, List.getElem?_range h]; rfl
  · rw [if_neg h, List.getElem?_eq_none (by simpa using Nat.le_of_not_lt h)]; rfl
theorem tl_get {ws tl : va_W} {x : Nat × va_E} {j : Nat} (hj : tl[j]? = some x) : (ws ++ tl)[ws.length + j]? = some x := by
  rw [List.getElem?_append_right (by omega), Nat.add_sub_cancel_left]
  exact hj
theorem tq_C {ws tl wc : va_W} {x : Nat × va_E} {j : Nat} {isC : List Nat} (hj : tl[j]? = some x) (h : isC.map (fun i => ws[i]?) = wc.map some) : ((ws.length + j) :: isC).map (fun i => (ws ++ tl)[i]?) = (x :: wc).map some := by
  show (ws ++ tl)[ws.length + j]? :: isC.map (fun i => (ws ++ tl)[i]?) = some x :: wc.map some
  rw [tl_get hj, tl_C h]
theorem tq_N {ws tl w1 wN : va_W} {x : Nat × va_E} {j : Nat} {pl : List Nat} (hj : tl[j]? = some x) (h : pl.map (fun n => xlk ws (x :: w1) n) = wN.map some) : (pl ++ tlq ws.length tl.length j).map (fun n => xlk (ws ++ tl) (x :: w1) n) = (wN ++ tl).map some := by
  rw [List.map_append, List.map_append]
  congr 1
  · rw [← h]
    refine List.map_congr_left (fun n hn => ?_)
    have h1 : xlk ws (x :: w1) n ∈ pl.map (fun n => xlk ws (x :: w1) n) := List.mem_map.mpr ⟨n, hn, rfl⟩
    rw [h] at h1
    obtain ⟨y, -, hy⟩ := List.mem_map.mp h1
    rw [← hy]
    exact tl_xlk hy.symm
  · refine List.ext_getElem? (fun i => ?_)
    rw [List.getElem?_map, List.getElem?_map, tlq_at]
    by_cases hi : i < tl.length
    · rw [if_pos hi]
      show some (xlk (ws ++ tl) (x :: w1) (if i = j then 1 else 2 * (ws.length + i))) = _
      by_cases e : i = j
      · subst e
        rw [if_pos rfl, hj]
        rfl
      · rw [if_neg e]
        have e1 : 2 * (ws.length + i) % 2 = 0 := by omega
        have e2 : 2 * (ws.length + i) / 2 = ws.length + i := by omega
        unfold xlk
        rw [e1]
        show some ((ws ++ tl)[2 * (ws.length + i) / 2]?) = _
        rw [e2, List.getElem?_append_right (by omega), Nat.add_sub_cancel_left, List.getElem?_eq_getElem hi]
        rfl
    · rw [if_neg hi, List.getElem?_eq_none (by omega)]
      rfl
theorem tq_nd {isC : List Nat} {k j : Nat} (h : va_nd isC = true) (h2 : isC.all (fun i => Nat.blt i k) = true) : va_nd ((k + j) :: isC) = true := by
  refine nd_iff.mpr (List.nodup_cons.mpr ⟨fun hm => ?_, nd_iff.mp h⟩)
  have := Nat.le_of_ble_eq_true (List.all_eq_true.mp h2 _ hm)
  omega
theorem tq_ok {isC pl : List Nat} {k n j : Nat} (h : xok isC pl = true) (h1 : pl.all (fun i => (Nat.beq (i % 2) 1 || Nat.blt (i / 2) k) && !Nat.beq i 1) = true) (h2 : isC.all (fun i => Nat.blt i k) = true) : xok ((k + j) :: isC) (pl ++ tlq k n j) = true := by
  unfold xok at h ⊢
  rw [Bool.and_eq_true] at h ⊢
  have h1' : ∀ a ∈ pl, (a % 2 = 1 ∨ a / 2 < k) ∧ a ≠ 1 := fun a ha => by
    have h3 := List.all_eq_true.mp h1 a ha
    rw [Bool.and_eq_true, Bool.or_eq_true] at h3
    refine ⟨h3.1.imp Nat.eq_of_beq_eq_true Nat.le_of_ble_eq_true, fun e => ?_⟩
    subst e
    exact absurd h3.2 (by decide)
  refine ⟨nd_iff.mpr ?_, ?_⟩
  · rw [List.nodup_append]
    refine ⟨nd_iff.mp h.1, ?_, fun a ha b hb e => ?_⟩
    · unfold tlq
      refine nd_map (fun i i' hij => by
        have hij : (if i = j then 1 else 2 * (k + i)) = (if i' = j then 1 else 2 * (k + i')) := hij
        split at hij <;> split at hij <;> omega) List.nodup_range
    · subst e
      obtain ⟨i, -, hi⟩ := List.mem_map.mp hb
      have h3 := h1' a ha
      split at hi <;> omega
  · rw [List.all_append, Bool.and_eq_true]
    refine ⟨List.all_eq_true.mpr (fun a ha => ?_), List.all_eq_true.mpr (fun a ha => ?_)⟩
    · have h3 := List.all_eq_true.mp h.2 a ha
      rw [Bool.or_eq_true] at h3 ⊢
      rcases h3 with h3 | h3
      · exact Or.inl h3
      · by_cases ho : a % 2 = 1
        · exact Or.inl (by rw [ho]; rfl)
        · right
          rw [List.all_cons, Bool.and_eq_true]
          refine ⟨?_, h3⟩
          have h4 := (h1' a ha).1
          cases e : Nat.beq (k + j) (a / 2) with
          | false => rfl
          | true => have := Nat.eq_of_beq_eq_true e; omega
    · obtain ⟨i, -, hi⟩ := List.mem_map.mp ha
      rw [Bool.or_eq_true]
      split at hi
      · exact Or.inl (by rw [← hi]; rfl)
      · right
        rw [List.all_cons, Bool.and_eq_true]
        refine ⟨?_, List.all_eq_true.mpr (fun b hb => ?_)⟩
        · cases e : Nat.beq (k + j) (a / 2) with
          | false => rfl
          | true => have := Nat.eq_of_beq_eq_true e; omega
        · have h4 := Nat.le_of_ble_eq_true (List.all_eq_true.mp h2 b hb)
          cases e : Nat.beq b (a / 2) with
          | false => rfl
          | true => have := Nat.eq_of_beq_eq_true e; omega

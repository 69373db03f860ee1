/-! reading a room: small laws -/
set_option maxRecDepth 100000
theorem sLast_le (lt : Nat → Int32) (z : Nat) : sLast lt z ≤ 40 := fs_le _ _
theorem sEnd_f {lt : Nat → Int32} {z j : Nat} (h : j < sLast lt z) : (sR lt z (sPos lt z j)).1 = true ∧ sPos lt z (j + 1) < z := by
  have h1 := (fs_spec (sEnd lt z) 40).1 j h
  unfold sEnd at h1
  rw [Bool.or_eq_false_iff] at h1
  refine ⟨by simpa using h1.1, ?_⟩
  have := of_decide_eq_false h1.2
  omega
theorem sPos_ge {lt : Nat → Int32} {z : Nat} : ∀ j, j ≤ sLast lt z → 3 * j ≤ sPos lt z j
  | 0, _ => Nat.zero_le _
  | j + 1, h => by
    have ih := sPos_ge (lt := lt) (z := z) j (by omega)
    have h1 := (sR_ok (sEnd_f (lt := lt) (z := z) (j := j) (by omega)).1).1
    show 3 * (j + 1) ≤ (sR lt z (sPos lt z j)).2
    omega
theorem sPos_le {lt : Nat → Int32} {z : Nat} : ∀ j, j ≤ sLast lt z → sPos lt z j ≤ z
  | 0, _ => Nat.zero_le _
  | j + 1, h => Nat.le_of_lt (sEnd_f (lt := lt) (z := z) (j := j) (by omega)).2
theorem sLast_lt {lt : Nat → Int32} {z : Nat} (hz : z ≤ 96) : sLast lt z < 40 := by
  have h1 := sLast_le lt z
  have h2 := sPos_ge (lt := lt) (z := z) _ (Nat.le_refl _)
  have h3 := sPos_le (lt := lt) (z := z) _ (Nat.le_refl _)
  omega
/-- a statement that is one, with letters behind it: there is another -/
theorem sLast_s {lt : Nat → Int32} {z i : Nat} (hz : z ≤ 96) (hi : i ≤ sLast lt z) (h1 : (sR lt z (sPos lt z i)).1 = true) (h2 : sPos lt z (i + 1) < z) : i + 1 ≤ sLast lt z := by
  rcases Nat.lt_or_ge i (sLast lt z) with h | h
  · exact h
  · exfalso
    have e : i = sLast lt z := by omega
    have h3 := (fs_spec (sEnd lt z) 40).2 (sLast_lt hz)
    have h3 : sEnd lt z (sLast lt z) = true := h3
    rw [← e] at h3
    unfold sEnd at h3
    rw [h1, decide_eq_false (by omega)] at h3
    cases h3
theorem sLast_e {lt : Nat → Int32} {z i : Nat} (hi : i ≤ sLast lt z) (h : sEnd lt z i = true) : i = sLast lt z := by
  rcases Nat.lt_or_ge i (sLast lt z) with h1 | h1
  · have := (fs_spec (sEnd lt z) 40).1 i h1
    rw [h] at this; cases this
  · omega
theorem sLast_x {lt : Nat → Int32} {z i : Nat} (hi : i ≤ sLast lt z) (h1 : (sR lt z (sPos lt z i)).1 = false) : i = sLast lt z := sLast_e hi (by unfold sEnd; rw [h1]; rfl)
theorem sLast_b {lt : Nat → Int32} {z i : Nat} (hi : i ≤ sLast lt z) (h2 : ¬ sPos lt z (i + 1) < z) : i = sLast lt z := sLast_e hi (by unfold sEnd; rw [decide_eq_true (show z ≤ sPos lt z (i + 1) by omega)]; simp)
theorem sAll {lt : Nat → Int32} {z j : Nat} (hg : sGood lt z = true) (hj : j < sLast lt z + 1) : (sR lt z (sPos lt z j)).1 = true := by
  rcases Nat.lt_or_ge j (sLast lt z) with h | h
  · exact (sEnd_f h).1
  · rw [show j = sLast lt z by omega]; exact hg
theorem sTV {lt : Nat → Int32} {z j : Nat} (hg : sGood lt z = true) (hj : j < sLast lt z + 1) : tdV (sT lt z (sPos lt z j)) := (sR_ok (sAll hg hj)).2.2
theorem rrR_ok {lt : Nat → Int32} {z : Nat} {r : Rw} (hr : Ok r) (hg : sGood lt z = true) : ∀ j, j ≤ sLast lt z + 1 → Ok (rrR lt z r j)
  | 0, _ => hr
  | j + 1, h => Ok.tdN (rrR_ok hr hg j (by omega)) (sTV hg (by omega))
theorem rrR_h {lt : Nat → Int32} {z : Nat} {r : Rw} : ∀ j, rrR lt z r j 5 3 = r 5 3
  | 0 => rfl
  | j + 1 => tdN_h.trans (rrR_h j)
theorem rrE_0 {lt : Nat → Int32} {z : Nat} {r : Rw} (hg : sGood lt z = true) (h : ∀ j, j < sLast lt z + 1 → rrB lt z r j = false) : rrE lt z r = 0 := by
  have e : rrF lt z r = sLast lt z + 1 := fs_eq (Nat.le_refl _) h (fun q => absurd q (by omega))
  unfold rrE
  rw [if_pos hg, e, if_neg (by omega)]
theorem rrE_2 {lt : Nat → Int32} {z j : Nat} {r : Rw} (hg : sGood lt z = true) (hj : j < sLast lt z + 1) (h : ∀ q, q < j → rrB lt z r q = false) (h2 : rrB lt z r j = true) : rrE lt z r = -2000 - nI (sPos lt z j) := by
  have e : rrF lt z r = j := fs_eq (by omega) h (fun _ => h2)
  unfold rrE
  rw [if_pos hg, e, if_pos hj]
theorem rrE_1 {lt : Nat → Int32} {z : Nat} {r : Rw} (hg : sGood lt z = false) : rrE lt z r = -1000 - nI (sPos lt z (sLast lt z + 1)) := if_neg (by rw [hg]; decide)
theorem m_ne0 : ∀ k, k ≤ 200 → (-1000 : Int32) - nI k ≠ 0 ∧ (-2000 : Int32) - nI k ≠ 0 := by decide +kernel
theorem m_low : ∀ k, k ≤ 200 → ¬ (-20 : Int32) < -1000 - nI k ∧ ¬ (-20 : Int32) < -2000 - nI k := by decide +kernel
theorem sPos_b {lt : Nat → Int32} {z : Nat} (hz : z ≤ 96) : sPos lt z (sLast lt z + 1) ≤ 200 := by
  have h1 := sPos_le (lt := lt) (z := z) _ (Nat.le_refl _)
  have h2 := sR_le (lt := lt) (z := z) (k := sPos lt z (sLast lt z))
  show (sR lt z (sPos lt z (sLast lt z))).2 ≤ 200
  omega
theorem rfOk_low {x : Int32} (h : ¬ (-20 : Int32) < x) : rfOk x := fun q => absurd q h
theorem rrE_rf {lt : Nat → Int32} {z : Nat} {r : Rw} (hz : z ≤ 96) : rfOk (rrE lt z r) := by
  unfold rrE
  split
  · split
    · rename_i h
      exact rfOk_low (m_low _ (by have := sPos_le (lt := lt) (z := z) (rrF lt z r) (by omega); omega)).2
    · exact fun _ => ⟨0, by omega, rfl⟩
  · exact rfOk_low (m_low _ (sPos_b hz)).1
/-- the statements' objects: the last one first -/
def TL (lt : Nat → Int32) (z : Nat) (ka : Nat → Nat) (i : Nat) (tl : va_W) (f : Nat → Option Nat) : Prop := tl.length = i ∧ ∀ j, j < i → ∃ x, tl[i - 1 - j]? = some (x, tdE ka (sPos lt z j) (sT lt z (sPos lt z j))) ∧ f j = some x
theorem TL_0 {lt : Nat → Int32} {z : Nat} {ka : Nat → Nat} {f : Nat → Option Nat} : TL lt z ka 0 [] f := ⟨rfl, fun j h => absurd h (Nat.not_lt_zero j)⟩
theorem TL_s {lt : Nat → Int32} {z i x : Nat} {ka : Nat → Nat} {tl : va_W} {f : Nat → Option Nat} (h : TL lt z ka i tl f) : TL lt z ka (i + 1) ((x, tdE ka (sPos lt z i) (sT lt z (sPos lt z i))) :: tl) (va_up f i (some x)) := by
  refine ⟨by show tl.length + 1 = i + 1; rw [h.1], fun j hj => ?_⟩
  by_cases e : j = i
  · subst e
    exact ⟨x, by rw [show j + 1 - 1 - j = 0 by omega]; rfl, va_up_self _ _ _⟩
  · obtain ⟨y, h1, h2⟩ := h.2 j (by omega)
    refine ⟨y, ?_, by rw [va_up_ne _ _ e]; exact h2⟩
    rw [show i + 1 - 1 - j = (i - 1 - j) + 1 by omega]
    exact h1
/-- a statement's object may lie in a row of statements -/
theorem tdAny {G : xG} {s : State} {H : Heap} {ws : va_W} {ka : Nat → Nat} {i q b : Nat} {d : Td} (hK : KK G s) (hP : va_P G.1 vwCl ws H) (hd : tdV d) (h0 : ws[i]? = some (q, tdE ka b d)) : va_Any RX14 s H q := by
  have hN := hK.2
  have asg : ∀ (i : Nat) (C : String), nwC[i]? = some (C, RX14) → ∀ comp c0 : ClassId, s.vm.findClass RX14 = some comp → s.vm.findClass C = some c0 → s.vm.assignable c0 comp = true := by
    intro i C e comp c0 h1 h2
    obtain ⟨c1, t1, f1, f2, f3⟩ := Cond.castable_spec (va_Nw.use (A := #[]) rfl (hN.C i e))
    cases f1.symm.trans h2
    cases f2.symm.trans h1
    exact f3
  obtain ⟨g, a1, a2, a3⟩ := d
  rcases hd.1 with e | e | e | e | e | e <;> (have e : g = _ := e; subst e)
  · exact va_rAny hK.1 hP h0 rfl (asg 10 RX15 rfl)
  · exact va_rAny hK.1 hP h0 rfl (asg 11 RX16 rfl)
  · exact va_rAny hK.1 hP h0 rfl (asg 12 RX17 rfl)
  · exact va_rAny hK.1 hP h0 rfl (asg 13 RX18 rfl)
  · exact va_rAny hK.1 hP h0 rfl (asg 14 RX19 rfl)
  · exact va_rAny hK.1 hP h0 rfl (asg 15 RX20 rfl)

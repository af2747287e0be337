/-! NEW 2: the system's picture under new addresses, and with one more item or desk -/
set_option maxRecDepth 100000
set_option maxHeartbeats 4000000
section NS
variable {D : va_G} {tc : Nat → ClassId} {x mo : Nat} {β β' : Nat → Nat} {μ ν : MS} {H H1 : Heap}
theorem qI_ren (hn : nn μ ≤ 60) (hb : ∀ r, live μ r → β' r = β r) {v : Int32} (h : v = -1 ∨ ∃ y : Nat, y < nn μ ∧ v = nI y) : qI β' v = qI β v := by
  rcases h with rfl | ⟨y, hy, rfl⟩
  · rfl
  · rw [qI_N (by omega), qI_N (by omega), hb _ (live_th hy hn)]
theorem th_kinds {k : Nat} (h12 : k ≤ 12) (h1 : ¬ numN k = true) (h2 : ¬ oneN k = true) : thgN k = true := by
  simp [numN, oneN, thgN] at h1 h2 ⊢
  omega
theorem thE_ren (hI : IV μ) (hb : ∀ r, live μ r → β' r = β r) {j : Nat} (hj : j < nn μ) : thE tc β' μ j = thE tc β μ j := by
  have hn := hI.1.1.2
  unfold thE
  split
  · rfl
  split
  · rfl
  split
  · rfl
  rename_i h1 h2 h3
  have hk := th_kinds (hI.1.2.1 j (by omega)).2.1 h2 h3
  have e : (fun i => qT β' (cT μ j i)) = fun i => qT β (cT μ j i) := by
    funext i
    unfold cT
    by_cases hi : i < 3
    · rw [if_pos hi]
      rcases CV_thg hI (show j < 60 by omega) hi hk with q | ⟨y, hy, q, -⟩
      · rw [q]; rfl
      · rw [q, qT_N (by omega), qT_N (by omega), hb _ (live_th hy hn)]
    · rw [if_neg hi]; rfl
  rw [e]
theorem arrV_cong {c : ClassId} {n : Nat} {f g : Nat → Value} (h : ∀ i, i < n → f i = g i) : arrV c n f = arrV c n g := by
  have e : (fun j : Fin n => f j.val) = fun j : Fin n => g j.val := by
    funext j
    exact h j.val j.isLt
  unfold arrV
  rw [e]
theorem at_q {a n : Nat} {c : ClassId} {f g : Nat → Option Nat} (h : ∀ i, i < n → f i = g i) (hP : va_at D vwCl (a, .inl (c, n, .inr (.inr (.inr (.inr f))))) H) : va_at D vwCl (a, .inl (c, n, .inr (.inr (.inr (.inr g))))) H := by
  have hP : H[a]? = some (arrV c n (fun j => va_rf (f j))) := hP
  rw [arrV_cong (g := fun j => va_rf (g j)) (fun i hi => by rw [h i hi])] at hP
  exact hP
theorem dkA_ren (hb : ∀ r, live μ r → β' r = β r) : ∀ q, q < 32 → dkA β' μ q = dkA β μ q := by
  intro q hq
  unfold dkA
  split
  · rename_i h; rw [hb _ (live_dk hq h)]
  · rfl
theorem cell_ren (hI : IX μ) (hb : ∀ r, live μ r → β' r = β r) : ∀ r, live μ r → r ≠ 2 → cellOf tc β' μ r = cellOf tc β μ r := by
  intro r hr hr2
  have hn := hI.1.1.1.2
  have e1 : mainF β' μ = mainF β μ := by
    unfold mainF
    rw [hb 1 live_1, hb 2 live_2, hb 3 live_3, qI_ren hn hb hI.2.2]
  have e2 : itA β' μ = itA β μ := by
    funext j
    unfold itA
    split
    · rename_i h; rw [hb _ (live_it h hn)]
    · rfl
  unfold cellOf
  rw [e1, e2]
  split
  · rfl
  split
  · rfl
  split
  · rfl
  split
  · have hl : r - 4 < nn μ := by unfold live at hr; omega
    have := hb (64 + (r - 4)) (live_th hl hn)
    rw [show r + 60 = 64 + (r - 4) by omega, this]
  split
  · have hl : r - 64 < nn μ := by unfold live at hr; omega
    exact thE_ren hI.1 hb hl
  · have hl : r - 124 < 32 ∧ (r - 124) % 4 < dk μ ((r - 124) / 4) := by
      unfold live at hr
      rcases hr with h | h | h | h
      · omega
      · omega
      · omega
      · exact ⟨by omega, h.2.2⟩
    have h9 := hI.2.1 (r - 124) hl.1 hl.2
    unfold deskF
    rw [qI_ren hn hb h9.1, qI_ren hn hb h9.2]
/-- other addresses for what is not there yet -/
theorem Sys.ren (h : Sys D tc x mo β μ H) (hI : IX μ) (hb : ∀ r, live μ r → β' r = β r) : Sys D tc x mo β' μ H := by
  refine ⟨fun r hr => ?_, fun r r' hr hr' e => h.2 r r' hr hr' (by rw [← hb r hr, ← hb r' hr']; exact e)⟩
  rw [hb r hr]
  refine ⟨?_, (h.1 r hr).2⟩
  by_cases e : r = 2
  · subst e
    exact at_q (fun i hi => (dkA_ren hb i hi).symm) h.desks
  · rw [cell_ren hI hb r hr e]
    exact (h.1 r hr).1
/-- one more item, with its thing -/
def mkR (β : Nat → Nat) (j h : Nat) : Nat → Nat := fun r => if r = 4 + j then h else if r = 64 + j then h + 1 else β r
def mkD (β : Nat → Nat) (q h : Nat) : Nat → Nat := fun r => if r = 124 + q then h else β r
theorem mkR_live {j h : Nat} (hj : j = nn μ) (h60 : j < 60) : ∀ r, live μ r → mkR β j h r = β r := by
  intro r hr
  unfold mkR
  have h4 : r ≠ 4 + j := by intro e; unfold live at hr; omega
  have h64 : r ≠ 64 + j := by intro e; unfold live at hr; omega
  rw [if_neg h4, if_neg h64]
theorem mk_S {j : Nat} {z : Int32} {a : Int32} {v : Int64} (i : Nat) : sS (p_mk μ j a z v) i = if i = 0 then nI (j + 1) else sS μ i := by
  unfold p_mk p_mkC
  rw [sS_setS]
  rfl
theorem mk_A {j : Nat} {a z : Int32} {v : Int64} (b i : Nat) : sA (p_mk μ j a z v) b i = if b = 0 ∧ i = j then a else if b = 1 ∧ i = j then z else if b = 2 ∧ i = j then 0 else sA μ b i := by
  show sA (setA (setA (setA μ 0 j a) 1 j z) 2 j 0) b i = _
  simp only [sA_setA]
  by_cases h0 : b = 0 ∧ i = j
  · rw [if_neg (by omega), if_neg (by omega), if_pos h0, if_pos h0]
  · by_cases h1 : b = 1 ∧ i = j
    · rw [if_neg (by omega), if_pos h1, if_neg h0, if_pos h1]
    · by_cases h2 : b = 2 ∧ i = j
      · rw [if_pos h2, if_neg h0, if_neg h1, if_pos h2]
      · rw [if_neg h2, if_neg h1, if_neg h0, if_neg h0, if_neg h1, if_neg h2]
theorem mk_C {j : Nat} {a z : Int32} {v : Int64} (i : Nat) : sC (p_mk μ j a z v) i = if 3 * j ≤ i ∧ i < 3 * j + 3 then v else sC μ i := by
  show sC (setC (setC (setC (setA (setA (setA μ 0 j a) 1 j z) 2 j 0) (3 * j) v) (3 * j + 1) v) (3 * j + 2) v) i = _
  simp only [sC_setC]
  by_cases h : 3 * j ≤ i ∧ i < 3 * j + 3
  · rw [if_pos h]
    by_cases h2 : i = 3 * j + 2
    · rw [if_pos h2]
    by_cases h1 : i = 3 * j + 1
    · rw [if_neg h2, if_pos h1]
    rw [if_neg h2, if_neg h1, if_pos (by omega)]
  · rw [if_neg h, if_neg (by omega), if_neg (by omega), if_neg (by omega)]
    rfl
end NS

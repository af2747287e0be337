/-! NEW 3: the system's picture with one more item, with one more desk -/
set_option maxRecDepth 100000
set_option maxHeartbeats 4000000
section NT
variable {D : va_G} {tc : Nat → ClassId} {x mo : Nat} {β : Nat → Nat} {μ : MS} {H H1 : Heap}
theorem mk_live {j : Nat} {a z : Int32} {v : Int64} (hj : j = nn μ) (h60 : j < 60) (r : Nat) : live (p_mk μ j a z v) r ↔ live μ r ∨ r = 4 + j ∨ r = 64 + j := by
  have e1 : nn (p_mk μ j a z v) = j + 1 := by
    unfold nn
    rw [mk_S, if_pos rfl]
    exact nI_clamp (by omega)
  have e3 : ∀ r, dk (p_mk μ j a z v) r = dk μ r := fun r => by
    unfold dk
    rw [mk_A, if_neg (by omega), if_neg (by omega), if_neg (by omega)]
  unfold live
  rw [e1, e3, hj]
  omega
theorem mk_nn {j : Nat} {a z : Int32} {v : Int64} (h60 : j < 60) : nn (p_mk μ j a z v) = j + 1 := by
  unfold nn
  rw [mk_S, if_pos rfl]
  exact nI_clamp (by omega)
theorem mk_kd {j k : Nat} {z : Int32} {v : Int64} (hk : k < 13) (i : Nat) : kd (p_mk μ j (nI k) z v) i = if i = j then k else kd μ i := by
  unfold kd
  rw [mk_A]
  by_cases h : i = j
  · rw [if_pos ⟨rfl, h⟩, if_pos h]; exact nI_clamp (by omega)
  · rw [if_neg (fun q => h q.2), if_neg (by omega), if_neg (by omega), if_neg h]
theorem mk_sz {j : Nat} {a z : Int32} {v : Int64} (i : Nat) : sz (p_mk μ j a z v) i = if i = j then z.toNatClampNeg else sz μ i := by
  unfold sz
  rw [mk_A]
  by_cases h : i = j
  · rw [if_neg (by omega), if_pos ⟨rfl, h⟩, if_pos h]
  · rw [if_neg (by omega), if_neg (fun q => h q.2), if_neg (by omega), if_neg h]
/-- the new thing's cell is the picture of its numbers -/
theorem newE_th {β' : Nat → Nat} {j k n a : Nat} (hk : k < 13) (hn3 : oneN k = false → n ≤ 3) (hP : va_at D vwCl (a, newE tc k n) H) :
    va_at D vwCl (a, thE tc β' (p_mk μ j (nI k) (if oneN k = true then 0 else nI n) (if thgN k = true then -1 else 0)) j) H := by
  have ek : kd (p_mk μ j (nI k) (if oneN k = true then 0 else nI n) (if thgN k = true then -1 else 0)) j = k := by rw [mk_kd hk, if_pos rfl]
  have es : oneN k = false → sz (p_mk μ j (nI k) (if oneN k = true then 0 else nI n) (if thgN k = true then -1 else 0)) j = n := fun h => by
    rw [mk_sz, if_pos rfl, h, if_neg (by decide)]
    exact nI_clamp (by have := hn3 h; omega)
  have ec : ∀ i, i < 3 → cT (p_mk μ j (nI k) (if oneN k = true then 0 else nI n) (if thgN k = true then -1 else 0)) j i = (if thgN k = true then -1 else 0) := fun i hi => by
    unfold cT
    rw [if_pos hi, mk_C, if_pos (by omega)]
  have ec3 : ∀ i, ¬ i < 3 → cT (p_mk μ j (nI k) (if oneN k = true then 0 else nI n) (if thgN k = true then -1 else 0)) j i = -1 := fun i hi => by
    unfold cT
    rw [if_neg hi]
  have e2 : sA (p_mk μ j (nI k) (if oneN k = true then 0 else nI n) (if thgN k = true then -1 else 0)) 2 j = 0 := by
    rw [mk_A, if_neg (by omega), if_neg (by omega), if_pos ⟨rfl, rfl⟩]
  generalize (p_mk μ j (nI k) (if oneN k = true then 0 else nI n) (if thgN k = true then -1 else 0)) = ν at ek es ec ec3 e2
  unfold thE
  unfold newE at hP
  rw [ek, e2]
  by_cases h2 : k = 2
  · subst h2
    rw [if_pos rfl] at hP ⊢
    have ho : oneN 2 = false := rfl
    rw [es ho]
    have hP : H[a]? = some (arrV (tc 2) n (fun _ => .double 0)) := hP
    show H[a]? = some (arrV (tc 2) n (fun i => .double (dE (cT ν j i))))
    rw [hP, arrV_cong (f := fun i => .double (dE (cT ν j i))) (g := fun _ => .double 0) (fun i hi => by
      have := hn3 ho
      rw [ec i (by omega)]
      show Value.double (dE 0) = _
      rw [de_0])]
  rw [if_neg h2] at hP ⊢
  by_cases hnum : numN k = true
  · rw [if_pos hnum] at hP ⊢
    have ho : oneN k = false := by simp [numN, oneN] at hnum ⊢; omega
    have ht : thgN k = false := by simp [numN, thgN] at hnum ⊢; omega
    rw [es ho]
    have hP : H[a]? = some (arrV (tc k) n (fun _ => .int 0)) := hP
    show H[a]? = some (arrV (tc k) n (fun i => .int (cT ν j i).toInt32))
    rw [hP, arrV_cong (f := fun i => .int (cT ν j i).toInt32) (g := fun _ => .int 0) (fun i hi => by
      have := hn3 ho
      rw [ec i (by omega), ht]
      rfl)]
  rw [if_neg hnum] at hP ⊢
  by_cases ho : oneN k = true
  · rw [if_pos ho] at hP ⊢
    exact hP
  · rw [if_neg ho] at hP ⊢
    have ho2 : oneN k = false := by cases h : oneN k with | true => exact absurd h ho | false => rfl
    have ht : thgN k = true := th_kinds (by omega) hnum ho
    rw [es ho2]
    refine at_q (fun i hi => ?_) hP
    by_cases h3 : i < 3
    · rw [ec i h3, if_pos ht]; rfl
    · rw [ec3 i h3]; rfl
theorem make_add {j k n h : Nat} (hM : Sys D tc x mo β μ H) (hI : IX μ) (hj : j = nn μ) (h60 : j < 60) (hk : k < 13) (hn3 : oneN k = false → n ≤ 3) (hh : H.size ≤ h)
    (hk1 : ∀ q : Nat, q < H.size → q ≠ β 0 → q ≠ β 1 → H1[q]? = H[q]?)
    (h0 : va_at D vwCl (β 0, .inr (0, mainF β (setS μ 0 (nI (j + 1))))) H1)
    (h1 : va_at D vwCl (β 1, .inl (tc 13, 60, .inr (.inr (.inr (.inr fun i => if i = j then some h else itA β μ i))))) H1)
    (h4 : va_at D vwCl (h, .inr (2, [.ref (h + 1)])) H1) (h64 : va_at D vwCl (h + 1, newE tc k n) H1) (hA : sy_A x mo h) (hA1 : sy_A x mo (h + 1)) :
    Sys D tc x mo (mkR β j h) (p_mk μ j (nI k) (if oneN k = true then 0 else nI n) (if thgN k = true then -1 else 0)) H1 := by
  have hn := hI.1.1.1.2
  have hb := mkR_live (β := β) (h := h) hj h60
  have hM' := hM.ren hI hb
  have hlt : ∀ r, live μ r → mkR β j h r < H.size := fun r hr => (hM'.1 r hr).1.lt
  have b4 : mkR β j h (4 + j) = h := by unfold mkR; rw [if_pos rfl]
  have b64 : mkR β j h (64 + j) = h + 1 := by unfold mkR; rw [if_neg (by omega), if_pos rfl]
  have hcell : ∀ r, live μ r → r ≠ 0 → r ≠ 1 → va_at D vwCl (mkR β j h r, cellOf tc (mkR β j h) μ r) H1 := fun r hr r0 r1 =>
    (hM'.1 r hr).1.kept (hk1 _ (hlt r hr) (fun q => r0 (hM'.2 r 0 hr live_0 (q.trans (hb 0 live_0).symm))) (fun q => r1 (hM'.2 r 1 hr live_1 (q.trans (hb 1 live_1).symm))))
  have hnew := newE_th (μ := μ) (β' := mkR β j h) (j := j) hk hn3 h64
  have hlv := mk_live (μ := μ) (a := nI k) (z := if oneN k = true then 0 else nI n) (v := if thgN k = true then -1 else 0) hj h60
  have hnn := mk_nn (μ := μ) (a := nI k) (z := if oneN k = true then 0 else nI n) (v := if thgN k = true then -1 else 0) h60
  have hS6 : ∀ i, sS (p_mk μ j (nI k) (if oneN k = true then 0 else nI n) (if thgN k = true then -1 else 0)) i = if i = 0 then nI (j + 1) else sS μ i := mk_S
  have hAA : ∀ b i, (2 < b ∨ i ≠ j) → sA (p_mk μ j (nI k) (if oneN k = true then 0 else nI n) (if thgN k = true then -1 else 0)) b i = sA μ b i := fun b i hbi => by
    rw [mk_A, if_neg (by omega), if_neg (by omega), if_neg (by omega)]
  have hCC : ∀ y i, y ≠ j → cT (p_mk μ j (nI k) (if oneN k = true then 0 else nI n) (if thgN k = true then -1 else 0)) y i = cT μ y i := fun y i hy => by
    unfold cT
    split
    · rw [mk_C, if_neg (by omega)]
    · rfl
  generalize (p_mk μ j (nI k) (if oneN k = true then 0 else nI n) (if thgN k = true then -1 else 0)) = ν at hnew hlv hnn hS6 hAA hCC ⊢
  refine ⟨fun r hr => ?_, fun r r' hr hr' e => ?_⟩
  · rcases (hlv r).mp hr with hr0 | rfl | rfl
    · refine ⟨?_, (hM'.1 r hr0).2⟩
      by_cases r0 : r = 0
      · subst r0
        rw [hb 0 live_0]
        have e : mainF (mkR β j h) ν = mainF β (setS μ 0 (nI (j + 1))) := by
          unfold mainF
          have g : ∀ i, i ≠ 0 → sS ν i = sS μ i := fun i hi => (hS6 i).trans (if_neg hi)
          have g0 : sS ν 0 = nI (j + 1) := (hS6 0).trans (if_pos rfl)
          rw [hb 1 live_1, hb 2 live_2, hb 3 live_3, g0, g 1 (by decide), g 2 (by decide), g 3 (by decide), g 4 (by decide), g 5 (by decide), g 8 (by decide), g 6 (by decide), qI_ren hn hb hI.2.2]
          first | done | rfl
        show va_at D vwCl (β 0, .inr (0, mainF (mkR β j h) ν)) H1
        rw [e]
        exact h0
      by_cases r1 : r = 1
      · subst r1
        rw [hb 1 live_1]
        refine at_q (fun i hi => ?_) h1
        unfold itA
        rw [hnn]
        by_cases e1 : i = j
        · rw [if_pos e1, if_pos (by omega), e1, b4]
        · rw [if_neg e1]
          by_cases e2 : i < nn μ
          · rw [if_pos e2, if_pos (by omega), hb _ (live_it e2 hn)]
          · rw [if_neg e2, if_neg (by omega)]
      have h9 := hcell r hr0 r0 r1
      have e3 : sA ν 3 = sA μ 3 := by funext i; exact hAA 3 i (Or.inl (by omega))
      have ed : dkA (mkR β j h) ν = dkA (mkR β j h) μ := by unfold dkA dk; rw [e3]
      have ec : cellOf tc (mkR β j h) ν r = cellOf tc (mkR β j h) μ r := by
        unfold cellOf
        rw [if_neg r0, if_neg r0, if_neg r1, if_neg r1, ed, e3]
        split
        · rfl
        split
        · rfl
        split
        · rfl
        split
        · have hy : r - 64 ≠ j := by unfold live at hr0; omega
          exact th_cong (hAA 0 _ (Or.inr hy)) (hAA 1 _ (Or.inr hy)) (hAA 2 _ (Or.inr hy)) (by funext i; exact hCC _ i hy)
        · unfold deskF
          rw [hAA 4 _ (Or.inl (by omega)), hAA 5 _ (Or.inl (by omega)), hAA 6 _ (Or.inl (by omega)), hAA 7 _ (Or.inl (by omega)), hAA 8 _ (Or.inl (by omega)), hAA 9 _ (Or.inl (by omega)), hAA 10 _ (Or.inl (by omega)), hAA 11 _ (Or.inl (by omega)), hAA 12 _ (Or.inl (by omega))]
      rw [ec]
      exact h9
    · rw [cell_it h60, b4, b64]
      exact ⟨h4, hA⟩
    · rw [cell_th h60, b64]
      exact ⟨hnew, hA1⟩
  · have hs : ∀ r, live ν r → (live μ r ∧ mkR β j h r < H.size) ∨ (r = 4 + j ∧ mkR β j h r = h) ∨ (r = 64 + j ∧ mkR β j h r = h + 1) := fun r hr => by
      rcases (hlv r).mp hr with q | rfl | rfl
      · exact Or.inl ⟨q, hlt r q⟩
      · exact Or.inr (Or.inl ⟨rfl, b4⟩)
      · exact Or.inr (Or.inr ⟨rfl, b64⟩)
    rcases hs r hr with ⟨a1, a2⟩ | ⟨a1, a2⟩ | ⟨a1, a2⟩ <;> rcases hs r' hr' with ⟨c1, c2⟩ | ⟨c1, c2⟩ | ⟨c1, c2⟩ <;> first | exact hM'.2 r r' a1 c1 e | omega
end NT

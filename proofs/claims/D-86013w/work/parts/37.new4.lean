/-! NEW 4: the system's picture with one more desk -/
set_option maxRecDepth 100000
set_option maxHeartbeats 4000000
section NU
variable {D : va_G} {tc : Nat → ClassId} {x mo : Nat} {β : Nat → Nat} {μ : MS} {H H1 : Heap}
theorem nd_A {r q d : Nat} {f a s : Int32} (b i : Nat) : sA (p_newdesk μ r q d f a s) b i = if b = 3 ∧ i = r then nI (d + 1) else if b = 11 ∧ i = q then -1 else if b = 10 ∧ i = q then 0 else if b = 9 ∧ i = q then 0 else if b = 8 ∧ i = q then -1 else if b = 7 ∧ i = q then 0 else if b = 6 ∧ i = q then s else if b = 5 ∧ i = q then a else if b = 4 ∧ i = q then f else sA μ b i := by
  unfold p_newdesk p_settle
  simp only [sA_setA]
theorem nd_same {r q d : Nat} {f a s : Int32} (b i : Nat) (h3 : ¬ (b = 3 ∧ i = r)) (h : ¬ (4 ≤ b ∧ b ≤ 11 ∧ i = q)) : sA (p_newdesk μ r q d f a s) b i = sA μ b i := by
  rw [nd_A, if_neg h3, if_neg (by omega), if_neg (by omega), if_neg (by omega), if_neg (by omega), if_neg (by omega), if_neg (by omega), if_neg (by omega), if_neg (by omega)]
theorem nd_dk {r q d : Nat} {f a s : Int32} (hd : d < 100) (i : Nat) : dk (p_newdesk μ r q d f a s) i = if i = r then d + 1 else dk μ i := by
  unfold dk
  rw [nd_A]
  by_cases h : i = r
  · rw [if_pos ⟨rfl, h⟩, if_pos h]; exact nI_clamp (by omega)
  · rw [if_neg (fun z => h z.2), if_neg (by omega), if_neg (by omega), if_neg (by omega), if_neg (by omega), if_neg (by omega), if_neg (by omega), if_neg (by omega), if_neg (by omega), if_neg h]
theorem nd_desk {β' : Nat → Nat} {r q d : Nat} {f a s : Int32} (hc : sA μ 12 q = 0) : deskF β' (p_newdesk μ r q d f a s) q = [.int f, .int a, .int s, .int 0, .null, .int 0, .int 0, .null, .int 0] := by
  unfold deskF
  simp [nd_A, hc, qI, va_rf]
theorem mkD_live {q h : Nat} (hq : q < 32) (hl : ¬ q % 4 < dk μ (q / 4)) : ∀ r, live μ r → mkD β q h r = β r := by
  intro r hr
  unfold mkD
  have h4 : r ≠ 124 + q := by
    intro e
    subst e
    unfold live at hr
    rw [show 124 + q - 124 = q by omega] at hr
    omega
  rw [if_neg h4]
theorem desk_add {r q d h : Nat} {f a s : Int32} (hM : Sys D tc x mo β μ H) (hI : IX μ) (hr8 : r < 8) (hd : d = dk μ r) (hd4 : d < 4) (hqe : q = 4 * r + d) (hc : sA μ 12 q = 0) (hh : H.size ≤ h)
    (hk1 : ∀ z : Nat, z < H.size → z ≠ β 2 → z ≠ β 3 → H1[z]? = H[z]?)
    (h2 : va_at D vwCl (β 2, .inl (tc 14, 32, .inr (.inr (.inr (.inr fun i => if i = q then some h else dkA β μ i))))) H1)
    (h3 : va_at D vwCl (β 3, .inl (tc 15, 8, .inl fun i => if i = r then nI (d + 1) else sA μ 3 i)) H1)
    (h124 : va_at D vwCl (h, .inr (6, [.int f, .int a, .int s, .int 0, .null, .int 0, .int 0, .null, .int 0])) H1) (hA : sy_A x mo h) :
    Sys D tc x mo (mkD β q h) (p_newdesk μ r q d f a s) H1 := by
  have hn := hI.1.1.1.2
  have hq : q < 32 := by omega
  have hdiv : q / 4 = r := by omega
  have hmod : q % 4 = d := by omega
  have hnl : ¬ q % 4 < dk μ (q / 4) := by rw [hdiv, hmod]; omega
  have hb := mkD_live (β := β) (h := h) hq hnl
  have hM' := hM.ren hI hb
  have hlt : ∀ r, live μ r → mkD β q h r < H.size := fun r hr => (hM'.1 r hr).1.lt
  have bq : mkD β q h (124 + q) = h := by unfold mkD; rw [if_pos rfl]
  have hcell : ∀ r, live μ r → r ≠ 2 → r ≠ 3 → va_at D vwCl (mkD β q h r, cellOf tc (mkD β q h) μ r) H1 := fun r hr r0 r1 =>
    (hM'.1 r hr).1.kept (hk1 _ (hlt r hr) (fun z => r0 (hM'.2 r 2 hr live_2 (z.trans (hb 2 live_2).symm))) (fun z => r1 (hM'.2 r 3 hr live_3 (z.trans (hb 3 live_3).symm))))
  have hdk : ∀ i, dk (p_newdesk μ r q d f a s) i = if i = r then d + 1 else dk μ i := nd_dk (by omega)
  have hnn : nn (p_newdesk μ r q d f a s) = nn μ := rfl
  have hS : ∀ i, sS (p_newdesk μ r q d f a s) i = sS μ i := fun _ => rfl
  have hC : ∀ i, sC (p_newdesk μ r q d f a s) i = sC μ i := fun _ => rfl
  have hA0 : ∀ b i, ¬ (b = 3 ∧ i = r) → ¬ (4 ≤ b ∧ b ≤ 11 ∧ i = q) → sA (p_newdesk μ r q d f a s) b i = sA μ b i := nd_same
  have hA3 : ∀ i, sA (p_newdesk μ r q d f a s) 3 i = if i = r then nI (d + 1) else sA μ 3 i := fun i => by
    by_cases e : i = r
    · rw [nd_A, if_pos ⟨rfl, e⟩, if_pos e]
    · rw [hA0 3 i (by omega) (by omega), if_neg e]
  have hdsk := nd_desk (β' := mkD β q h) (r := r) (q := q) (d := d) (f := f) (a := a) (s := s) hc
  have hlv : ∀ z, live (p_newdesk μ r q d f a s) z ↔ live μ z ∨ z = 124 + q := by
    intro z
    unfold live
    rw [hnn, hdk]
    by_cases e : (z - 124) / 4 = r
    · rw [if_pos e, e, ← hd]
      omega
    · rw [if_neg e]
      have : z ≠ 124 + q := by omega
      omega
  generalize (p_newdesk μ r q d f a s) = ν at hdk hnn hS hC hA0 hA3 hdsk hlv ⊢
  refine ⟨fun z hz => ?_, fun z z' hz hz' e => ?_⟩
  · rcases (hlv z).mp hz with hz0 | rfl
    · refine ⟨?_, (hM'.1 z hz0).2⟩
      by_cases r2 : z = 2
      · subst r2
        rw [hb 2 live_2]
        refine at_q (fun i hi => ?_) h2
        unfold dkA
        rw [hdk]
        by_cases e1 : i = q
        · rw [if_pos e1, e1, hdiv, if_pos rfl, hmod, if_pos (by omega), bq]
        · rw [if_neg e1]
          by_cases e2 : i / 4 = r
          · rw [if_pos e2, e2, ← hd]
            by_cases e3 : i % 4 < d
            · rw [if_pos e3, if_pos (by omega), hb _ (live_dk hi (by rw [e2]; omega))]
            · rw [if_neg e3, if_neg (by omega)]
          · rw [if_neg e2]
            split
            · rename_i e3; rw [hb _ (live_dk hi e3)]
            · rfl
      by_cases r3 : z = 3
      · subst r3
        rw [hb 3 live_3]
        have e : sA ν 3 = fun i => if i = r then nI (d + 1) else sA μ 3 i := by funext i; exact hA3 i
        show va_at D vwCl (β 3, .inl (tc 15, 8, .inl (sA ν 3))) H1
        rw [e]
        exact h3
      have h9 := hcell z hz0 r2 r3
      have e0 : mainF (mkD β q h) ν = mainF (mkD β q h) μ := by
        unfold mainF
        simp only [hS]
      have e1 : itA (mkD β q h) ν = itA (mkD β q h) μ := by unfold itA; rw [hnn]
      have ec : cellOf tc (mkD β q h) ν z = cellOf tc (mkD β q h) μ z := by
        unfold cellOf
        rw [if_neg r2, if_neg r2, if_neg r3, if_neg r3, e0, e1]
        split
        · rfl
        split
        · rfl
        split
        · rfl
        split
        · exact th_cong (hA0 0 _ (by omega) (by omega)) (hA0 1 _ (by omega) (by omega)) (hA0 2 _ (by omega) (by omega)) (by funext i; unfold cT; simp only [hC])
        · have hy : z - 124 ≠ q := by
            intro e
            unfold live at hz0
            rw [e] at hz0
            omega
          unfold deskF
          rw [hA0 4 _ (by omega) (by omega), hA0 5 _ (by omega) (by omega), hA0 6 _ (by omega) (by omega), hA0 7 _ (by omega) (by omega), hA0 8 _ (by omega) (by omega), hA0 9 _ (by omega) (by omega), hA0 10 _ (by omega) (by omega), hA0 11 _ (by omega) (by omega), hA0 12 _ (by omega) (by omega)]
      rw [ec]
      exact h9
    · rw [cell_dk, bq, hdsk]
      exact ⟨h124, hA⟩
  · have hs : ∀ z, live ν z → (live μ z ∧ mkD β q h z < H.size) ∨ (z = 124 + q ∧ mkD β q h z = h) := fun z hz => by
      rcases (hlv z).mp hz with w | rfl
      · exact Or.inl ⟨w, hlt z w⟩
      · exact Or.inr ⟨rfl, bq⟩
    rcases hs z hz with ⟨a1, a2⟩ | ⟨a1, a2⟩ <;> rcases hs z' hz' with ⟨c1, c2⟩ | ⟨c1, c2⟩ <;> first | exact hM'.2 z z' a1 c1 e | omega
end NU

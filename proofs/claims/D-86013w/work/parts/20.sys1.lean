/-! SYSTEM 1: its picture in the heap -/
set_option maxRecDepth 100000
set_option maxHeartbeats 1000000
def gZ (A : Nat → Prop) (U : State) (H : Heap) : Prop := vx_Zq Bundle.tN "UNASSIGNED_STACK" Bundle.steD A U H ∧ vx_Zq Bundle.tN "SUPPRESSED_SENTINEL" Bundle.listD A U H
theorem gZ.moved {A : Nat → Prop} {u U : State} {H H1 : Heap} (hvm : u.vm.Alike U.vm) (h : gZ A u H) (hq : ∀ a : Nat, a < H.size → ¬ A a → H1[a]? = H[a]?) : gZ A U H1 := ⟨(h.1.kept hq).moved hvm, (h.2.kept hq).moved hvm⟩
theorem atm_in {i : Nat} (hi : i < 3) : ∀ w ∈ vx_atM (exn i) (exc i), w ∈ lw_all ∨ (w ∈ lw_tbl ∧ dcw w = true) := by
  have key : (vx_atM (exn i) (exc i)).all (fun w => lw_all.contains w || (lw_tbl.contains w && dcw w)) = true := by
    rcases (by omega : i = 0 ∨ i = 1 ∨ i = 2) with rfl | rfl | rfl <;> decide +kernel
  intro w hw
  have h := List.all_eq_true.mp key w hw
  simp only [Bool.or_eq_true, Bool.and_eq_true, List.contains_iff_mem] at h
  exact h
theorem dcw_tab {w : Cond} (h : dcw w = true) : w.onTables = true := by
  match w, h with
  | .castable .., _ => rfl
  | .declares _, _ => rfl
/-! the doubles of whole eighths -/
def dE (v : Int64) : UInt64 := FP.ddiv (FP.l2d v) 4620693217682128896
/-- the addresses that belong to the system: all from x on, but the model's -/
def sy_A (x mo : Nat) : Nat → Prop := fun q => x ≤ q ∧ ¬ md_A mo q
def cT (μ : MS) (j i : Nat) : Int64 := if i < 3 then sC μ (3 * j + i) else -1
/-- the thing with this number, or null -/
def qT (β : Nat → Nat) (v : Int64) : Option Nat := if v = -1 then none else some (β (64 + v.toNatClampNeg))
def qI (β : Nat → Nat) (v : Int32) : Option Nat := if v = -1 then none else some (β (64 + v.toNatClampNeg))
def thE (tc : Nat → ClassId) (β : Nat → Nat) (μ : MS) (j : Nat) : va_E :=
  if kd μ j = 2 then .inl (tc 2, sz μ j, .inr (.inr (.inr (.inl fun i => dE (cT μ j i)))))
  else if numN (kd μ j) = true then .inl (tc (kd μ j), sz μ j, .inl fun i => (cT μ j i).toInt32)
  else if oneN (kd μ j) = true then .inr (kd μ j - 2, [.int (sA μ 2 j)])
  else .inl (tc (kd μ j), sz μ j, .inr (.inr (.inr (.inr fun i => qT β (cT μ j i)))))
def mainF (β : Nat → Nat) (μ : MS) : List Value := [.ref (β 1), .int (sS μ 0), .int (sS μ 1), .int (sS μ 2), .int (sS μ 3), .int (sS μ 4), .int (sS μ 5), .ref (β 2), .ref (β 3), .int (sS μ 8), va_rf (qI β (sS μ 6))]
def deskF (β : Nat → Nat) (μ : MS) (q : Nat) : List Value := [.int (sA μ 4 q), .int (sA μ 5 q), .int (sA μ 6 q), .int (sA μ 7 q), va_rf (qI β (sA μ 8 q)), .int (sA μ 9 q), .int (sA μ 10 q), va_rf (qI β (sA μ 11 q)), .int (sA μ 12 q)]
def itA (β : Nat → Nat) (μ : MS) : Nat → Option Nat := fun j => if j < nn μ then some (β (4 + j)) else none
def dkA (β : Nat → Nat) (μ : MS) : Nat → Option Nat := fun q => if q % 4 < dk μ (q / 4) then some (β (124 + q)) else none
def cellOf (tc : Nat → ClassId) (β : Nat → Nat) (μ : MS) (r : Nat) : va_E :=
  if r = 0 then .inr (0, mainF β μ)
  else if r = 1 then .inl (tc 13, 60, .inr (.inr (.inr (.inr (itA β μ)))))
  else if r = 2 then .inl (tc 14, 32, .inr (.inr (.inr (.inr (dkA β μ)))))
  else if r = 3 then .inl (tc 15, 8, .inl (sA μ 3))
  else if r < 64 then .inr (2, [.ref (β (r + 60))])
  else if r < 124 then thE tc β μ (r - 64)
  else .inr (6, deskF β μ (r - 124))
def live (μ : MS) (r : Nat) : Prop := r < 4 ∨ (4 ≤ r ∧ r < 64 ∧ r - 4 < nn μ) ∨ (64 ≤ r ∧ r < 124 ∧ r - 64 < nn μ) ∨ (124 ≤ r ∧ r < 156 ∧ (r - 124) % 4 < dk μ ((r - 124) / 4))
def Sys (D : va_G) (tc : Nat → ClassId) (x mo : Nat) (β : Nat → Nat) (μ : MS) (H : Heap) : Prop :=
  (∀ r : Nat, live μ r → va_at D vwCl (β r, cellOf tc β μ r) H ∧ sy_A x mo (β r)) ∧ ∀ r r' : Nat, live μ r → live μ r' → β r = β r' → r = r'
section SYL
variable {D : va_G} {tc : Nat → ClassId} {x mo : Nat} {β : Nat → Nat} {μ ν : MS} {H H1 : Heap}
theorem Sys.kept (h : Sys D tc x mo β μ H) (hq : ∀ q : Nat, q < H.size → sy_A x mo q → H1[q]? = H[q]?) : Sys D tc x mo β μ H1 :=
  ⟨fun r hr => ⟨(h.1 r hr).1.kept (hq _ (h.1 r hr).1.lt (h.1 r hr).2), (h.1 r hr).2⟩, h.2⟩
theorem Sys.congr (h : Sys D tc x mo β μ H) (hl : ∀ r, live ν r ↔ live μ r) (hc : ∀ r, live μ r → cellOf tc β ν r = cellOf tc β μ r) : Sys D tc x mo β ν H :=
  ⟨fun r hr => by rw [hc r ((hl r).mp hr)]; exact h.1 r ((hl r).mp hr), fun r r' hr hr' => h.2 r r' ((hl r).mp hr) ((hl r').mp hr')⟩
theorem Sys.set (h : Sys D tc x mo β μ H) {r0 : Nat} (hr0 : live μ r0) (oq : ∀ q : Nat, q ≠ β r0 → H1[q]? = H[q]?) (he : va_at D vwCl (β r0, cellOf tc β ν r0) H1) (hl : ∀ r, live ν r ↔ live μ r) (hc : ∀ r, r ≠ r0 → live μ r → cellOf tc β ν r = cellOf tc β μ r) : Sys D tc x mo β ν H1 := by
  refine ⟨fun r hr => ?_, fun r r' hr hr' => h.2 r r' ((hl r).mp hr) ((hl r').mp hr')⟩
  have hr' := (hl r).mp hr
  refine ⟨?_, (h.1 r hr').2⟩
  by_cases e : r = r0
  · rw [e]; exact he
  · rw [hc r e hr']
    exact (h.1 r hr').1.kept (oq _ (fun q => e (h.2 r r0 hr' hr0 q)))
theorem live_eq (h0 : sS ν 0 = sS μ 0) (h3 : sA ν 3 = sA μ 3) : ∀ r, live ν r ↔ live μ r := by
  intro r
  have e1 : nn ν = nn μ := by unfold nn; rw [h0]
  have e2 : dk ν = dk μ := by funext r; unfold dk; rw [h3]
  unfold live
  rw [e1, e2]
theorem cell_cong {r : Nat} (h1 : r = 0 → mainF β ν = mainF β μ) (h0 : sS ν 0 = sS μ 0) (h3 : sA ν 3 = sA μ 3) (h4 : 64 ≤ r → r < 124 → thE tc β ν (r - 64) = thE tc β μ (r - 64)) (h5 : 124 ≤ r → deskF β ν (r - 124) = deskF β μ (r - 124)) : cellOf tc β ν r = cellOf tc β μ r := by
  have e1 : itA β ν = itA β μ := by unfold itA nn; rw [h0]
  have e2 : dkA β ν = dkA β μ := by unfold dkA dk; rw [h3]
  unfold cellOf
  rw [e1, e2, h3]
  by_cases c0 : r = 0
  · rw [if_pos c0, if_pos c0, h1 c0]
  rw [if_neg c0, if_neg c0]
  by_cases c1 : r < 64
  · simp only [if_pos c1]
  simp only [if_neg c1]
  by_cases c2 : r < 124
  · simp only [if_pos c2]
    rw [h4 (by omega) c2]
  simp only [if_neg c2]
  rw [h5 (by omega)]
theorem th_cong {j : Nat} (h0 : sA ν 0 j = sA μ 0 j) (h1 : sA ν 1 j = sA μ 1 j) (h2 : sA ν 2 j = sA μ 2 j) (h3 : cT ν j = cT μ j) : thE tc β ν j = thE tc β μ j := by
  have e1 : kd ν j = kd μ j := by unfold kd; rw [h0]
  have e2 : sz ν j = sz μ j := by unfold sz; rw [h1]
  unfold thE
  rw [e1, e2, h2, h3]
theorem live_0 : live μ 0 := Or.inl (by omega)
theorem live_1 : live μ 1 := Or.inl (by omega)
theorem live_2 : live μ 2 := Or.inl (by omega)
theorem live_3 : live μ 3 := Or.inl (by omega)
theorem live_it {j : Nat} (h : j < nn μ) (h2 : nn μ ≤ 60) : live μ (4 + j) := Or.inr (Or.inl ⟨by omega, by omega, by omega⟩)
theorem live_th {j : Nat} (h : j < nn μ) (h2 : nn μ ≤ 60) : live μ (64 + j) := Or.inr (Or.inr (Or.inl ⟨by omega, by omega, by omega⟩))
theorem live_dk {q : Nat} (h : q < 32) (h2 : q % 4 < dk μ (q / 4)) : live μ (124 + q) := Or.inr (Or.inr (Or.inr ⟨by omega, by omega, by rw [show 124 + q - 124 = q by omega]; exact h2⟩))
theorem cell_it {j : Nat} (h : j < 60) : cellOf tc β μ (4 + j) = .inr (2, [.ref (β (64 + j))]) := by
  unfold cellOf
  rw [if_neg (by omega), if_neg (by omega), if_neg (by omega), if_neg (by omega), if_pos (by omega), show 4 + j + 60 = 64 + j by omega]
theorem cell_th {j : Nat} (h : j < 60) : cellOf tc β μ (64 + j) = thE tc β μ j := by
  unfold cellOf
  rw [if_neg (by omega), if_neg (by omega), if_neg (by omega), if_neg (by omega), if_neg (by omega), if_pos (by omega), show 64 + j - 64 = j by omega]
theorem cell_dk {q : Nat} : cellOf tc β μ (124 + q) = .inr (6, deskF β μ q) := by
  unfold cellOf
  rw [if_neg (by omega), if_neg (by omega), if_neg (by omega), if_neg (by omega), if_neg (by omega), if_neg (by omega), show 124 + q - 124 = q by omega]
theorem Sys.main (h : Sys D tc x mo β μ H) : va_at D vwCl (β 0, .inr (0, mainF β μ)) H := (h.1 0 live_0).1
theorem Sys.items (h : Sys D tc x mo β μ H) : va_at D vwCl (β 1, .inl (tc 13, 60, .inr (.inr (.inr (.inr (itA β μ)))))) H := (h.1 1 live_1).1
theorem Sys.desks (h : Sys D tc x mo β μ H) : va_at D vwCl (β 2, .inl (tc 14, 32, .inr (.inr (.inr (.inr (dkA β μ)))))) H := (h.1 2 live_2).1
theorem Sys.dmany (h : Sys D tc x mo β μ H) : va_at D vwCl (β 3, .inl (tc 15, 8, .inl (sA μ 3))) H := (h.1 3 live_3).1
theorem Sys.item (h : Sys D tc x mo β μ H) {j : Nat} (hj : j < nn μ) (hn : nn μ ≤ 60) : va_at D vwCl (β (4 + j), .inr (2, [.ref (β (64 + j))])) H := by
  have := (h.1 (4 + j) (live_it hj hn)).1
  rw [cell_it (by omega)] at this
  exact this
theorem Sys.thing (h : Sys D tc x mo β μ H) {j : Nat} (hj : j < nn μ) (hn : nn μ ≤ 60) : va_at D vwCl (β (64 + j), thE tc β μ j) H := by
  have := (h.1 (64 + j) (live_th hj hn)).1
  rw [cell_th (by omega)] at this
  exact this
theorem Sys.desk (h : Sys D tc x mo β μ H) {q : Nat} (hq : q < 32) (hl : q % 4 < dk μ (q / 4)) : va_at D vwCl (β (124 + q), .inr (6, deskF β μ q)) H := by
  have := (h.1 (124 + q) (live_dk hq hl)).1
  rw [cell_dk] at this
  exact this
theorem th_num {j k : Nat} (hk : kd μ j = k) (h2 : k ≠ 2) (h : numN k = true) : thE tc β μ j = .inl (tc k, sz μ j, .inl fun i => (cT μ j i).toInt32) := by
  unfold thE
  rw [hk, if_neg h2, if_pos h]
theorem th_dbl {j : Nat} (hk : kd μ j = 2) : thE tc β μ j = .inl (tc 2, sz μ j, .inr (.inr (.inr (.inl fun i => dE (cT μ j i))))) := by
  unfold thE
  rw [if_pos hk]
theorem th_one {j k : Nat} (hk : kd μ j = k) (h2 : k ≠ 2) (h : numN k = false) (h3 : oneN k = true) : thE tc β μ j = .inr (k - 2, [.int (sA μ 2 j)]) := by
  unfold thE
  rw [hk, if_neg h2, if_neg (by rw [h]; decide), if_pos h3]
theorem th_row {j k : Nat} (hk : kd μ j = k) (h2 : k ≠ 2) (h : numN k = false) (h3 : oneN k = false) : thE tc β μ j = .inl (tc k, sz μ j, .inr (.inr (.inr (.inr fun i => qT β (cT μ j i))))) := by
  unfold thE
  rw [hk, if_neg h2, if_neg (by rw [h]; decide), if_neg (by rw [h3]; decide)]
/-! writes -/
theorem Sys.pS (h : Sys D tc x mo β μ H) {k : Nat} {v : Int32} (hk : k ≠ 0) (oq : ∀ q : Nat, q ≠ β 0 → H1[q]? = H[q]?) (hP : va_at D vwCl (β 0, .inr (0, mainF β (setS μ k v))) H1) : Sys D tc x mo β (setS μ k v) H1 := by
  have e0 : sS (setS μ k v) 0 = sS μ 0 := by rw [sS_setS, if_neg (Ne.symm hk)]
  exact h.set live_0 oq hP (live_eq e0 rfl) (fun r hr _ => cell_cong (fun q => absurd q hr) e0 rfl (fun _ _ => rfl) (fun _ => rfl))
theorem Sys.pS7 (h : Sys D tc x mo β μ H) {v : Int32} : Sys D tc x mo β (setS μ 7 v) H :=
  h.congr (live_eq rfl rfl) (fun r _ => cell_cong (fun _ => rfl) rfl rfl (fun _ _ => rfl) (fun _ => rfl))
theorem Sys.pD (h : Sys D tc x mo β μ H) {a q : Nat} {v : Int32} (ha : 4 ≤ a) (hq : q < 32) (hl : q % 4 < dk μ (q / 4)) (oq : ∀ z : Nat, z ≠ β (124 + q) → H1[z]? = H[z]?) (hP : va_at D vwCl (β (124 + q), .inr (6, deskF β (setA μ a q v) q)) H1) : Sys D tc x mo β (setA μ a q v) H1 := by
  have e : ∀ b, b < 4 → sA (setA μ a q v) b = sA μ b := fun b hb => by funext i; rw [sA_setA, if_neg (fun z => by omega)]
  refine h.set (live_dk hq hl) oq (by rw [cell_dk]; exact hP) (live_eq rfl (e 3 (by omega))) (fun r hr _ => cell_cong (fun _ => rfl) rfl (e 3 (by omega)) (fun _ _ => th_cong (by rw [e 0 (by omega)]) (by rw [e 1 (by omega)]) (by rw [e 2 (by omega)]) rfl) (fun h124 => ?_))
  have e2 : ∀ b, sA (setA μ a q v) b (r - 124) = sA μ b (r - 124) := fun b => by rw [sA_setA, if_neg (fun z => hr (by omega))]
  unfold deskF
  rw [e2, e2, e2, e2, e2, e2, e2, e2, e2]
/-- of desks that are not there, nothing is kept -/
theorem Sys.pD0 (h : Sys D tc x mo β μ H) {a q : Nat} {v : Int32} (ha : 4 ≤ a) (hl : ¬ (q < 32 ∧ q % 4 < dk μ (q / 4))) : Sys D tc x mo β (setA μ a q v) H := by
  have e : ∀ b, b < 4 → sA (setA μ a q v) b = sA μ b := fun b hb => by funext i; rw [sA_setA, if_neg (fun z => by omega)]
  refine h.congr (live_eq rfl (e 3 (by omega))) (fun r hr => cell_cong (fun _ => rfl) rfl (e 3 (by omega)) (fun _ _ => th_cong (by rw [e 0 (by omega)]) (by rw [e 1 (by omega)]) (by rw [e 2 (by omega)]) rfl) (fun h124 => ?_))
  have hne : r - 124 ≠ q := by
    intro z
    subst z
    rcases hr with hr | hr | hr | hr
    · omega
    · omega
    · omega
    · exact hl ⟨by omega, hr.2.2⟩
  have e2 : ∀ b, sA (setA μ a q v) b (r - 124) = sA μ b (r - 124) := fun b => by rw [sA_setA, if_neg (fun z => hne z.2)]
  unfold deskF
  rw [e2, e2, e2, e2, e2, e2, e2, e2, e2]
theorem cT_setC {j j' i : Nat} {v : Int64} (hi : i < 3) : cT (setC μ (3 * j + i) v) j' = if j' = j then (fun k => if k = i then v else cT μ j k) else cT μ j' := by
  funext k
  by_cases e : j' = j
  · subst e
    rw [if_pos rfl]
    unfold cT
    by_cases hk : k < 3
    · rw [if_pos hk, sC_setC]
      by_cases e2 : k = i
      · rw [if_pos (by omega), if_pos e2]
      · rw [if_neg (by omega), if_neg e2, if_pos hk]
    · rw [if_neg hk, if_neg (by omega), if_neg hk]
  · rw [if_neg e]
    unfold cT
    by_cases hk : k < 3
    · rw [if_pos hk, if_pos hk, sC_setC, if_neg (by omega)]
    · rw [if_neg hk, if_neg hk]
theorem Sys.pC (h : Sys D tc x mo β μ H) {j i : Nat} {v : Int64} (hi : i < 3) (hj : j < nn μ) (hn : nn μ ≤ 60) (oq : ∀ q : Nat, q ≠ β (64 + j) → H1[q]? = H[q]?) (hP : va_at D vwCl (β (64 + j), thE tc β (setC μ (3 * j + i) v) j) H1) : Sys D tc x mo β (setC μ (3 * j + i) v) H1 := by
  refine h.set (live_th hj hn) oq (by rw [cell_th (by omega)]; exact hP) (live_eq rfl rfl) (fun r hr _ => cell_cong (fun _ => rfl) rfl rfl (fun h1 h2 => th_cong rfl rfl rfl ?_) (fun _ => rfl))
  rw [cT_setC hi, if_neg (by omega)]
theorem Sys.pM (h : Sys D tc x mo β μ H) {j : Nat} {v : Int32} (hj : j < nn μ) (hn : nn μ ≤ 60) (oq : ∀ q : Nat, q ≠ β (64 + j) → H1[q]? = H[q]?) (hP : va_at D vwCl (β (64 + j), thE tc β (setA μ 2 j v) j) H1) : Sys D tc x mo β (setA μ 2 j v) H1 := by
  refine h.set (live_th hj hn) oq (by rw [cell_th (by omega)]; exact hP) (live_eq rfl rfl) (fun r hr _ => cell_cong (fun _ => rfl) rfl rfl (fun h1 h2 => th_cong rfl rfl ?_ rfl) (fun h5 => rfl))
  rw [sA_setA, if_neg (fun z => hr (by omega))]
/-- a thing that bears no stamp: its stamp is not kept -/
theorem Sys.pM0 (h : Sys D tc x mo β μ H) {j : Nat} {v : Int32} (hk : kd μ j = 2 ∨ numN (kd μ j) = true ∨ oneN (kd μ j) = false) : Sys D tc x mo β (setA μ 2 j v) H := by
  refine h.congr (live_eq rfl rfl) (fun r hr => cell_cong (fun _ => rfl) rfl rfl (fun h1 h2 => ?_) (fun h5 => rfl))
  by_cases e : r - 64 = j
  · have e1 : kd (setA μ 2 j v) (r - 64) = kd μ (r - 64) := rfl
    have e2 : sz (setA μ 2 j v) (r - 64) = sz μ (r - 64) := rfl
    have e3 : cT (setA μ 2 j v) (r - 64) = cT μ (r - 64) := rfl
    unfold thE
    rw [e1, e2, e3]
    rw [← e] at hk
    rcases hk with hk | hk | hk
    · rw [if_pos hk, if_pos hk]
    · simp only [if_pos hk]
    · simp only [hk]
      simp
  · exact th_cong rfl rfl (by rw [sA_setA, if_neg (fun z => e z.2)]) rfl
end SYL

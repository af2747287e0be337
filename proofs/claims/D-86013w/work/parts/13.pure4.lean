/-! PURE: the model's loop of frames runs through the rooms -/
set_option maxRecDepth 100000
def plI : Option Nat → Int32
  | none => -1
  | some i => nI i
/-- what desks hold and gave last, and what came out: none, or an item -/
def OK1 (ν : MS) (v : Int32) : Prop := v = -1 ∨ ∃ x : Nat, x < nn ν ∧ v = nI x
def HV (ν : MS) : Prop := (∀ q : Nat, q < 32 → q % 4 < dk ν (q / 4) → OK1 ν (sA ν 8 q) ∧ OK1 ν (sA ν 11 q)) ∧ OK1 ν (sS ν 6)
def IX (ν : MS) : Prop := IV ν ∧ HV ν
theorem SR_OK1 {μ ν : MS} (h : SR μ ν) {v : Int32} (k : OK1 μ v) : OK1 ν v := by
  unfold OK1 at k ⊢
  rw [SR_nn h]
  exact k
theorem HV_sr {μ ν : MS} (h : SR μ ν) (h8 : sA ν 8 = sA μ 8) (h11 : sA ν 11 = sA μ 11) (h6 : sS ν 6 = sS μ 6) (k : HV μ) : HV ν := by
  refine ⟨fun q hq hd => ?_, ?_⟩
  · rw [SR_dk h] at hd
    rw [h8, h11]
    exact ⟨SR_OK1 h (k.1 q hq hd).1, SR_OK1 h (k.1 q hq hd).2⟩
  · rw [h6]; exact SR_OK1 h k.2
/-- nothing but scalars below 7 other than the out, stamps and cells change -/
def KP (μ ν : MS) : Prop := SR μ ν ∧ (∀ k : Nat, sS ν k = sS μ k) ∧ ∀ a : Nat, a ≠ 2 → sA ν a = sA μ a
theorem KP.rf {μ : MS} : KP μ μ := ⟨SR.rf, fun _ => rfl, fun _ _ => rfl⟩
theorem KP.tr {μ ν κ : MS} (h : KP μ ν) (k : KP ν κ) : KP μ κ := ⟨h.1.tr k.1, fun x => (k.2.1 x).trans (h.2.1 x), fun a ha => (k.2.2 a ha).trans (h.2.2 a ha)⟩
theorem KP_setC (μ : MS) (a : Nat) (v : Int64) : KP μ (setC μ a v) := ⟨SR_setC _ _ _, fun _ => rfl, fun _ _ => rfl⟩
theorem KP_setA2 (μ : MS) (j : Nat) (v : Int32) : KP μ (setA μ 2 j v) := ⟨⟨rfl, rfl, rfl, rfl, rfl, rfl, rfl⟩, fun _ => rfl, fun a ha => by
  funext x
  rw [sA_setA, if_neg (fun q => ha q.1)]⟩
theorem turnL_KP (t z : Nat) : ∀ (n i : Nat) (μ : MS), KP μ (p_turnL t z n i μ)
  | 0, _, _ => KP.rf
  | n + 1, i, μ => ((KP_setC _ _ _).tr (KP_setC _ _ _)).tr (turnL_KP t z n (i + 1) _)
theorem turn_KP (μ : MS) (t : Nat) : KP μ (p_turn μ t) := turnL_KP _ _ _ _ _
theorem numL_KP (k t : Nat) : ∀ (n i : Nat) (μ : MS), KP μ (p_numL k t n i μ)
  | 0, _, _ => KP.rf
  | n + 1, i, μ => (KP_setC _ _ _).tr (numL_KP k t n (i + 1) _)
theorem stampLow_KP (μ : MS) (t : Nat) : KP μ (p_stampLow μ t) := (KP_setA2 _ _ _).tr (numL_KP _ _ _ _ _)
theorem rowL_KP {f : MS → Nat → MS} (hf : ∀ μ x, KP μ (f μ x)) (t : Nat) : ∀ (n i : Nat) (μ : MS), KP μ (p_rowL f t n i μ)
  | 0, _, _ => KP.rf
  | n + 1, i, μ => by
    have h1 : KP μ (if sC μ (3 * t + i) = -1 then μ else f μ (sC μ (3 * t + i)).toNatClampNeg) := by
      split
      · exact KP.rf
      · exact hf _ _
    exact h1.tr (rowL_KP hf t n (i + 1) _)
theorem stampRow_KP (μ : MS) (t : Nat) : KP μ (p_stampRow μ t) := (stampLow_KP μ t).tr (rowL_KP stampLow_KP _ _ _ _)
theorem stampAll_KP (μ : MS) (t : Nat) : KP μ (p_stampAll μ t) := by
  unfold p_stampAll
  split
  · exact stampRow_KP μ t
  · exact rowL_KP stampRow_KP _ _ _ _
theorem KP_HV {μ ν : MS} (h : KP μ ν) (k : HV μ) : HV ν := HV_sr h.1 (h.2.2 8 (by decide)) (h.2.2 11 (by decide)) (h.2.1 6) k
theorem wk_SR (μ : MS) (q : Nat) : SR μ (p_wk μ q) := ⟨rfl, rfl, rfl, rfl, rfl, rfl, rfl⟩
theorem wk_IX {μ : MS} (h : IX μ) (q : Nat) : IX (p_wk μ q) := ⟨IV_sr (wk_SR _ _) rfl h.1, HV_sr (wk_SR _ _) rfl rfl rfl h.2⟩
theorem tally_SR (μ : MS) (q t : Nat) : SR μ (p_tally μ q t) := ⟨rfl, rfl, rfl, rfl, rfl, rfl, rfl⟩
theorem tally_IX {μ : MS} (h : IX μ) (q t : Nat) : IX (p_tally μ q t) := ⟨IV_sr (tally_SR _ _ _) rfl h.1, HV_sr (tally_SR _ _ _) rfl rfl rfl h.2⟩
theorem turn_IX {μ : MS} (h : IX μ) {t : Nat} (ht : t < 60) : IX (p_turn μ t) := ⟨turn_IV h.1 ht, KP_HV (turn_KP _ _) h.2⟩
theorem stampAll_IX {μ : MS} (h : IX μ) {t : Nat} (ht : t < 60) : IX (p_stampAll μ t) := ⟨stampAll_IV h.1 ht, KP_HV (stampAll_KP _ _) h.2⟩
theorem give_SR (μ : MS) (q t : Nat) : SR μ (p_give μ q t) := ⟨rfl, rfl, rfl, rfl, rfl, rfl, rfl⟩
theorem give_IX {μ : MS} (h : IX μ) {q t : Nat} (ht : t < nn μ) : IX (p_give μ q t) := by
  refine ⟨IV_sr (give_SR _ _ _) rfl h.1, fun a ha hd => ?_, SR_OK1 (give_SR μ q t) h.2.2⟩
  have h1 := h.2.1 a ha hd
  refine ⟨SR_OK1 (give_SR μ q t) h1.1, ?_⟩
  have e : sA (p_give μ q t) 11 a = if a = q then nI t else sA μ 11 a := by
    unfold p_give
    rw [sA_setS, sA_setA]
    by_cases x : a = q
    · simp [x]
    · simp [x, sA_setA]
  rw [e]
  split
  · exact Or.inr ⟨t, ht, rfl⟩
  · exact SR_OK1 (give_SR μ q t) h1.2
theorem hold_SR (μ : MS) (q : Nat) (v : Int32) : SR μ (setA μ 8 q v) := ⟨rfl, rfl, rfl, rfl, rfl, rfl, rfl⟩
theorem hold_IX {μ : MS} (h : IX μ) {q t : Nat} (ht : t < nn μ) : IX (setA μ 8 q (nI t)) := by
  refine ⟨IV_sr (hold_SR _ _ _) rfl h.1, fun a ha hd => ?_, SR_OK1 (hold_SR μ q _) h.2.2⟩
  have h1 := h.2.1 a ha hd
  refine ⟨?_, SR_OK1 (hold_SR μ q _) h1.2⟩
  rw [sA_setA]
  split
  · exact Or.inr ⟨t, ht, rfl⟩
  · exact SR_OK1 (hold_SR μ q _) h1.1
theorem out_SR (μ : MS) (v : Int32) : SR μ (setS μ 6 v) := ⟨rfl, rfl, rfl, rfl, rfl, rfl, rfl⟩
theorem out_IX {μ : MS} (h : IX μ) {v : Int32} (hv : OK1 μ v) : IX (setS μ 6 v) := ⟨IV_sr (out_SR _ _) rfl h.1, fun a ha hd => ⟨SR_OK1 (out_SR μ v) (h.2.1 a ha hd).1, SR_OK1 (out_SR μ v) (h.2.1 a ha hd).2⟩, SR_OK1 (out_SR μ v) hv⟩
/-! the machine on lists: a frame is an item, its room, the desk it is at, the next place of what is split -/
abbrev Fr : Type := Nat × Nat × Nat × Option Nat
def aEnd (ν : MS) (fs : List Fr) (o : Option Nat) : MS := setS ν 6 (if fs = [] then plI o else sS ν 6)
def aDesk (ν : MS) (t r k : Nat) (fs : List Fr) : MS × List Fr :=
  if goesN (kd ν t) (fm ν (4 * r + k)) = true then
    if ac ν (4 * r + k) = 0 then (p_tally (p_wk ν (4 * r + k)) (4 * r + k) t, (t, r, k + 1, none) :: fs)
    else if ac ν (4 * r + k) = 1 then (p_turn (p_wk ν (4 * r + k)) t, (t, r, k + 1, none) :: fs)
    else if ac ν (4 * r + k) = 2 then (p_stampAll (p_wk ν (4 * r + k)) t, (t, r, k + 1, none) :: fs)
    else if ac ν (4 * r + k) = 3 then
      if thgN (kd ν t) = true ∧ r < 7 then (p_wk ν (4 * r + k), (t, r, k, some 0) :: fs)
      else (p_wk ν (4 * r + k), (t, r, k + 1, none) :: fs)
    else if sA ν 8 (4 * r + k) = -1 then (aEnd (setA (p_wk ν (4 * r + k)) 8 (4 * r + k) (nI t)) fs none, fs)
    else (setA (p_wk ν (4 * r + k)) 8 (4 * r + k) (nI t), ((sA ν 8 (4 * r + k)).toNatClampNeg, r, k + 1, none) :: fs)
  else if sA ν 6 (4 * r + k) = 0 ∧ sA ν 12 (4 * r + k) = 0 then (aEnd (p_give ν (4 * r + k) t) fs none, fs)
  else (ν, (t, r, k + 1, none) :: fs)
def aSplit (ν : MS) (t r k i : Nat) (fs : List Fr) : MS × List Fr :=
  if p_next ν t (sz ν t) (sz ν t - i) i < sz ν t then (ν, ((sC ν (3 * t + p_next ν t (sz ν t) (sz ν t - i) i)).toNatClampNeg, r + 1, 0, none) :: (t, r, k, some (p_next ν t (sz ν t) (sz ν t - i) i + 1)) :: fs)
  else (ν, (t, r, k + 1, none) :: fs)
def aStep (ν : MS) : List Fr → MS × List Fr
  | [] => (ν, [])
  | (t, r, k, none) :: fs => if k = dk ν r then (aEnd ν fs (some t), fs) else aDesk ν t r k fs
  | (t, r, k, some i) :: fs => aSplit ν t r k i fs
/-- from a state of the machine to another, by so many steps -/
def aRun : Nat → MS → List Fr → MS → List Fr → Prop
  | 0, ν, fs, ν', fs' => ν = ν' ∧ fs = fs'
  | n + 1, ν, fs, ν', fs' => fs ≠ [] ∧ aRun n (aStep ν fs).1 (aStep ν fs).2 ν' fs'
theorem aRun.tr {n m : Nat} {ν ν' ν'' : MS} {fs fs' fs'' : List Fr} (h : aRun n ν fs ν' fs') (k : aRun m ν' fs' ν'' fs'') : aRun (n + m) ν fs ν'' fs'' := by
  induction n generalizing ν fs with
  | zero =>
    obtain ⟨rfl, rfl⟩ := h
    rw [Nat.zero_add]
    exact k
  | succ n ih =>
    rw [Nat.succ_add]
    exact ⟨h.1, ih h.2⟩
/-- a frame is in order -/
def VF (ν : MS) (f : Fr) (n : Nat) : Prop := n ≤ f.2.1 ∧ f.2.1 < 8 ∧ f.1 < nn ν ∧ f.2.2.1 ≤ dk ν f.2.1 ∧ ∀ i, f.2.2.2 = some i → i ≤ sz ν f.1 ∧ thgN (kd ν f.1) = true ∧ f.2.1 < 7 ∧ f.2.2.1 < dk ν f.2.1
def VFs (ν : MS) : List Fr → Prop
  | [] => True
  | f :: fs => VF ν f fs.length ∧ VFs ν fs
theorem VF_sr {μ ν : MS} (h : SR μ ν) {f : Fr} {n : Nat} (k : VF μ f n) : VF ν f n := by
  unfold VF at k ⊢
  rw [SR_nn h, SR_dk h, SR_sz h, SR_kd h]
  exact k
theorem VFs_sr {μ ν : MS} (h : SR μ ν) : ∀ {fs : List Fr}, VFs μ fs → VFs ν fs
  | [], _ => trivial
  | _ :: _, k => ⟨VF_sr h k.1, VFs_sr h k.2⟩
theorem next_le (μ : MS) (t z : Nat) : ∀ (n i : Nat), i + n = z → p_next μ t z n i ≤ z
  | 0, i, h => by unfold p_next; omega
  | n + 1, i, h => by
    unfold p_next
    split
    · exact next_le μ t z n (i + 1) (by omega)
    · omega
theorem next_ne (μ : MS) (t z : Nat) : ∀ (n i : Nat), i + n = z → p_next μ t z n i < z → ¬ sC μ (3 * t + p_next μ t z n i) = -1
  | 0, i, h, hl => by unfold p_next at hl; omega
  | n + 1, i, h, hl => by
    unfold p_next at hl ⊢
    split
    · rename_i hc
      rw [if_pos hc] at hl
      exact next_ne μ t z n (i + 1) (by omega) hl
    · rename_i hc
      exact hc
/-- a step keeps everything in order -/
theorem aStep_ok {ν : MS} {fs : List Fr} (hI : IX ν) (hF : VFs ν fs) : IX (aStep ν fs).1 ∧ SR ν (aStep ν fs).1 ∧ VFs (aStep ν fs).1 (aStep ν fs).2 := by
  have hWF := hI.1.1
  match fs, hF with
  | [], hF => exact ⟨hI, SR.rf, trivial⟩
  | (t, r, k, some i) :: fs, ⟨hf, hF⟩ =>
    obtain ⟨h1, h2, h3, h4, h5⟩ := hf
    obtain ⟨h6, h7, h8, h9⟩ := h5 i rfl
    dsimp only at h1 h2 h3 h4 h6 h7 h8 h9
    have hn60 := hWF.1.2
    show IX (aSplit ν t r k i fs).1 ∧ SR ν (aSplit ν t r k i fs).1 ∧ VFs (aSplit ν t r k i fs).1 (aSplit ν t r k i fs).2
    unfold aSplit
    split
    · rename_i hl
      have hz := (hWF.2.1 t (by omega)).2.2.2
      have hne := next_ne ν t (sz ν t) (sz ν t - i) i (by omega) hl
      refine ⟨hI, SR.rf, ⟨⟨by show fs.length + 1 ≤ r + 1; omega, by show r + 1 < 8; omega, ?_, Nat.zero_le _, fun _ q => by cases q⟩, ⟨h1, h2, h3, h4, fun a q => ?_⟩, hF⟩⟩
      · rcases CV_thg hI.1 (show t < 60 by omega) (show p_next ν t (sz ν t) (sz ν t - i) i < 3 by omega) h7 with e | ⟨x, hx, e, -⟩
        · exact absurd e hne
        · show (sC ν _).toNatClampNeg < nn ν
          rw [e, lN_cl (by omega)]
          exact hx
      · cases q
        exact ⟨by show _ + 1 ≤ sz ν t; omega, h7, h8, h9⟩
    · exact ⟨hI, SR.rf, ⟨h1, h2, h3, by show k + 1 ≤ dk ν r; omega, fun _ q => by cases q⟩, hF⟩
  | (t, r, k, none) :: fs, ⟨hf, hF⟩ =>
    obtain ⟨h1, h2, h3, h4, -⟩ := hf
    dsimp only at h1 h2 h3 h4
    have hn60 := hWF.1.2
    have hend : ∀ (κ : MS) (o : Option Nat), IX κ → SR ν κ → (∀ x, o = some x → x < nn ν) → IX (aEnd κ fs o) ∧ SR ν (aEnd κ fs o) ∧ VFs (aEnd κ fs o) fs := by
      intro κ o hκ hs ho
      have hs2 : SR ν (aEnd κ fs o) := hs.tr (out_SR _ _)
      refine ⟨out_IX hκ ?_, hs2, VFs_sr hs2 hF⟩
      split
      · cases o with
        | none => exact Or.inl rfl
        | some x => exact Or.inr ⟨x, by rw [SR_nn hs]; exact ho x rfl, rfl⟩
      · exact hκ.2.2
    show IX (if k = dk ν r then (aEnd ν fs (some t), fs) else aDesk ν t r k fs).1 ∧ SR ν (if k = dk ν r then (aEnd ν fs (some t), fs) else aDesk ν t r k fs).1 ∧ VFs (if k = dk ν r then (aEnd ν fs (some t), fs) else aDesk ν t r k fs).1 (if k = dk ν r then (aEnd ν fs (some t), fs) else aDesk ν t r k fs).2
    split
    · exact hend ν (some t) hI SR.rf (fun x q => by cases q; exact h3)
    · rename_i hk
      have h4' : k + 1 ≤ dk ν r := by omega
      have nxt : ∀ (κ : MS), IX κ → SR ν κ → IX κ ∧ SR ν κ ∧ VFs κ ((t, r, k + 1, none) :: fs) := fun κ hκ hs => ⟨hκ, hs, VF_sr hs ⟨h1, h2, h3, h4', fun _ q => by cases q⟩, VFs_sr hs hF⟩
      have hw := wk_IX hI (4 * r + k)
      have hws := wk_SR ν (4 * r + k)
      unfold aDesk
      split
      · split
        · exact nxt _ (tally_IX hw _ _) (hws.tr (tally_SR _ _ _))
        split
        · exact nxt _ (turn_IX hw (by omega)) (hws.tr (turn_SR _ _))
        split
        · exact nxt _ (stampAll_IX hw (by omega)) (hws.tr (stampAll_SR _ _))
        split
        · split
          · rename_i ht
            refine ⟨hw, hws, VF_sr hws ⟨h1, h2, h3, by show k ≤ _; omega, fun a q => ?_⟩, VFs_sr hws hF⟩
            cases q
            exact ⟨Nat.zero_le _, ht.1, ht.2, by show k < dk ν r; omega⟩
          · exact nxt _ hw hws
        split
        · exact hend _ none (hold_IX hw h3) (hws.tr (hold_SR _ _ _)) (fun x q => by cases q)
        · rename_i hh
          have hs2 : SR ν (setA (p_wk ν (4 * r + k)) 8 (4 * r + k) (nI t)) := hws.tr (hold_SR _ _ _)
          refine ⟨hold_IX hw h3, hs2, VF_sr hs2 ⟨h1, h2, ?_, h4', fun _ q => by cases q⟩, VFs_sr hs2 hF⟩
          have hd4 := (hWF.2.2.1 r h2).2
          rcases (hI.2.1 (4 * r + k) (by omega) (by rw [show (4 * r + k) % 4 = k by omega, show (4 * r + k) / 4 = r by omega]; omega)).1 with e | ⟨x, hx, e⟩
          · exact absurd e hh
          · show (sA ν 8 (4 * r + k)).toNatClampNeg < nn ν
            rw [e, cl_nI (by omega)]
            exact hx
      · split
        · exact hend _ none (give_IX hI h3) (give_SR _ _ _) (fun x q => by cases q)
        · exact nxt _ hI SR.rf
/-! the runs are the rooms' recursion -/
theorem aEnd_cons (ν : MS) (f : Fr) (fs : List Fr) (o : Option Nat) : aEnd ν (f :: fs) o = ν := by
  unfold aEnd
  rw [if_neg (by simp)]
  exact ms_ext (fun k => by rw [sS_setS]; split <;> simp_all) (fun _ _ => rfl) (fun _ => rfl)
/-- what 'sub' does to an item one room on, the machine does too -/
def Subs (sub : MS → Nat → MS) (r : Nat) : Prop := ∀ (ν : MS) (x : Nat) (f : Fr) (fs : List Fr), IX ν → VFs ν ((x, r + 1, 0, none) :: f :: fs) → (∃ m, aRun m ν ((x, r + 1, 0, none) :: f :: fs) (sub ν x) (f :: fs)) ∧ IX (sub ν x) ∧ SR ν (sub ν x)
theorem split_run {sub : MS → Nat → MS} {r : Nat} (hs : Subs sub r) {t k : Nat} {fs : List Fr} : ∀ (n i : Nat) (ν : MS), IX ν → VFs ν ((t, r, k, some i) :: fs) → i + n = sz ν t →
    (∃ m, aRun m (aStep ν ((t, r, k, some i) :: fs)).1 (aStep ν ((t, r, k, some i) :: fs)).2 (p_rowL sub t n i ν) ((t, r, k + 1, none) :: fs)) ∧ IX (p_rowL sub t n i ν) ∧ SR ν (p_rowL sub t n i ν)
  | 0, i, ν, hI, hF, hz => by
    refine ⟨⟨0, ?_⟩, hI, SR.rf⟩
    have e : aStep ν ((t, r, k, some i) :: fs) = (ν, (t, r, k + 1, none) :: fs) := by
      show aSplit ν t r k i fs = _
      unfold aSplit
      rw [if_neg]
      rw [show sz ν t - i = 0 by omega]
      unfold p_next
      omega
    rw [e]
    exact ⟨rfl, rfl⟩
  | n + 1, i, ν, hI, hF, hz => by
    obtain ⟨⟨h1, h2, h3, h4, h5⟩, hFs⟩ := hF
    obtain ⟨h6, h7, h8, h9⟩ := h5 i rfl
    dsimp only at h1 h2 h3 h4 h6 h7 h8 h9
    have hn60 := hI.1.1.1.2
    have hz3 := (hI.1.1.2.1 t (by omega)).2.2.2
    by_cases hc : sC ν (3 * t + i) = -1
    · have hF2 : VFs ν ((t, r, k, some (i + 1)) :: fs) := ⟨⟨h1, h2, h3, h4, fun a q => by cases q; exact ⟨by show i + 1 ≤ sz ν t; omega, h7, h8, h9⟩⟩, hFs⟩
      have ih := split_run hs n (i + 1) ν hI hF2 (by omega)
      have e : aStep ν ((t, r, k, some i) :: fs) = aStep ν ((t, r, k, some (i + 1)) :: fs) := by
        show aSplit ν t r k i fs = aSplit ν t r k (i + 1) fs
        have en : p_next ν t (sz ν t) (sz ν t - i) i = p_next ν t (sz ν t) (sz ν t - (i + 1)) (i + 1) := by
          rw [show sz ν t - i = (sz ν t - (i + 1)) + 1 by omega]
          show (if sC ν (3 * t + i) = -1 then _ else _) = _
          rw [if_pos hc]
        unfold aSplit
        rw [en]
      have er : p_rowL sub t (n + 1) i ν = p_rowL sub t n (i + 1) ν := by
        show p_rowL sub t n (i + 1) (if sC ν (3 * t + i) = -1 then ν else _) = _
        rw [if_pos hc]
      rw [e, er]
      exact ih
    · have en : p_next ν t (sz ν t) (sz ν t - i) i = i := by
        rw [show sz ν t - i = (sz ν t - (i + 1)) + 1 by omega]
        show (if sC ν (3 * t + i) = -1 then _ else _) = _
        rw [if_neg hc]
      have e : aStep ν ((t, r, k, some i) :: fs) = (ν, ((sC ν (3 * t + i)).toNatClampNeg, r + 1, 0, none) :: (t, r, k, some (i + 1)) :: fs) := by
        show aSplit ν t r k i fs = _
        unfold aSplit
        rw [en, if_pos (by omega)]
      have er : p_rowL sub t (n + 1) i ν = p_rowL sub t n (i + 1) (sub ν (sC ν (3 * t + i)).toNatClampNeg) := by
        show p_rowL sub t n (i + 1) (if sC ν (3 * t + i) = -1 then ν else _) = _
        rw [if_neg hc]
      have hok := aStep_ok (fs := (t, r, k, some i) :: fs) hI ⟨⟨h1, h2, h3, h4, h5⟩, hFs⟩
      rw [e] at hok ⊢
      obtain ⟨⟨m1, r1⟩, i1, s1⟩ := hs ν (sC ν (3 * t + i)).toNatClampNeg (t, r, k, some (i + 1)) fs hI hok.2.2
      have hF3 : VFs (sub ν (sC ν (3 * t + i)).toNatClampNeg) ((t, r, k, some (i + 1)) :: fs) := VFs_sr s1 hok.2.2.2
      obtain ⟨⟨m2, r2⟩, i2, s2⟩ := split_run hs n (i + 1) _ i1 hF3 (by rw [SR_sz s1]; omega)
      rw [er]
      exact ⟨⟨m1 + (m2 + 1), r1.tr ⟨by simp, r2⟩⟩, i2, s1.tr s2⟩
theorem thrL_run {sub : MS → Nat → MS} {r : Nat} (hs : r < 7 → Subs sub r) {fs : List Fr} : ∀ (n k t : Nat) (ν : MS), IX ν → VFs ν ((t, r, k, none) :: fs) → k + n = dk ν r →
    (∃ m, aRun m ν ((t, r, k, none) :: fs) (aEnd (thrL sub r n ν t k).1 fs (thrL sub r n ν t k).2) fs) ∧ IX (thrL sub r n ν t k).1 ∧ SR ν (thrL sub r n ν t k).1 ∧ ∀ x, (thrL sub r n ν t k).2 = some x → x < nn ν
  | 0, k, t, ν, hI, hF, hk => by
    refine ⟨⟨1, by simp, ?_⟩, hI, SR.rf, fun x q => by cases q; exact hF.1.2.2.1⟩
    have e : aStep ν ((t, r, k, none) :: fs) = (aEnd ν fs (some t), fs) := by
      show (if k = dk ν r then _ else _) = _
      rw [if_pos (by omega)]
    rw [e]
    exact ⟨rfl, rfl⟩
  | n + 1, k, t, ν, hI, hF, hk => by
    have hok := aStep_ok hI hF
    obtain ⟨⟨h1, h2, h3, h4, h5⟩, hFs⟩ := hF
    dsimp only at h1 h2 h3 h4 h5
    have es : aStep ν ((t, r, k, none) :: fs) = aDesk ν t r k fs := by
      show (if k = dk ν r then _ else _) = _
      rw [if_neg (by omega)]
    rw [es] at hok
    have hd4 := (hI.1.1.2.2.1 r h2).2
    have hn60 := hI.1.1.1.2
    -- one desk on, the same thing or another
    have nxt : ∀ (κ : MS) (x : Nat), aDesk ν t r k fs = (κ, (x, r, k + 1, none) :: fs) → thrL sub r (n + 1) ν t k = thrL sub r n κ x (k + 1) →
        (∃ m, aRun m ν ((t, r, k, none) :: fs) (aEnd (thrL sub r (n + 1) ν t k).1 fs (thrL sub r (n + 1) ν t k).2) fs) ∧ IX (thrL sub r (n + 1) ν t k).1 ∧ SR ν (thrL sub r (n + 1) ν t k).1 ∧ ∀ x, (thrL sub r (n + 1) ν t k).2 = some x → x < nn ν := by
      intro κ x e1 e2
      rw [e1] at hok
      obtain ⟨⟨m, hr⟩, i1, s1, o1⟩ := thrL_run hs n (k + 1) x κ hok.1 hok.2.2 (by rw [SR_dk hok.2.1]; omega)
      rw [e2]
      refine ⟨⟨m + 1, by simp, ?_⟩, i1, hok.2.1.tr s1, fun y q => by rw [← SR_nn hok.2.1]; exact o1 y q⟩
      rw [es, e1]
      exact hr
    have fin : ∀ (κ : MS), aDesk ν t r k fs = (aEnd κ fs none, fs) → thrL sub r (n + 1) ν t k = (κ, none) → IX κ → SR ν κ →
        (∃ m, aRun m ν ((t, r, k, none) :: fs) (aEnd (thrL sub r (n + 1) ν t k).1 fs (thrL sub r (n + 1) ν t k).2) fs) ∧ IX (thrL sub r (n + 1) ν t k).1 ∧ SR ν (thrL sub r (n + 1) ν t k).1 ∧ ∀ x, (thrL sub r (n + 1) ν t k).2 = some x → x < nn ν := by
      intro κ e1 e2 hκ hs2
      rw [e2]
      refine ⟨⟨1, by simp, ?_⟩, hκ, hs2, fun y q => by cases q⟩
      rw [es, e1]
      exact ⟨rfl, rfl⟩
    by_cases c0 : goesN (kd ν t) (fm ν (4 * r + k)) = true
    · by_cases c1 : ac ν (4 * r + k) = 0
      · exact nxt _ t (by unfold aDesk; rw [if_pos c0, if_pos c1]) (by rw [thrL, if_pos c0, if_pos c1])
      by_cases c2 : ac ν (4 * r + k) = 1
      · exact nxt _ t (by unfold aDesk; rw [if_pos c0, if_neg c1, if_pos c2]) (by rw [thrL, if_pos c0, if_neg c1, if_pos c2])
      by_cases c3 : ac ν (4 * r + k) = 2
      · exact nxt _ t (by unfold aDesk; rw [if_pos c0, if_neg c1, if_neg c2, if_pos c3]) (by rw [thrL, if_pos c0, if_neg c1, if_neg c2, if_pos c3])
      by_cases c4 : ac ν (4 * r + k) = 3
      · by_cases c5 : thgN (kd ν t) = true ∧ r < 7
        · -- split
          have e1 : aDesk ν t r k fs = (p_wk ν (4 * r + k), (t, r, k, some 0) :: fs) := by unfold aDesk; rw [if_pos c0, if_neg c1, if_neg c2, if_neg c3, if_pos c4, if_pos c5]
          have e2 : thrL sub r (n + 1) ν t k = thrL sub r n (p_rowL sub t (sz ν t) 0 (p_wk ν (4 * r + k))) t (k + 1) := by rw [thrL, if_pos c0, if_neg c1, if_neg c2, if_neg c3, if_pos c4, if_pos c5]
          rw [e1] at hok
          obtain ⟨⟨m1, r1⟩, i1, s1⟩ := split_run (hs c5.2) (sz ν t) 0 (p_wk ν (4 * r + k)) hok.1 hok.2.2 (by rw [SR_sz hok.2.1]; omega)
          have s2 := hok.2.1.tr s1
          have hF2 : VFs (p_rowL sub t (sz ν t) 0 (p_wk ν (4 * r + k))) ((t, r, k + 1, none) :: fs) := ⟨VF_sr s2 ⟨h1, h2, h3, by show k + 1 ≤ dk ν r; omega, fun _ q => by cases q⟩, VFs_sr s2 hFs⟩
          obtain ⟨⟨m2, r2⟩, i2, s3, o2⟩ := thrL_run hs n (k + 1) t _ i1 hF2 (by rw [SR_dk s2]; omega)
          rw [e2]
          refine ⟨⟨(m1 + 1 + m2) + 1, by simp, ?_⟩, i2, s2.tr s3, fun y q => by rw [← SR_nn s2]; exact o2 y q⟩
          rw [es, e1]
          have r1' : aRun (m1 + 1) (p_wk ν (4 * r + k)) ((t, r, k, some 0) :: fs) (p_rowL sub t (sz ν t) 0 (p_wk ν (4 * r + k))) ((t, r, k + 1, none) :: fs) := ⟨by simp, r1⟩
          exact r1'.tr r2
        · exact nxt _ t (by unfold aDesk; rw [if_pos c0, if_neg c1, if_neg c2, if_neg c3, if_pos c4, if_neg c5]) (by rw [thrL, if_pos c0, if_neg c1, if_neg c2, if_neg c3, if_pos c4, if_neg c5])
      by_cases c6 : sA ν 8 (4 * r + k) = -1
      · exact fin _ (by unfold aDesk; rw [if_pos c0, if_neg c1, if_neg c2, if_neg c3, if_neg c4, if_pos c6]) (by rw [thrL, if_pos c0, if_neg c1, if_neg c2, if_neg c3, if_neg c4, if_pos c6]) (hold_IX (wk_IX hI _) h3) ((wk_SR _ _).tr (hold_SR _ _ _))
      · exact nxt _ _ (by unfold aDesk; rw [if_pos c0, if_neg c1, if_neg c2, if_neg c3, if_neg c4, if_neg c6]) (by rw [thrL, if_pos c0, if_neg c1, if_neg c2, if_neg c3, if_neg c4, if_neg c6])
    · by_cases c7 : sA ν 6 (4 * r + k) = 0 ∧ sA ν 12 (4 * r + k) = 0
      · exact fin _ (by unfold aDesk; rw [if_neg c0, if_pos c7]) (by rw [thrL, if_neg c0, if_pos c7]) (give_IX hI h3) (give_SR _ _ _)
      · exact nxt _ t (by unfold aDesk; rw [if_neg c0, if_neg c7]) (by rw [thrL, if_neg c0, if_neg c7])
theorem thr_run : ∀ (d r : Nat), r + d = 8 → ∀ (t : Nat) (ν : MS) (fs : List Fr), IX ν → r < 8 → VFs ν ((t, r, 0, none) :: fs) →
    (∃ m, aRun m ν ((t, r, 0, none) :: fs) (aEnd (thr d r ν t).1 fs (thr d r ν t).2) fs) ∧ IX (thr d r ν t).1 ∧ SR ν (thr d r ν t).1 ∧ ∀ x, (thr d r ν t).2 = some x → x < nn ν
  | 0, r, h, t, ν, fs, hI, hr, hF => by omega
  | d + 1, r, h, t, ν, fs, hI, hr, hF => by
    refine thrL_run (sub := fun κ x => (thr d (r + 1) κ x).1) (fun h7 => ?_) (dk ν r) 0 t ν hI hF (by omega)
    intro κ x f gs hκ hV
    obtain ⟨⟨m, h1⟩, h2, h3, -⟩ := thr_run d (r + 1) (by omega) x κ (f :: gs) hκ (by omega) hV
    rw [aEnd_cons] at h1
    exact ⟨⟨m, h1⟩, h2, h3⟩

/-! PURE: the model's arrays of frames, beside the rest of its state -/
set_option maxRecDepth 100000
/-- the state ν, with the frames' arrays and the depth of κ -/
def mg (κ ν : MS) : MS := (fun k => if k = 7 then sS κ 7 else sS ν k, fun a => if a < 13 then sA ν a else sA κ a, sC ν)
theorem mg_S {κ ν : MS} {k : Nat} (h : k ≠ 7) : sS (mg κ ν) k = sS ν k := by
  show (if k = 7 then sS κ 7 else sS ν k) = _
  rw [if_neg h]
theorem mg_7 (κ ν : MS) : sS (mg κ ν) 7 = sS κ 7 := rfl
theorem mg_A {κ ν : MS} {a : Nat} (h : a < 13) : sA (mg κ ν) a = sA ν a := by
  show (if a < 13 then sA ν a else sA κ a) = _
  rw [if_pos h]
theorem mg_AT {κ ν : MS} {a : Nat} (h : ¬ a < 13) : sA (mg κ ν) a = sA κ a := by
  show (if a < 13 then sA ν a else sA κ a) = _
  rw [if_neg h]
theorem mg_C (κ ν : MS) : sC (mg κ ν) = sC ν := rfl
theorem mg_kd (κ ν : MS) : kd (mg κ ν) = kd ν := rfl
theorem mg_sz (κ ν : MS) : sz (mg κ ν) = sz ν := rfl
theorem mg_dk (κ ν : MS) : dk (mg κ ν) = dk ν := rfl
theorem mg_fm (κ ν : MS) : fm (mg κ ν) = fm ν := rfl
theorem mg_ac (κ ν : MS) : ac (mg κ ν) = ac ν := rfl
theorem mg_nn (κ ν : MS) : nn (mg κ ν) = nn ν := rfl
theorem mg_SR (κ ν : MS) : SR ν (mg κ ν) := ⟨rfl, rfl, rfl, rfl, rfl, rfl, rfl⟩
theorem mg_IX {κ ν : MS} (h : IX ν) : IX (mg κ ν) := ⟨IV_sr (mg_SR κ ν) rfl h.1, HV_sr (mg_SR κ ν) rfl rfl rfl h.2⟩
theorem mg_setA {κ ν : MS} {a i : Nat} {v : Int32} (h : a < 13) : setA (mg κ ν) a i v = mg κ (setA ν a i v) := by
  refine ms_ext (fun k => rfl) (fun b j => ?_) (fun _ => rfl)
  rw [sA_setA]
  by_cases hb : b < 13
  · rw [mg_A hb, mg_A hb, sA_setA]
  · rw [mg_AT hb, mg_AT hb, if_neg (by omega)]
theorem mg_setAT {κ ν : MS} {a i : Nat} {v : Int32} (h : ¬ a < 13) : setA (mg κ ν) a i v = mg (setA κ a i v) ν := by
  refine ms_ext (fun k => rfl) (fun b j => ?_) (fun _ => rfl)
  rw [sA_setA]
  by_cases hb : b < 13
  · rw [mg_A hb, mg_A hb, if_neg (by omega)]
  · rw [mg_AT hb, mg_AT hb, sA_setA]
theorem mg_setS {κ ν : MS} {k : Nat} {v : Int32} (h : k ≠ 7) : setS (mg κ ν) k v = mg κ (setS ν k v) := by
  refine ms_ext (fun j => ?_) (fun _ _ => rfl) (fun _ => rfl)
  rw [sS_setS]
  by_cases hj : j = 7
  · rw [hj, mg_7, mg_7, if_neg (by omega)]
  · rw [mg_S hj, mg_S hj, sS_setS]
theorem mg_setS7 {κ ν : MS} {v : Int32} : setS (mg κ ν) 7 v = mg (setS κ 7 v) ν := by
  refine ms_ext (fun j => ?_) (fun _ _ => rfl) (fun _ => rfl)
  rw [sS_setS]
  by_cases hj : j = 7
  · rw [hj, mg_7, if_pos rfl]; rfl
  · rw [mg_S hj, mg_S hj, if_neg hj]
theorem mg_setC {κ ν : MS} {i : Nat} {v : Int64} : setC (mg κ ν) i v = mg κ (setC ν i v) := rfl
theorem mg_turnL (κ : MS) (t z : Nat) : ∀ (n i : Nat) (ν : MS), p_turnL t z n i (mg κ ν) = mg κ (p_turnL t z n i ν)
  | 0, _, _ => rfl
  | n + 1, i, ν => mg_turnL κ t z n (i + 1) (p_swap ν (3 * t + i) (3 * t + z - 1 - i))
theorem mg_turn (κ ν : MS) (t : Nat) : p_turn (mg κ ν) t = mg κ (p_turn ν t) := mg_turnL κ t _ _ _ ν
theorem mg_numL (κ : MS) (k t : Nat) : ∀ (n i : Nat) (ν : MS), p_numL k t n i (mg κ ν) = mg κ (p_numL k t n i ν)
  | 0, _, _ => rfl
  | n + 1, i, ν => mg_numL κ k t n (i + 1) (setC ν (3 * t + i) (nextN k (sC ν (3 * t + i))))
theorem mg_stampLow (κ ν : MS) (t : Nat) : p_stampLow (mg κ ν) t = mg κ (p_stampLow ν t) := by
  unfold p_stampLow
  rw [mg_kd, mg_sz, mg_A (show 2 < 13 by omega), mg_setA (show 2 < 13 by omega), mg_numL]
theorem mg_rowL {f : MS → Nat → MS} (κ : MS) (hf : ∀ ν x, f (mg κ ν) x = mg κ (f ν x)) (t : Nat) : ∀ (n i : Nat) (ν : MS), p_rowL f t n i (mg κ ν) = mg κ (p_rowL f t n i ν)
  | 0, _, _ => rfl
  | n + 1, i, ν => by
    show p_rowL f t n (i + 1) (if sC ν (3 * t + i) = -1 then mg κ ν else f (mg κ ν) (sC ν (3 * t + i)).toNatClampNeg) = mg κ (p_rowL f t n (i + 1) (if sC ν (3 * t + i) = -1 then ν else f ν (sC ν (3 * t + i)).toNatClampNeg))
    split
    · exact mg_rowL κ hf t n (i + 1) ν
    · rw [hf]
      exact mg_rowL κ hf t n (i + 1) _
theorem mg_stampRow (κ ν : MS) (t : Nat) : p_stampRow (mg κ ν) t = mg κ (p_stampRow ν t) := by
  unfold p_stampRow
  rw [mg_kd, mg_sz, mg_stampLow, mg_rowL κ (mg_stampLow κ)]
theorem mg_stampAll (κ ν : MS) (t : Nat) : p_stampAll (mg κ ν) t = mg κ (p_stampAll ν t) := by
  unfold p_stampAll
  rw [mg_kd, mg_sz]
  split
  · exact mg_stampRow κ ν t
  · exact mg_rowL κ (mg_stampRow κ) t _ _ ν
theorem mg_wk (κ ν : MS) (q : Nat) : p_wk (mg κ ν) q = mg κ (p_wk ν q) := by
  unfold p_wk
  rw [mg_A (show 9 < 13 by omega), mg_S (show 8 ≠ 7 by omega), mg_setA (by omega), mg_setS (by omega)]
theorem mg_tally (κ ν : MS) (q t : Nat) : p_tally (mg κ ν) q t = mg κ (p_tally ν q t) := by
  unfold p_tally talI
  rw [mg_A (show 7 < 13 by omega), mg_kd, mg_sz, mg_setA (by omega)]
theorem mg_give (κ ν : MS) (q t : Nat) : p_give (mg κ ν) q t = mg κ (p_give ν q t) := by
  unfold p_give
  rw [mg_A (show 10 < 13 by omega), mg_S (show 5 ≠ 7 by omega), mg_setA (by omega), mg_setA (by omega), mg_setA (by omega), mg_setS (by omega)]
/-- the frames as the arrays hold them -/
def FRL (κ : MS) : List Fr → Prop
  | [] => True
  | f :: fs => (sA κ 13 fs.length = nI f.1 ∧ sA κ 14 fs.length = nI f.2.1 ∧ sA κ 15 fs.length = nI f.2.2.1 ∧ sA κ 16 fs.length = plI f.2.2.2) ∧ FRL κ fs
def Tm (κ : MS) (fs : List Fr) : Prop := sS κ 7 = nI fs.length ∧ FRL κ fs
theorem FRL_keep {κ κ' : MS} : ∀ {fs : List Fr}, (∀ (a i : Nat), i < fs.length → sA κ' a i = sA κ a i) → FRL κ fs → FRL κ' fs
  | [], _, _ => trivial
  | f :: fs, h, k => by
    have hl : fs.length < (f :: fs).length := by simp
    refine ⟨?_, FRL_keep (fun a i hi => h a i (by simp; omega)) k.2⟩
    rw [h _ _ hl, h _ _ hl, h _ _ hl, h _ _ hl]
    exact k.1
/-- the model's state is ν with the frames fs -/
def Sim (μ ν : MS) (fs : List Fr) : Prop := ∃ κ, μ = mg κ ν ∧ Tm κ fs
theorem sim_begin {κ ν : MS} {fs : List Fr} {t r : Nat} (h : FRL κ fs) : Sim (p_begin (mg κ ν) fs.length (nI t) (nI r)) ν ((t, r, 0, none) :: fs) := by
  refine ⟨p_begin κ fs.length (nI t) (nI r), ?_, rfl, ?_, FRL_keep (fun a i hi => ?_) h⟩
  · unfold p_begin
    rw [mg_setAT (by omega), mg_setAT (by omega), mg_setAT (by omega), mg_setAT (by omega), mg_setS7]
  · refine ⟨?_, ?_, ?_, ?_⟩ <;> simp [p_begin, sA_setS, sA_setA, plI, nI_0]
  · unfold p_begin
    rw [sA_setS, sA_setA, sA_setA, sA_setA, sA_setA]
    rw [if_neg (by omega), if_neg (by omega), if_neg (by omega), if_neg (by omega)]
theorem sim_adv {κ ν : MS} {fs : List Fr} {t r k : Nat} (h : FRL κ ((t, r, k, none) :: fs)) (hd : sS κ 7 = nI (fs.length + 1)) : Sim (p_adv (mg κ ν) fs.length) ν ((t, r, k + 1, none) :: fs) := by
  obtain ⟨⟨h1, h2, h3, h4⟩, hF⟩ := h
  dsimp only at h1 h2 h3 h4
  refine ⟨setA κ 15 fs.length (sA κ 15 fs.length + 1), ?_, hd, ⟨?_, ?_, ?_, ?_⟩, FRL_keep (fun a i hi => ?_) hF⟩
  · unfold p_adv
    rw [mg_setAT (by omega), mg_AT (show ¬ 15 < 13 by omega)]
  · rw [sA_setA, if_neg (by omega)]; exact h1
  · rw [sA_setA, if_neg (by omega)]; exact h2
  · rw [sA_setA, if_pos ⟨rfl, rfl⟩, h3]; exact nI_1 k
  · rw [sA_setA, if_neg (by omega)]; exact h4
  · rw [sA_setA, if_neg (by omega)]
theorem sim_ends {κ ν : MS} {fs : List Fr} (o : Option Nat) (h : FRL κ fs) : Sim (p_ends (mg κ ν) fs.length (plI o)) (aEnd ν fs o) fs := by
  refine ⟨setS κ 7 (nI fs.length), ?_, rfl, FRL_keep (κ := κ) (fun a i hi => rfl) h⟩
  unfold p_ends aEnd
  rw [mg_setS7, mg_setS (by omega), mg_S (by omega)]
  congr 2
  cases fs with
  | nil => rfl
  | cons f fs => simp
theorem sim_place {κ ν : MS} {fs : List Fr} {t r k : Nat} {o : Option Nat} (o' : Option Nat) (h : FRL κ ((t, r, k, o) :: fs)) (hd : sS κ 7 = nI (fs.length + 1)) : ∃ κ', setA (mg κ ν) 16 fs.length (plI o') = mg κ' ν ∧ sS κ' 7 = nI (fs.length + 1) ∧ FRL κ' ((t, r, k, o') :: fs) := by
  obtain ⟨⟨h1, h2, h3, h4⟩, hF⟩ := h
  dsimp only at h1 h2 h3 h4
  refine ⟨setA κ 16 fs.length (plI o'), mg_setAT (by omega), hd, ⟨?_, ?_, ?_, ?_⟩, FRL_keep (fun a i hi => ?_) hF⟩
  · rw [sA_setA, if_neg (by omega)]; exact h1
  · rw [sA_setA, if_neg (by omega)]; exact h2
  · rw [sA_setA, if_neg (by omega)]; exact h3
  · rw [sA_setA, if_pos ⟨rfl, rfl⟩]
  · rw [sA_setA, if_neg (by omega)]
/-- the three ways of the loop's body -/
theorem sim_split {κ ν : MS} {fs : List Fr} {t r k i : Nat} (hI : IX ν) (hV : VFs ν ((t, r, k, some i) :: fs)) (h : Tm κ ((t, r, k, some i) :: fs)) : Sim (p_split (mg κ ν) fs.length t r i) (aStep ν ((t, r, k, some i) :: fs)).1 (aStep ν ((t, r, k, some i) :: fs)).2 := by
  show Sim _ (aSplit ν t r k i fs).1 (aSplit ν t r k i fs).2
  obtain ⟨h6, h7, h8, h9⟩ := hV.1.2.2.2.2 i rfl
  have h3 := hV.1.2.2.1
  dsimp only at h3 h6 h7 h8 h9
  have hn60 := hI.1.1.1.2
  have hz3 := (hI.1.1.2.1 t (by omega)).2.2.2
  unfold p_split aSplit
  rw [mg_sz]
  have en : p_next (mg κ ν) t (sz ν t) (sz ν t - i) i = p_next ν t (sz ν t) (sz ν t - i) i := by
    have : ∀ (n i : Nat), p_next (mg κ ν) t (sz ν t) n i = p_next ν t (sz ν t) n i := by
      intro n
      induction n with
      | zero => intro i; rfl
      | succ n ih => intro i; show (if sC ν (3 * t + i) = -1 then p_next (mg κ ν) t (sz ν t) n (i + 1) else i) = _; rw [ih]; rfl
    exact this _ _
  rw [en]
  split
  · rename_i hl
    have hne := next_ne ν t (sz ν t) (sz ν t - i) i (by omega) hl
    obtain ⟨κ', e1, e2, e3⟩ := sim_place (κ := κ) (ν := ν) (some (p_next ν t (sz ν t) (sz ν t - i) i + 1)) h.2 h.1
    rcases CV_thg hI.1 (show t < 60 by omega) (show p_next ν t (sz ν t) (sz ν t - i) i < 3 by omega) h7 with e | ⟨x, hx, e, -⟩
    · exact absurd e hne
    · have e4 : setA (mg κ ν) 16 fs.length (nI (p_next ν t (sz ν t) (sz ν t - i) i + 1)) = mg κ' ν := e1
      rw [e4, mg_C, e, lN_i, lN_cl (by omega)]
      exact sim_begin (fs := (t, r, k, some (p_next ν t (sz ν t) (sz ν t - i) i + 1)) :: fs) e3
  · obtain ⟨κ', e1, e2, e3⟩ := sim_place (κ := κ) (ν := ν) none h.2 h.1
    have e4 : setA (mg κ ν) 16 fs.length (-1) = mg κ' ν := e1
    rw [e4]
    exact sim_adv e3 e2
theorem sim_comes {κ ν : MS} {fs : List Fr} {t r k : Nat} (hI : IX ν) (hV : VFs ν ((t, r, k, none) :: fs)) (hk : k ≠ dk ν r) (h : Tm κ ((t, r, k, none) :: fs)) : Sim (p_comes (mg κ ν) fs.length (4 * r + k) t r) (aStep ν ((t, r, k, none) :: fs)).1 (aStep ν ((t, r, k, none) :: fs)).2 := by
  have es : aStep ν ((t, r, k, none) :: fs) = aDesk ν t r k fs := by
    show (if k = dk ν r then _ else _) = _
    rw [if_neg hk]
  rw [es]
  have hd : sS κ 7 = nI (fs.length + 1) := h.1
  unfold p_comes p_work aDesk
  rw [mg_kd, mg_fm, mg_ac, mg_A (show 6 < 13 by omega), mg_A (show 12 < 13 by omega), mg_A (show 8 < 13 by omega), mg_wk, mg_tally, mg_turn, mg_stampAll, mg_give, mg_setA (show 8 < 13 by omega)]
  split
  · split
    · exact sim_adv h.2 hd
    split
    · exact sim_adv h.2 hd
    split
    · exact sim_adv h.2 hd
    split
    · split
      · obtain ⟨κ', e1, e2, e3⟩ := sim_place (κ := κ) (ν := p_wk ν (4 * r + k)) (some 0) h.2 h.1
        exact ⟨κ', e1, e2, e3⟩
      · exact sim_adv h.2 hd
    split
    · exact sim_ends none h.2.2
    · rename_i hh
      -- another item goes on
      have hd4 := (hI.1.1.2.2.1 r hV.1.2.1).2
      have hk4 : k ≤ dk ν r := hV.1.2.2.2.1
      have hr8 : r < 8 := hV.1.2.1
      have hn60 := hI.1.1.1.2
      rcases (hI.2.1 (4 * r + k) (by omega) (by rw [show (4 * r + k) % 4 = k by omega, show (4 * r + k) / 4 = r by omega]; omega)).1 with e | ⟨x, hx, e⟩
      · exact absurd e hh
      · rw [mg_setAT (show ¬ 13 < 13 by omega), e, cl_nI (by omega)]
        obtain ⟨⟨h1, h2, h3, h4⟩, hF⟩ := h.2
        dsimp only at h1 h2 h3 h4
        refine sim_adv (t := x) (r := r) (k := k) ⟨⟨?_, ?_, ?_, ?_⟩, FRL_keep (fun a i hi => ?_) hF⟩ hd
        · rw [sA_setA, if_pos ⟨rfl, rfl⟩]
        · rw [sA_setA, if_neg (by omega)]; exact h2
        · rw [sA_setA, if_neg (by omega)]; exact h3
        · rw [sA_setA, if_neg (by omega)]; exact h4
        · rw [sA_setA, if_neg (by omega)]
  · split
    · exact sim_ends none h.2.2
    · exact sim_adv h.2 hd

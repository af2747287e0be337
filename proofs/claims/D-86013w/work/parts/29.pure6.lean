/-! PURE: how much a hand may give back, and how far the doubles may go -/
set_option maxRecDepth 100000
set_option maxHeartbeats 1000000
def cst : Nat → Nat
  | 0 => 0
  | d + 1 => 4 * (12 + 3 * cst d)
def cnt (μ : MS) : Nat := ((List.range 32).filter (fun q => !(sA μ 12 q == 0))).length
def GB (g : Nat) (μ : MS) : Prop := ∀ q : Nat, q < 32 → 0 ≤ (sA μ 10 q).toInt ∧ (sA μ 10 q).toInt ≤ (g : Int) + (if sA μ 12 q = 0 then 0 else 1)
def NV (μ : MS) : Prop := ∀ q : Nat, q < 32 → ¬ q % 4 < dk μ (q / 4) → sA μ 12 q = 0
def PX (g b : Nat) (μ : MS) : Prop := IX μ ∧ ZV μ ∧ GB g μ ∧ NV μ ∧ DB b μ
theorem PX_mono {g b b' : Nat} {μ : MS} (h : PX g b μ) (hb : b ≤ b') : PX g b' μ := ⟨h.1, h.2.1, h.2.2.1, h.2.2.2.1, DB_mono h.2.2.2.2 hb⟩
theorem cnt_eq {μ ν : MS} (h : sA ν 12 = sA μ 12) : cnt ν = cnt μ := by unfold cnt; rw [h]
theorem GB_eq {g : Nat} {μ ν : MS} (h1 : sA ν 10 = sA μ 10) (h2 : sA ν 12 = sA μ 12) (h : GB g μ) : GB g ν := fun q hq => by rw [h1, h2]; exact h q hq
theorem NV_eq {μ ν : MS} (h1 : SR μ ν) (h2 : sA ν 12 = sA μ 12) (h : NV μ) : NV ν := fun q hq hd => by
  rw [h2]
  rw [SR_dk h1] at hd
  exact h q hq hd
/-- what leaves the givings alone -/
theorem PX_of {g b b' : Nat} {μ ν : MS} (h : PX g b μ) (hs : SR μ ν) (hI : IX ν) (h1 : sA ν 10 = sA μ 10) (h2 : sA ν 12 = sA μ 12) (hD : DB b' ν) : PX g b' ν := ⟨hI, SR_ZV hs h.2.1, GB_eq h1 h2 h.2.2.1, NV_eq hs h2 h.2.2.2.1, hD⟩
theorem wk_PX {g b : Nat} {μ : MS} (h : PX g b μ) (q : Nat) : PX g b (p_wk μ q) := PX_of h (wk_SR _ _) (wk_IX h.1 q) (by funext i; rfl) (by funext i; rfl) (DB_sr (wk_SR _ _) rfl h.2.2.2.2)
theorem tally_PX {g b : Nat} {μ : MS} (h : PX g b μ) (q t : Nat) : PX g b (p_tally μ q t) := PX_of h (tally_SR _ _ _) (tally_IX h.1 q t) (by funext i; rfl) (by funext i; rfl) (DB_sr (tally_SR _ _ _) rfl h.2.2.2.2)
theorem turn_PX {g b : Nat} {μ : MS} (h : PX g b μ) {t : Nat} (ht : t < 60) : PX g b (p_turn μ t) := PX_of h (turn_SR _ _) (turn_IX h.1 ht) ((turn_KP μ t).2.2 10 (by decide)) ((turn_KP μ t).2.2 12 (by decide)) (turn_DB h.1.1 ht h.2.2.2.2)
theorem stampAll_PX {g b : Nat} {μ : MS} (h : PX g b μ) {t : Nat} (ht : t < 60) (hb : b + 12 < 2 ^ 60) : PX g (b + 12) (p_stampAll μ t) := PX_of h (stampAll_SR _ _) (stampAll_IX h.1 ht) ((stampAll_KP μ t).2.2 10 (by decide)) ((stampAll_KP μ t).2.2 12 (by decide)) (stampAll_DB h.1.1 ht hb h.2.2.2.2)
theorem hold_PX {g b : Nat} {μ : MS} (h : PX g b μ) {q t : Nat} (ht : t < nn μ) : PX g b (setA μ 8 q (nI t)) := PX_of h (hold_SR _ _ _) (hold_IX h.1 ht) (by funext i; rfl) (by funext i; rfl) (DB_sr (hold_SR _ _ _) rfl h.2.2.2.2)
theorem give_10 (μ : MS) (q t a : Nat) : sA (p_give μ q t) 10 a = if a = q then sA μ 10 q + 1 else sA μ 10 a := by
  unfold p_give
  simp only [sA_setS, sA_setA]
  by_cases h : a = q <;> simp [h]
theorem give_12 (μ : MS) (q t a : Nat) : sA (p_give μ q t) 12 a = if a = q then 1 else sA μ 12 a := by
  unfold p_give
  simp only [sA_setS, sA_setA]
  by_cases h : a = q <;> simp [h]
theorem i32_succ {v : Int32} (h1 : 0 ≤ v.toInt) (h2 : v.toInt < 2147483647) : (v + 1).toInt = v.toInt + 1 := by
  rw [Int32.toInt_add]
  have : (1 : Int32).toInt = 1 := by decide
  rw [this]
  apply Int.bmod_eq_of_le <;> omega
theorem give_PX {g b : Nat} {μ : MS} (h : PX g b μ) {q t : Nat} (hq : q < 32) (hl : q % 4 < dk μ (q / 4)) (ht : t < nn μ) (h0 : sA μ 12 q = 0) (hg : g < 1073741824) : PX g b (p_give μ q t) := by
  refine ⟨give_IX h.1 ht, SR_ZV (give_SR _ _ _) h.2.1, fun a ha => ?_, fun a ha hd => ?_, DB_sr (give_SR _ _ _) rfl h.2.2.2.2⟩
  · have h1 := h.2.2.1 a ha
    rw [give_10, give_12]
    by_cases e : a = q
    · subst e
      rw [if_pos rfl, if_pos rfl]
      rw [if_pos h0] at h1
      rw [if_neg (by decide), i32_succ h1.1 (by omega)]
      omega
    · rw [if_neg e, if_neg e]
      exact h1
  · rw [give_12]
    have hd' : ¬ a % 4 < dk μ (a / 4) := hd
    by_cases e : a = q
    · subst e; exact absurd hl hd'
    · rw [if_neg e]
      exact h.2.2.2.1 a ha hd'
theorem filt_one {f f' : Nat → Bool} {q : Nat} (h0 : f q = false) (h1 : f' q = true) (hne : ∀ a, a ≠ q → f' a = f a) : ∀ (l : List Nat), l.Nodup → q ∈ l → (l.filter f').length = (l.filter f).length + 1
  | [], _, h => by cases h
  | a :: l, hn, h => by
    have hn' := List.nodup_cons.mp hn
    by_cases e : a = q
    · subst e
      have e2 : l.filter f' = l.filter f := List.filter_congr (fun z hz => hne z (fun w => hn'.1 (w ▸ hz)))
      rw [List.filter_cons_of_pos h1, List.filter_cons_of_neg (by rw [h0]; decide), e2]
      rfl
    · have hm : q ∈ l := by
        rcases List.mem_cons.mp h with w | w
        · exact absurd w.symm e
        · exact w
      have ih := filt_one h0 h1 hne l hn'.2 hm
      have e3 := hne a e
      cases hf : f a with
      | true => rw [List.filter_cons_of_pos (by rw [e3, hf]), List.filter_cons_of_pos hf, List.length_cons, List.length_cons, ih]
      | false => rw [List.filter_cons_of_neg (by rw [e3, hf]; decide), List.filter_cons_of_neg (by rw [hf]; decide), ih]
theorem cnt_give {μ : MS} {q t : Nat} (hq : q < 32) (h0 : sA μ 12 q = 0) : cnt (p_give μ q t) = cnt μ + 1 := by
  unfold cnt
  refine filt_one (q := q) (by rw [h0]; rfl) (by rw [give_12, if_pos rfl]; rfl) (fun a ha => by rw [give_12, if_neg ha]) _ List.nodup_range (List.mem_range.mpr hq)
theorem cnt_le (μ : MS) : cnt μ ≤ 32 := by
  unfold cnt
  have := List.length_filter_le (fun q => !(sA μ 12 q == 0)) (List.range 32)
  rw [List.length_range] at this
  exact this
/-- what a working desk makes of a thing -/
def wrkR (sub : MS → Nat → MS) (μ : MS) (q t r : Nat) : MS × Option Nat :=
  if ac μ q = 0 then (p_tally μ q t, some t)
  else if ac μ q = 1 then (p_turn μ t, some t)
  else if ac μ q = 2 then (p_stampAll μ t, some t)
  else if ac μ q = 3 then (if thgN (kd μ t) = true ∧ r < 7 then (p_rowL sub t (sz μ t) 0 μ, some t) else (μ, some t))
  else (setA μ 8 q (nI t), if sA μ 8 q = -1 then none else some (sA μ 8 q).toNatClampNeg)
theorem thrL_go {sub : MS → Nat → MS} {r n t k : Nat} {μ : MS} (h : goesN (kd μ t) (fm μ (4 * r + k)) = true) : thrL sub r (n + 1) μ t k = match wrkR sub (p_wk μ (4 * r + k)) (4 * r + k) t r with
    | (κ, some y) => thrL sub r n κ y (k + 1)
    | (κ, none) => (κ, none) := by
  have e1 : ac (p_wk μ (4 * r + k)) (4 * r + k) = ac μ (4 * r + k) := SR_ac (wk_SR _ _) _
  have e2 : kd (p_wk μ (4 * r + k)) t = kd μ t := SR_kd (wk_SR _ _) _
  have e3 : sz (p_wk μ (4 * r + k)) t = sz μ t := SR_sz (wk_SR _ _) _
  have e4 : sA (p_wk μ (4 * r + k)) 8 (4 * r + k) = sA μ 8 (4 * r + k) := rfl
  rw [thrL, if_pos h]
  unfold wrkR
  rw [e1, e2, e3, e4]
  by_cases c1 : ac μ (4 * r + k) = 0
  · simp only [if_pos c1]
  simp only [if_neg c1]
  by_cases c2 : ac μ (4 * r + k) = 1
  · simp only [if_pos c2]
  simp only [if_neg c2]
  by_cases c3 : ac μ (4 * r + k) = 2
  · simp only [if_pos c3]
  simp only [if_neg c3]
  by_cases c4 : ac μ (4 * r + k) = 3
  · simp only [if_pos c4]
    by_cases c5 : thgN (kd μ t) = true ∧ r < 7
    · simp only [if_pos c5]
    · simp only [if_neg c5]
  simp only [if_neg c4]
  by_cases c6 : sA μ 8 (4 * r + k) = -1
  · simp only [if_pos c6]
  · simp only [if_neg c6]
theorem thrL_ask {sub : MS → Nat → MS} {r n t k : Nat} {μ : MS} (h : goesN (kd μ t) (fm μ (4 * r + k)) = false) (h2 : ¬ (sA μ 6 (4 * r + k) = 0 ∧ sA μ 12 (4 * r + k) = 0)) : thrL sub r (n + 1) μ t k = thrL sub r n μ t (k + 1) := by
  rw [thrL, if_neg (by rw [h]; decide), if_neg h2]
theorem thrL_give {sub : MS → Nat → MS} {r n t k : Nat} {μ : MS} (h : goesN (kd μ t) (fm μ (4 * r + k)) = false) (h2 : sA μ 6 (4 * r + k) = 0 ∧ sA μ 12 (4 * r + k) = 0) : thrL sub r (n + 1) μ t k = (p_give μ (4 * r + k) t, none) := by
  rw [thrL, if_neg (by rw [h]; decide), if_pos h2]
/-- what a step on a thing must keep -/
def SubP (g c B : Nat) (f : MS → Nat → MS) : Prop := ∀ (b : Nat) (ν : MS) (x : Nat), b + c ≤ B → PX g b ν → x < nn ν → PX g (b + c) (f ν x) ∧ SR ν (f ν x) ∧ cnt ν ≤ cnt (f ν x)
theorem rowL_PX {g c B : Nat} {f : MS → Nat → MS} (hf : SubP g c B f) {t : Nat} (ht : t < 60) : ∀ (n i b : Nat) (ν : MS), b + n * c ≤ B → PX g b ν → thgN (kd ν t) = true → i + n ≤ 3 → PX g (b + n * c) (p_rowL f t n i ν) ∧ SR ν (p_rowL f t n i ν) ∧ cnt ν ≤ cnt (p_rowL f t n i ν)
  | 0, _, b, ν, _, h, _, _ => ⟨by rw [Nat.zero_mul]; exact h, SR.rf, Nat.le_refl _⟩
  | n + 1, i, b, ν, hb, h, hk, hn => by
    have e : b + (n + 1) * c = (b + c) + n * c := by rw [Nat.add_mul, Nat.one_mul]; omega
    rw [e] at hb ⊢
    show PX g _ (p_rowL f t n (i + 1) (if sC ν (3 * t + i) = -1 then ν else f ν (sC ν (3 * t + i)).toNatClampNeg)) ∧ SR ν (p_rowL f t n (i + 1) (if sC ν (3 * t + i) = -1 then ν else f ν (sC ν (3 * t + i)).toNatClampNeg)) ∧ cnt ν ≤ cnt (p_rowL f t n (i + 1) (if sC ν (3 * t + i) = -1 then ν else f ν (sC ν (3 * t + i)).toNatClampNeg))
    by_cases hc : sC ν (3 * t + i) = -1
    · rw [if_pos hc]
      exact rowL_PX hf ht n (i + 1) (b + c) ν hb (PX_mono h (by omega)) hk (by omega)
    · rw [if_neg hc]
      rcases CV_thg h.1.1 ht (show i < 3 by omega) hk with q | ⟨y, hy, q, -⟩
      · exact absurd q hc
      · have hn60 := h.1.1.1.1.2
        rw [q, lN_cl (by omega)]
        obtain ⟨a1, a2, a3⟩ := hf b ν y (by omega) h hy
        obtain ⟨b1, b2, b3⟩ := rowL_PX hf ht n (i + 1) (b + c) _ hb a1 (by rw [SR_kd a2]; exact hk) (by omega)
        exact ⟨b1, a2.tr b2, Nat.le_trans a3 b3⟩
theorem wrk_PX {g c B b : Nat} {sub : MS → Nat → MS} {r q t : Nat} {μ : MS} (hf : r < 7 → SubP g c B sub) (hB : B < 2 ^ 60) (hb : b + (12 + 3 * c) ≤ B) (h : PX g b μ) (hq : q < 32) (hl : q % 4 < dk μ (q / 4)) (ht : t < nn μ) : PX g (b + (12 + 3 * c)) (wrkR sub μ q t r).1 ∧ SR μ (wrkR sub μ q t r).1 ∧ cnt μ ≤ cnt (wrkR sub μ q t r).1 ∧ ∀ y, (wrkR sub μ q t r).2 = some y → y < nn μ := by
  have hn60 := h.1.1.1.1.2
  have hz3 := (h.1.1.1.2.1 t (by omega)).2.2.2
  unfold wrkR
  split
  · exact ⟨PX_mono (tally_PX h q t) (by omega), tally_SR _ _ _, Nat.le_of_eq (cnt_eq (by funext i; rfl)).symm, fun y e => by cases e; exact ht⟩
  split
  · exact ⟨PX_mono (turn_PX h (by omega)) (by omega), turn_SR _ _, Nat.le_of_eq (cnt_eq ((turn_KP μ t).2.2 12 (by decide))).symm, fun y e => by cases e; exact ht⟩
  split
  · exact ⟨PX_mono (stampAll_PX h (by omega) (by omega)) (by omega), stampAll_SR _ _, Nat.le_of_eq (cnt_eq ((stampAll_KP μ t).2.2 12 (by decide))).symm, fun y e => by cases e; exact ht⟩
  split
  · split
    · rename_i c5
      have hm : sz μ t * c ≤ 3 * c := Nat.mul_le_mul_right _ hz3
      obtain ⟨a1, a2, a3⟩ := rowL_PX (hf c5.2) (show t < 60 by omega) (sz μ t) 0 b μ (by omega) h c5.1 (by omega)
      exact ⟨PX_mono a1 (by omega), a2, a3, fun y e => by cases e; exact ht⟩
    · exact ⟨PX_mono h (by omega), SR.rf, Nat.le_refl _, fun y e => by cases e; exact ht⟩
  · refine ⟨PX_mono (hold_PX h ht) (by omega), hold_SR _ _ _, Nat.le_of_eq (cnt_eq (by funext i; rfl)).symm, fun y e => ?_⟩
    rcases (h.1.2.1 q hq hl).1 with e8 | ⟨z, hz, e8⟩
    · rw [if_pos e8] at e; cases e
    · dsimp only at e
      rw [e8, if_neg (nI_m1 (by omega)), cl_nI (by omega)] at e
      cases e
      exact hz
theorem thrL_PX {g c B : Nat} {sub : MS → Nat → MS} {r : Nat} (hr : r < 8) (hf : r < 7 → SubP g c B sub) (hB : B < 2 ^ 60) (hg : g < 1073741824) : ∀ (n k b : Nat) (μ : MS) (t : Nat), k + n = dk μ r → b + n * (12 + 3 * c) ≤ B → PX g b μ → t < nn μ → PX g (b + n * (12 + 3 * c)) (thrL sub r n μ t k).1 ∧ SR μ (thrL sub r n μ t k).1 ∧ cnt μ ≤ cnt (thrL sub r n μ t k).1 ∧ ∀ y, (thrL sub r n μ t k).2 = some y → y < nn μ
  | 0, k, b, μ, t, _, _, h, ht => ⟨by rw [Nat.zero_mul]; exact h, SR.rf, Nat.le_refl _, fun y e => by cases e; exact ht⟩
  | n + 1, k, b, μ, t, hk, hb, h, ht => by
    have e : b + (n + 1) * (12 + 3 * c) = (b + (12 + 3 * c)) + n * (12 + 3 * c) := by rw [Nat.add_mul, Nat.one_mul]; omega
    rw [e] at hb ⊢
    have hd4 := (h.1.1.1.2.2.1 r hr).2
    have hq : 4 * r + k < 32 := by omega
    have hl : (4 * r + k) % 4 < dk μ ((4 * r + k) / 4) := by rw [show (4 * r + k) % 4 = k by omega, show (4 * r + k) / 4 = r by omega]; omega
    cases hgo : goesN (kd μ t) (fm μ (4 * r + k)) with
    | true =>
      rw [thrL_go hgo]
      have hw := wk_PX h (4 * r + k)
      have hws := wk_SR μ (4 * r + k)
      obtain ⟨a1, a2, a3, a4⟩ := wrk_PX (r := r) (q := 4 * r + k) hf hB (by omega) hw hq (by rw [SR_dk hws]; exact hl) (by rw [SR_nn hws]; exact ht)
      generalize wrkR sub (p_wk μ (4 * r + k)) (4 * r + k) t r = w at a1 a2 a3 a4
      obtain ⟨κ, o⟩ := w
      have a2' := hws.tr a2
      cases o with
      | none => exact ⟨PX_mono a1 (by omega), a2', a3, fun y e => by cases e⟩
      | some y =>
        obtain ⟨b1, b2, b3, b4⟩ := thrL_PX hr hf hB hg n (k + 1) _ κ y (by rw [SR_dk a2']; omega) hb a1 (by rw [SR_nn a2]; exact a4 y rfl)
        exact ⟨b1, a2'.tr b2, Nat.le_trans a3 b3, fun z e => by rw [← SR_nn a2']; exact b4 z e⟩
    | false =>
      by_cases hask : sA μ 6 (4 * r + k) = 0 ∧ sA μ 12 (4 * r + k) = 0
      · rw [thrL_give hgo hask]
        exact ⟨PX_mono (give_PX h hq hl ht hask.2 hg) (by omega), give_SR _ _ _, by rw [cnt_give hq hask.2]; omega, fun y e => by cases e⟩
      · rw [thrL_ask hgo hask]
        exact thrL_PX hr hf hB hg n (k + 1) _ μ t (by omega) hb (PX_mono h (by omega)) ht
theorem thr_PX {g B : Nat} (hB : B < 2 ^ 60) (hg : g < 1073741824) : ∀ (d r : Nat), r + d = 8 → ∀ (b : Nat) (μ : MS) (t : Nat), b + cst d ≤ B → PX g b μ → t < nn μ → PX g (b + cst d) (thr d r μ t).1 ∧ SR μ (thr d r μ t).1 ∧ cnt μ ≤ cnt (thr d r μ t).1 ∧ ∀ y, (thr d r μ t).2 = some y → y < nn μ
  | 0, r, _, b, μ, t, _, h, ht => ⟨h, SR.rf, Nat.le_refl _, fun y e => by cases e; exact ht⟩
  | d + 1, r, hr, b, μ, t, hb, h, ht => by
    have hd4 := (h.1.1.1.2.2.1 r (by omega)).2
    have hm : dk μ r * (12 + 3 * cst d) ≤ 4 * (12 + 3 * cst d) := Nat.mul_le_mul_right _ hd4
    have hb' : b + 4 * (12 + 3 * cst d) ≤ B := hb
    have hsub : r < 7 → SubP g (cst d) B (fun ν y => (thr d (r + 1) ν y).1) := fun _ b' ν y hb9 hp hy => by
      obtain ⟨a1, a2, a3, -⟩ := thr_PX hB hg d (r + 1) (by omega) b' ν y hb9 hp hy
      exact ⟨a1, a2, a3⟩
    obtain ⟨a1, a2, a3, a4⟩ := thrL_PX (sub := fun ν y => (thr d (r + 1) ν y).1) (show r < 8 by omega) hsub hB hg (dk μ r) 0 b μ t (by omega) (by omega) h ht
    exact ⟨PX_mono a1 (by show b + _ ≤ b + 4 * (12 + 3 * cst d); omega), a2, a3, a4⟩
theorem SubP_thr {g B d r : Nat} (hB : B < 2 ^ 60) (hg : g < 1073741824) (hr : r + d = 8) : SubP g (cst d) B (fun ν y => (thr d r ν y).1) := fun b' ν y hb9 hp hy => by
  obtain ⟨a1, a2, a3, -⟩ := thr_PX hB hg d r hr b' ν y hb9 hp hy
  exact ⟨a1, a2, a3⟩
theorem cst_8 : cst 8 < 2000000000 := by decide

/-! PURE: turning, stamping, rooms; the model's frames -/
set_option maxRecDepth 100000
def p_swap (μ : MS) (a b : Nat) : MS := setC (setC μ a (sC μ b)) b (sC μ a)
def p_turnL (t z : Nat) : Nat → Nat → MS → MS
  | 0, _, μ => μ
  | n + 1, i, μ => p_turnL t z n (i + 1) (p_swap μ (3 * t + i) (3 * t + z - 1 - i))
def p_turn (μ : MS) (t : Nat) : MS := p_turnL t (sz μ t) (sz μ t / 2) 0 μ
def nextN (k : Nat) (v : Int64) : Int64 := if k = 3 then 1 - v else keptN k (v + 1)
def p_numL (k t : Nat) : Nat → Nat → MS → MS
  | 0, _, μ => μ
  | n + 1, i, μ => p_numL k t n (i + 1) (setC μ (3 * t + i) (nextN k (sC μ (3 * t + i))))
def stN (k : Nat) : Int32 := if k = 6 then 2 else if oneN k = true then 1 else 0
def p_stampLow (μ : MS) (t : Nat) : MS := p_numL (kd μ t) t (if numN (kd μ t) = true then sz μ t else 0) 0 (setA μ 2 t (sA μ 2 t + stN (kd μ t)))
/-- f at each of what lies in the row t, from the place i on -/
def p_rowL (f : MS → Nat → MS) (t : Nat) : Nat → Nat → MS → MS
  | 0, _, μ => μ
  | n + 1, i, μ => p_rowL f t n (i + 1) (if sC μ (3 * t + i) = -1 then μ else f μ (sC μ (3 * t + i)).toNatClampNeg)
def p_stampRow (μ : MS) (t : Nat) : MS := p_rowL p_stampLow t (if thgN (kd μ t) = true then sz μ t else 0) 0 (p_stampLow μ t)
def p_stampAll (μ : MS) (t : Nat) : MS := if kd μ t < 11 then p_stampRow μ t else p_rowL p_stampRow t (sz μ t) 0 μ
/-- a desk has worked once more -/
def p_wk (μ : MS) (q : Nat) : MS := setS (setA μ 9 q (sA μ 9 q + 1)) 8 (sS μ 8 + 1)
def talI (μ : MS) (t : Nat) : Int32 := if oneN (kd μ t) = true then 1 else nI (sz μ t)
def p_tally (μ : MS) (q t : Nat) : MS := setA μ 7 q (sA μ 7 q + talI μ t)
/-- a desk gives a thing back -/
def p_give (μ : MS) (q t : Nat) : MS := setS (setA (setA (setA μ 10 q (sA μ 10 q + 1)) 12 q 1) 11 q (nI t)) 5 (sS μ 5 + 1)
/-- a thing before the desks of a room: n of them, from the k-th on -/
def thrL (sub : MS → Nat → MS) (r : Nat) : Nat → MS → Nat → Nat → MS × Option Nat
  | 0, μ, t, _ => (μ, some t)
  | n + 1, μ, t, k =>
    if goesN (kd μ t) (fm μ (4 * r + k)) = true then
      if ac μ (4 * r + k) = 0 then thrL sub r n (p_tally (p_wk μ (4 * r + k)) (4 * r + k) t) t (k + 1)
      else if ac μ (4 * r + k) = 1 then thrL sub r n (p_turn (p_wk μ (4 * r + k)) t) t (k + 1)
      else if ac μ (4 * r + k) = 2 then thrL sub r n (p_stampAll (p_wk μ (4 * r + k)) t) t (k + 1)
      else if ac μ (4 * r + k) = 3 then
        if thgN (kd μ t) = true ∧ r < 7 then thrL sub r n (p_rowL sub t (sz μ t) 0 (p_wk μ (4 * r + k))) t (k + 1)
        else thrL sub r n (p_wk μ (4 * r + k)) t (k + 1)
      else if sA μ 8 (4 * r + k) = -1 then (setA (p_wk μ (4 * r + k)) 8 (4 * r + k) (nI t), none)
      else thrL sub r n (setA (p_wk μ (4 * r + k)) 8 (4 * r + k) (nI t)) (sA μ 8 (4 * r + k)).toNatClampNeg (k + 1)
    else if sA μ 6 (4 * r + k) = 0 ∧ sA μ 12 (4 * r + k) = 0 then (p_give μ (4 * r + k) t, none)
    else thrL sub r n μ t (k + 1)
/-- a thing through the room r, with d rooms from r on -/
def thr : Nat → Nat → MS → Nat → MS × Option Nat
  | 0, _, μ, t => (μ, some t)
  | d + 1, r, μ, t => thrL (fun ν x => (thr d (r + 1) ν x).1) r (dk μ r) μ t 0
/-- the model's frames, as its methods write them -/
def p_begin (μ : MS) (d : Nat) (t r : Int32) : MS := setS (setA (setA (setA (setA μ 13 d t) 14 d r) 15 d 0) 16 d (-1)) 7 (nI (d + 1))
def p_ends (μ : MS) (d : Nat) (t : Int32) : MS := setS (setS μ 7 (nI d)) 6 (if d = 0 then t else sS μ 6)
def p_adv (μ : MS) (d : Nat) : MS := setA μ 15 d (sA μ 15 d + 1)
def p_next (μ : MS) (t z : Nat) : Nat → Nat → Nat
  | 0, i => i
  | n + 1, i => if sC μ (3 * t + i) = -1 then p_next μ t z n (i + 1) else i
def p_split (μ : MS) (d t r i : Nat) : MS :=
  if p_next μ t (sz μ t) (sz μ t - i) i < sz μ t then p_begin (setA μ 16 d (nI (p_next μ t (sz μ t) (sz μ t - i) i + 1))) (d + 1) (sC μ (3 * t + p_next μ t (sz μ t) (sz μ t - i) i)).toInt32 (nI (r + 1))
  else p_adv (setA μ 16 d (-1)) d
def p_work (μ : MS) (d q t r : Nat) : MS :=
  if ac μ q = 0 then p_adv (p_tally (p_wk μ q) q t) d
  else if ac μ q = 1 then p_adv (p_turn (p_wk μ q) t) d
  else if ac μ q = 2 then p_adv (p_stampAll (p_wk μ q) t) d
  else if ac μ q = 3 then
    if thgN (kd μ t) = true ∧ r < 7 then setA (p_wk μ q) 16 d 0 else p_adv (p_wk μ q) d
  else if sA μ 8 q = -1 then p_ends (setA (p_wk μ q) 8 q (nI t)) d (-1)
  else p_adv (setA (setA (p_wk μ q) 8 q (nI t)) 13 d (sA μ 8 q)) d
def p_comes (μ : MS) (d q t r : Nat) : MS :=
  if goesN (kd μ t) (fm μ q) = true then p_work μ d q t r
  else if sA μ 6 q = 0 ∧ sA μ 12 q = 0 then p_ends (p_give μ q t) d (-1)
  else p_adv μ d
theorem lN_m1 {x : Nat} (h : x < 2147483648) : lN x ≠ -1 := by
  intro q
  have h1 := lN_toInt (n := x) (by omega)
  rw [q] at h1
  have h2 : (-1 : Int64).toInt = -1 := by decide
  omega
theorem lN_cl {x : Nat} (h : x < 2147483648) : (lN x).toNatClampNeg = x := by
  show (lN x).toInt.toNat = x
  rw [lN_toInt (by omega)]
  omega
theorem nI_m1 {x : Nat} (h : x < 2147483648) : nI x ≠ -1 := by
  intro q
  have h1 := nI_toInt (n := x) (by omega)
  rw [q] at h1
  have h2 : (-1 : Int32).toInt = -1 := by decide
  omega
/-- the numbers of items, kinds, sizes, desks stay; so do forms, acts, who asks -/
def SR (μ ν : MS) : Prop := sS ν 0 = sS μ 0 ∧ sA ν 0 = sA μ 0 ∧ sA ν 1 = sA μ 1 ∧ sA ν 3 = sA μ 3 ∧ sA ν 4 = sA μ 4 ∧ sA ν 5 = sA μ 5 ∧ sA ν 6 = sA μ 6
theorem SR.rf {μ : MS} : SR μ μ := ⟨rfl, rfl, rfl, rfl, rfl, rfl, rfl⟩
theorem SR.tr {μ ν κ : MS} (h : SR μ ν) (k : SR ν κ) : SR μ κ := ⟨k.1.trans h.1, k.2.1.trans h.2.1, k.2.2.1.trans h.2.2.1, k.2.2.2.1.trans h.2.2.2.1, k.2.2.2.2.1.trans h.2.2.2.2.1, k.2.2.2.2.2.1.trans h.2.2.2.2.2.1, k.2.2.2.2.2.2.trans h.2.2.2.2.2.2⟩
theorem SR_nn {μ ν : MS} (h : SR μ ν) : nn ν = nn μ := by unfold nn; rw [h.1]
theorem SR_kd {μ ν : MS} (h : SR μ ν) (j : Nat) : kd ν j = kd μ j := by unfold kd; rw [h.2.1]
theorem SR_sz {μ ν : MS} (h : SR μ ν) (j : Nat) : sz ν j = sz μ j := by unfold sz; rw [h.2.2.1]
theorem SR_dk {μ ν : MS} (h : SR μ ν) (r : Nat) : dk ν r = dk μ r := by unfold dk; rw [h.2.2.2.1]
theorem SR_fm {μ ν : MS} (h : SR μ ν) (q : Nat) : fm ν q = fm μ q := by unfold fm; rw [h.2.2.2.2.1]
theorem SR_ac {μ ν : MS} (h : SR μ ν) (q : Nat) : ac ν q = ac μ q := by unfold ac; rw [h.2.2.2.2.2.1]
theorem SR_WF {μ ν : MS} (h : SR μ ν) (hW : WF μ) : WF ν := by
  obtain ⟨⟨a1, a2⟩, b, c, d⟩ := hW
  refine ⟨⟨by rw [h.1, SR_nn h]; exact a1, by rw [SR_nn h]; exact a2⟩, fun j hj => ?_, fun r hr => ?_, fun q hq => ?_⟩
  · rw [h.2.1, h.2.2.1, SR_kd h, SR_sz h]; exact b j hj
  · rw [h.2.2.2.1, SR_dk h]; exact c r hr
  · rw [h.2.2.2.2.1, h.2.2.2.2.2.1, SR_fm h, SR_ac h]; exact d q hq
/-- what may lie in a place of the item j: in rows none, or the number of an item that the row can hold; a number of the kind -/
def CVp (μ : MS) (j : Nat) (v : Int64) : Prop :=
  if thgN (kd μ j) = true then v = -1 ∨ ∃ x : Nat, x < nn μ ∧ v = lN x ∧ goesN (kd μ x) (holdN (kd μ j)) = true
  else if kd μ j = 0 then 0 ≤ v.toInt ∧ v.toInt < 65536
  else if kd μ j = 1 then -32768 ≤ v.toInt ∧ v.toInt < 32768
  else if kd μ j = 3 then v = 0 ∨ v = 1
  else True
theorem SR_CVp {μ ν : MS} (h : SR μ ν) {j : Nat} {v : Int64} (k : CVp μ j v) : CVp ν j v := by
  unfold CVp at k ⊢
  rw [SR_kd h, SR_nn h]
  have e : kd ν = kd μ := funext (SR_kd h)
  rw [e]
  exact k
def CV (μ : MS) : Prop := ∀ j : Nat, j < 60 → ∀ i : Nat, i < 3 → CVp μ j (sC μ (3 * j + i))
def IV (μ : MS) : Prop := WF μ ∧ CV μ
theorem IV_sr {μ ν : MS} (h : SR μ ν) (hc : sC ν = sC μ) (hI : IV μ) : IV ν := ⟨SR_WF h hI.1, fun j hj i hi => by rw [hc]; exact SR_CVp h (hI.2 j hj i hi)⟩
theorem SR_setC (μ : MS) (a : Nat) (v : Int64) : SR μ (setC μ a v) := ⟨rfl, rfl, rfl, rfl, rfl, rfl, rfl⟩
theorem IV_setC {μ : MS} {j i : Nat} {v : Int64} (hI : IV μ) (hj : j < 60) (hi : i < 3) (hv : CVp μ j v) : IV (setC μ (3 * j + i) v) := by
  refine ⟨SR_WF (SR_setC _ _ _) hI.1, fun a ha b hb => SR_CVp (SR_setC _ _ _) ?_⟩
  rw [sC_setC]
  by_cases e : 3 * a + b = 3 * j + i
  · rw [if_pos e]
    have : a = j := by omega
    rw [this]
    exact hv
  · rw [if_neg e]
    exact hI.2 a ha b hb
/-- the item in a row's place -/
theorem CV_thg {μ : MS} (hI : IV μ) {j i : Nat} (hj : j < 60) (hi : i < 3) (hk : thgN (kd μ j) = true) : sC μ (3 * j + i) = -1 ∨ ∃ x : Nat, x < nn μ ∧ sC μ (3 * j + i) = lN x ∧ goesN (kd μ x) (holdN (kd μ j)) = true := by
  have h := hI.2 j hj i hi
  unfold CVp at h
  rw [if_pos hk] at h
  exact h
theorem num_thg {k : Nat} (h : numN k = true) : thgN k = false := by
  simp [numN, thgN] at h ⊢
  omega
theorem w_and (v : Int64) : 0 ≤ (v &&& 65535).toInt ∧ (v &&& 65535).toInt < 65536 := by
  have h : (v &&& 65535).toBitVec.toNat < 65536 := by
    show (v.toBitVec &&& (65535 : Int64).toBitVec).toNat < 65536
    rw [BitVec.toNat_and]
    have : (65535 : Int64).toBitVec.toNat = 65535 := by decide
    rw [this]
    exact Nat.lt_of_le_of_lt Nat.and_le_right (by decide)
  have e : (v &&& 65535).toInt = (v &&& 65535).toBitVec.toInt := rfl
  rw [e, BitVec.toInt_eq_toNat_of_lt (by omega)]
  omega
theorem w_sh (x : Int32) : -32768 ≤ x.toInt16.toInt32.toInt64.toInt ∧ x.toInt16.toInt32.toInt64.toInt < 32768 := by
  rw [Int32.toInt_toInt64, Int16.toInt_toInt32]
  have h1 := Int16.le_toInt x.toInt16
  have h2 := Int16.toInt_lt x.toInt16
  omega
theorem keptN_CVp {μ : MS} {j : Nat} (h : numN (kd μ j) = true) (v : Int64) : CVp μ j (keptN (kd μ j) v) := by
  unfold CVp
  rw [if_neg (by rw [num_thg h]; decide)]
  unfold keptN
  split
  · exact w_and v
  split
  · exact w_sh v.toInt32
  split
  · split
    · exact Or.inl rfl
    · exact Or.inr rfl
  · trivial
theorem nextN_CVp {μ : MS} {j : Nat} (h : numN (kd μ j) = true) {v : Int64} (hv : CVp μ j v) : CVp μ j (nextN (kd μ j) v) := by
  unfold nextN
  split
  · rename_i h3
    unfold CVp at hv ⊢
    rw [if_neg (by rw [num_thg h]; decide), h3, if_neg (by decide), if_neg (by decide), if_pos rfl] at hv ⊢
    rcases hv with rfl | rfl
    · exact Or.inr rfl
    · exact Or.inl rfl
  · exact keptN_CVp h _
theorem numL_SR (k t : Nat) : ∀ (n i : Nat) (μ : MS), SR μ (p_numL k t n i μ)
  | 0, _, _ => SR.rf
  | n + 1, i, μ => (SR_setC _ _ _).tr (numL_SR k t n (i + 1) _)
theorem numL_IV {t : Nat} (ht : t < 60) : ∀ (n i : Nat) (μ : MS), IV μ → numN (kd μ t) = true → i + n ≤ 3 → IV (p_numL (kd μ t) t n i μ)
  | 0, _, _, h, _, _ => h
  | n + 1, i, μ, h, hk, hn => by
    have e : kd μ t = kd (setC μ (3 * t + i) (nextN (kd μ t) (sC μ (3 * t + i)))) t := rfl
    have h1 : IV (setC μ (3 * t + i) (nextN (kd μ t) (sC μ (3 * t + i)))) := IV_setC h ht (by omega) (nextN_CVp hk (h.2 t ht i (by omega)))
    have h2 := numL_IV ht n (i + 1) _ h1 hk (by omega)
    exact h2
theorem stampLow_SR (μ : MS) (t : Nat) : SR μ (p_stampLow μ t) := SR.tr (⟨rfl, rfl, rfl, rfl, rfl, rfl, rfl⟩ : SR μ (setA μ 2 t (sA μ 2 t + stN (kd μ t)))) (numL_SR _ _ _ _ _)
theorem stampLow_IV {μ : MS} {t : Nat} (h : IV μ) (ht : t < 60) : IV (p_stampLow μ t) := by
  have h1 : IV (setA μ 2 t (sA μ 2 t + stN (kd μ t))) := IV_sr ⟨rfl, rfl, rfl, rfl, rfl, rfl, rfl⟩ rfl h
  unfold p_stampLow
  cases hn : numN (kd μ t) with
  | false => exact h1
  | true =>
    have h2 := numL_IV (t := t) ht (sz μ t) 0 _ h1 hn (by have := (h.1.2.1 t ht).2.2.2; omega)
    rw [if_pos rfl]
    exact h2
theorem rowL_SR {f : MS → Nat → MS} (hf : ∀ μ x, SR μ (f μ x)) (t : Nat) : ∀ (n i : Nat) (μ : MS), SR μ (p_rowL f t n i μ)
  | 0, _, _ => SR.rf
  | n + 1, i, μ => by
    have h1 : SR μ (if sC μ (3 * t + i) = -1 then μ else f μ (sC μ (3 * t + i)).toNatClampNeg) := by
      split
      · exact SR.rf
      · exact hf _ _
    exact h1.tr (rowL_SR hf t n (i + 1) _)
theorem rowL_IV {f : MS → Nat → MS} (hf : ∀ μ x, SR μ (f μ x)) (hI : ∀ μ x, IV μ → x < nn μ → IV (f μ x)) {t : Nat} (ht : t < 60) : ∀ (n i : Nat) (μ : MS), IV μ → thgN (kd μ t) = true → i + n ≤ 3 → IV (p_rowL f t n i μ)
  | 0, _, _, h, _, _ => h
  | n + 1, i, μ, h, hk, hn => by
    have h1 : SR μ (if sC μ (3 * t + i) = -1 then μ else f μ (sC μ (3 * t + i)).toNatClampNeg) := by
      split
      · exact SR.rf
      · exact hf _ _
    have h2 : IV (if sC μ (3 * t + i) = -1 then μ else f μ (sC μ (3 * t + i)).toNatClampNeg) := by
      split
      · exact h
      · rename_i hc
        rcases CV_thg h ht (show i < 3 by omega) hk with e | ⟨x, hx, e, -⟩
        · exact absurd e hc
        · have := h.1.1.2
          rw [e, lN_cl (by omega)]
          exact hI _ _ h hx
    exact rowL_IV hf hI ht n (i + 1) _ h2 (by rw [SR_kd h1]; exact hk) (by omega)
theorem stampRow_SR (μ : MS) (t : Nat) : SR μ (p_stampRow μ t) := (stampLow_SR μ t).tr (rowL_SR stampLow_SR _ _ _ _)
theorem stampRow_IV {μ : MS} {t : Nat} (h : IV μ) (ht : t < 60) : IV (p_stampRow μ t) := by
  unfold p_stampRow
  have hs := stampLow_SR μ t
  cases hk : thgN (kd μ t) with
  | false => exact stampLow_IV h ht
  | true =>
    rw [if_pos rfl]
    exact rowL_IV stampLow_SR (fun μ x h hx => stampLow_IV h (by have := h.1.1.2; omega)) ht _ _ _ (stampLow_IV h ht) (by rw [SR_kd hs]; exact hk) (by have := (h.1.2.1 t ht).2.2.2; omega)
theorem stampAll_SR (μ : MS) (t : Nat) : SR μ (p_stampAll μ t) := by
  unfold p_stampAll
  split
  · exact stampRow_SR μ t
  · exact rowL_SR stampRow_SR _ _ _ _
theorem stampAll_IV {μ : MS} {t : Nat} (h : IV μ) (ht : t < 60) : IV (p_stampAll μ t) := by
  unfold p_stampAll
  split
  · exact stampRow_IV h ht
  · rename_i hk
    exact rowL_IV stampRow_SR (fun μ x h hx => stampRow_IV h (by have := h.1.1.2; omega)) ht _ _ _ h (by simp [thgN]; omega) (by have := (h.1.2.1 t ht).2.2.2; omega)
theorem swap_SR (μ : MS) (a b : Nat) : SR μ (p_swap μ a b) := (SR_setC _ _ _).tr (SR_setC _ _ _)
theorem turnL_SR (t z : Nat) : ∀ (n i : Nat) (μ : MS), SR μ (p_turnL t z n i μ)
  | 0, _, _ => SR.rf
  | n + 1, i, μ => (swap_SR _ _ _).tr (turnL_SR t z n (i + 1) _)
theorem turnL_IV {t z : Nat} (ht : t < 60) (hz : z ≤ 3) : ∀ (n i : Nat) (μ : MS), IV μ → i + n ≤ z / 2 → IV (p_turnL t z n i μ)
  | 0, _, _, h, _ => h
  | n + 1, i, μ, h, hn => by
    have e : 3 * t + z - 1 - i = 3 * t + (z - 1 - i) := by omega
    refine turnL_IV ht hz n (i + 1) _ ?_ (by omega)
    unfold p_swap
    rw [e]
    exact IV_setC (IV_setC h ht (by omega) (h.2 t ht (z - 1 - i) (by omega))) ht (by omega) (SR_CVp (SR_setC _ _ _) (h.2 t ht i (by omega)))
theorem turn_SR (μ : MS) (t : Nat) : SR μ (p_turn μ t) := turnL_SR _ _ _ _ _
theorem turn_IV {μ : MS} {t : Nat} (h : IV μ) (ht : t < 60) : IV (p_turn μ t) := turnL_IV ht (h.1.2.1 t ht).2.2.2 _ _ _ h (by omega)
/-- one step of the loops, for the walks -/
theorem rowL_skip {f : MS → Nat → MS} {t z i : Nat} {ν κ : MS} (hi : i < z) (hp : p_rowL f t (z - i) i ν = κ) (hc : sC ν (3 * t + i) = -1) : p_rowL f t (z - (i + 1)) (i + 1) ν = κ := by
  rw [show z - i = (z - (i + 1)) + 1 by omega] at hp
  unfold p_rowL at hp
  rw [if_pos hc] at hp
  exact hp
theorem rowL_do {f : MS → Nat → MS} {t z i x : Nat} {ν κ : MS} (hi : i < z) (hp : p_rowL f t (z - i) i ν = κ) (hc : ¬ sC ν (3 * t + i) = -1) (hx : x < 2147483648) (e : sC ν (3 * t + i) = lN x) : p_rowL f t (z - (i + 1)) (i + 1) (f ν x) = κ := by
  rw [show z - i = (z - (i + 1)) + 1 by omega] at hp
  unfold p_rowL at hp
  rw [if_neg hc, e, lN_cl hx] at hp
  exact hp
theorem rowL_end {f : MS → Nat → MS} {t z i : Nat} {ν κ : MS} (hi : z ≤ i) (hp : p_rowL f t (z - i) i ν = κ) : ν = κ := by
  rw [show z - i = 0 by omega] at hp
  exact hp

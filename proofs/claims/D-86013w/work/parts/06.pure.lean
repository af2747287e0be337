/-! PURE: what the small methods and the plain operations compute (on the state, on numbers) -/
set_option maxRecDepth 100000
def isIn (v a b : Int32) : Bool := decide (a ≤ v) && decide (v ≤ b)
theorem isIn_f1 {v a b : Int32} (h : v < a) : isIn v a b = false := by
  have h1 : ¬ a ≤ v := fun q => by
    have := Int32.lt_iff_toInt_lt.mp h
    have := Int32.le_iff_toInt_le.mp q
    omega
  simp [isIn, h1]
theorem isIn_f2 {v a b : Int32} (h : b < v) : isIn v a b = false := by
  have h1 : ¬ v ≤ b := fun q => by
    have := Int32.lt_iff_toInt_lt.mp h
    have := Int32.le_iff_toInt_le.mp q
    omega
  simp [isIn, h1]
theorem isIn_t {v a b : Int32} (h1 : ¬ v < a) (h2 : ¬ b < v) : isIn v a b = true := by
  have e1 : a ≤ v := Int32.le_iff_toInt_le.mpr (by
    have : ¬ v.toInt < a.toInt := fun q => h1 (Int32.lt_iff_toInt_lt.mpr q)
    omega)
  have e2 : v ≤ b := Int32.le_iff_toInt_le.mpr (by
    have : ¬ b.toInt < v.toInt := fun q => h2 (Int32.lt_iff_toInt_lt.mpr q)
    omega)
  simp [isIn, e1, e2]
theorem isIn_iff {v a b : Int32} : isIn v a b = true ↔ a.toInt ≤ v.toInt ∧ v.toInt ≤ b.toInt := by
  simp [isIn, Int32.le_iff_toInt_le]
/-- between 0 and n: a number -/
theorem isIn_nat {v b : Int32} {n : Nat} (hb : b.toInt = n) (h : isIn v 0 b = true) : ∃ k : Nat, k ≤ n ∧ v = nI k := by
  obtain ⟨h1, h2⟩ := isIn_iff.mp h
  rw [Int32.toInt_zero] at h1
  refine ⟨v.toInt.toNat, by omega, ?_⟩
  apply Int32.toInt_inj.mp
  have hv := Int32.toInt_lt v
  rw [nI_toInt (by omega)]
  omega
theorem isIn_of {k n : Nat} (h : k ≤ n) (hn : n < 2147483648) : isIn (nI k) 0 (nI n) = true := by
  rw [isIn_iff, nI_toInt (by omega), nI_toInt (by omega), Int32.toInt_zero]
  omega
/-- the same with numbers: isIn (nI k) 0 (nI n - 1) -/
theorem isIn_pred {v : Int32} {n : Nat} (hn : n < 2147483648) (h : isIn v 0 (nI n - 1) = true) : ∃ k : Nat, k < n ∧ v = nI k := by
  cases n with
  | zero =>
    obtain ⟨h1, h2⟩ := isIn_iff.mp h
    have e : (nI 0 - 1 : Int32).toInt = -1 := by decide
    rw [e] at h2
    rw [Int32.toInt_zero] at h1
    omega
  | succ n =>
    rw [nI_pred] at h
    obtain ⟨k, h1, h2⟩ := isIn_nat (n := n) (nI_toInt (by omega)) h
    exact ⟨k, by omega, h2⟩
theorem isIn_pred_of {k n : Nat} (h : k < n) (hn : n < 2147483648) : isIn (nI k) 0 (nI n - 1) = true := by
  cases n with
  | zero => omega
  | succ n =>
    rw [nI_pred]
    exact isIn_of (by omega) (by omega)
/-- kinds, as numbers -/
def goesN (k f : Nat) : Bool := k == f || (match k with
  | 5 => f == 13
  | 6 => f == 5 || f == 13
  | 7 => f == 13
  | 8 => f == 10
  | 9 => f == 8 || f == 10
  | 12 => f == 11
  | _ => false)
def oneN (k : Nat) : Bool := decide (5 ≤ k) && decide (k ≤ 7)
def numN (k : Nat) : Bool := decide (k ≤ 3)
def thgN (k : Nat) : Bool := k == 4 || decide (8 ≤ k)
def wantN (k : Nat) : Nat := if k = 4 then 0 else if k = 10 then 13 else if k < 10 then 5 else 8
def holdN (k : Nat) : Nat := if k = 9 then 6 else if k = 12 then 9 else wantN k
def keptN (k : Nat) (v : Int64) : Int64 := if k = 0 then v &&& 65535 else if k = 1 then v.toInt32.toInt16.toInt32.toInt64 else if k = 3 then (if v = 0 then 0 else 1) else v
/-- the state's numbers -/
def nn (μ : MS) : Nat := (sS μ 0).toNatClampNeg
def kd (μ : MS) (j : Nat) : Nat := (sA μ 0 j).toNatClampNeg
def sz (μ : MS) (j : Nat) : Nat := (sA μ 1 j).toNatClampNeg
def dk (μ : MS) (r : Nat) : Nat := (sA μ 3 r).toNatClampNeg
def fm (μ : MS) (q : Nat) : Nat := (sA μ 4 q).toNatClampNeg
def ac (μ : MS) (q : Nat) : Nat := (sA μ 5 q).toNatClampNeg
def isItem (μ : MS) (t : Int32) : Bool := isIn t 0 (sS μ 0 - 1)
def wpl (z i : Int32) (r : Bool) : Int32 := if r = false then -4 else if isIn i 0 (z - 1) = false then -5 else 0
/-- a refusal is noted -/
def p_no (μ : MS) (why : Int32) : MS :=
  let μ1 := setS μ 1 why
  let μ2 := setS μ1 2 (sS μ1 2 + (if why = -4 then 1 else 0))
  let μ3 := setS μ2 3 (sS μ2 3 + (if why = -5 then 1 else 0))
  setS μ3 4 (sS μ3 4 + (if why = -6 then 1 else 0))
def p_mkC (μ : MS) (b : Nat) (v : Int64) : MS := setC (setC (setC μ b v) (b + 1) v) (b + 2) v
def p_mk (μ : MS) (j : Nat) (k z : Int32) (v : Int64) : MS := setS (p_mkC (setA (setA (setA μ 0 j k) 1 j z) 2 j 0) (3 * j) v) 0 (nI (j + 1))
def p_make (μ : MS) (k n : Int32) : MS × Int32 :=
  if (isIn k 0 12 && (isIn k 5 7 || isIn n 0 3)) = true then
    if sS μ 0 = 60 then (p_no (setS μ 1 0) (-3), -3)
    else (p_mk (setS μ 1 0) (nn μ) k (if oneN k.toNatClampNeg = true then 0 else n) (if thgN k.toNatClampNeg = true then -1 else 0), nI (nn μ))
  else (p_no (setS μ 1 0) (-2), -2)
def p_put (μ : MS) (t i v : Int32) : MS × Int32 :=
  if isItem μ t = true then
    let j := t.toNatClampNeg
    let why := wpl (sA μ 1 j) i (numN (kd μ j))
    if why = 0 then (setC (setS μ 1 0) (3 * j + i.toNatClampNeg) (keptN (kd μ j) v.toInt64), 1) else (p_no (setS μ 1 0) why, why)
  else (p_no (setS μ 1 0) (-2), -2)
def satI (v : Int64) : Int32 := if v ≤ 2147483647 then v.toInt32 else 2147483647
def p_get (μ : MS) (t i : Int32) : MS × Int32 :=
  if isItem μ t = true then
    let j := t.toNatClampNeg
    let why := wpl (sA μ 1 j) i (numN (kd μ j))
    if why = 0 then (setS μ 1 0, satI (sC μ (3 * j + i.toNatClampNeg))) else (p_no (setS μ 1 0) why, 0)
  else (p_no (setS μ 1 0) (-2), 0)
def layOk (μ : MS) (j : Nat) (x : Int32) : Bool := thgN (kd μ j) && (decide (x = -1) || goesN (kd μ x.toNatClampNeg) (wantN (kd μ j)))
def p_lay (μ : MS) (t i x : Int32) : MS × Int32 :=
  if (isItem μ t && (decide (x = -1) || isItem μ x)) = true then
    let j := t.toNatClampNeg
    let why := wpl (sA μ 1 j) i (layOk μ j x)
    if why = 0 then
      if (decide (x = -1) || goesN (kd μ x.toNatClampNeg) (holdN (kd μ j))) = true then (setC (setS μ 1 0) (3 * j + i.toNatClampNeg) x.toInt64, 1)
      else (p_no (setS μ 1 0) (-6), -6)
    else (p_no (setS μ 1 0) why, why)
  else (p_no (setS μ 1 0) (-2), -2)
def p_at (μ : MS) (t i : Int32) : MS × Int32 :=
  if isItem μ t = true then
    let j := t.toNatClampNeg
    let why := wpl (sA μ 1 j) i (thgN (kd μ j))
    if why = 0 then (setS μ 1 0, (sC μ (3 * j + i.toNatClampNeg)).toInt32) else (p_no (setS μ 1 0) why, why)
  else (p_no (setS μ 1 0) (-2), -2)
def p_is (μ : MS) (t f : Int32) : MS × Int32 :=
  if (isItem μ t && isIn f 0 13) = true then (setS μ 1 0, bI (goesN (kd μ t.toNatClampNeg) f.toNatClampNeg))
  else (p_no (setS μ 1 0) (-2), -2)
def p_stamps (μ : MS) (t : Int32) : MS × Int32 :=
  if isItem μ t = true then
    if oneN (kd μ t.toNatClampNeg) = true then (setS μ 1 0, sA μ 2 t.toNatClampNeg) else (p_no (setS μ 1 0) (-4), 0)
  else (p_no (setS μ 1 0) (-2), 0)
def p_settle (μ : MS) (q : Nat) (f a s : Int32) : MS := setA (setA (setA μ 4 q f) 5 q a) 6 q s
def p_newdesk (μ : MS) (r q d : Nat) (f a s : Int32) : MS := setA (setA (setA (setA (setA (setA (p_settle μ q f a s) 7 q 0) 8 q (-1)) 9 q 0) 10 q 0) 11 q (-1)) 3 r (nI (d + 1))
def p_desk (μ : MS) (r f a : Int32) (s : Bool) : MS × Int32 :=
  if (isIn r 0 7 && (isIn f 0 13 && isIn a 0 4)) = true then
    let j := r.toNatClampNeg
    if sA μ 3 j = 4 then (p_no (setS μ 1 0) (-3), -3)
    else (p_newdesk (setS μ 1 0) j (4 * j + dk μ j) (dk μ j) f a (bI s), nI (dk μ j))
  else (p_no (setS μ 1 0) (-2), -2)
def isDesk (μ : MS) (r d : Int32) : Bool := isIn r 0 7 && isIn d 0 (sA μ 3 r.toNatClampNeg - 1)
def p_change (μ : MS) (r d f a : Int32) (s : Bool) : MS × Int32 :=
  if (isDesk μ r d && (isIn f 0 13 && isIn a 0 4)) = true then (p_settle (setS μ 1 0) (4 * r.toNatClampNeg + d.toNatClampNeg) f a (bI s), 1)
  else (p_no (setS μ 1 0) (-2), -2)
def p_told (μ : MS) (r d w : Int32) : Int32 :=
  if isDesk μ r d = true then
    let q := 4 * r.toNatClampNeg + d.toNatClampNeg
    if w = 0 then sA μ 7 q else if w = 1 then sA μ 8 q else if w = 2 then sA μ 9 q else if w = 3 then sA μ 10 q else if w = 4 then sA μ 11 q else -2
  else -2
def p_count (μ : MS) (w : Int32) : Int32 := if w = 0 then sS μ 0 else if w = 1 then sS μ 2 else if w = 2 then sS μ 3 else if w = 3 then sS μ 4 else if w = 4 then sS μ 5 else -2
/-- the state is well formed, as far as places go -/
def WF (μ : MS) : Prop := (sS μ 0 = nI (nn μ) ∧ nn μ ≤ 60) ∧ (∀ j : Nat, j < 60 → sA μ 0 j = nI (kd μ j) ∧ kd μ j ≤ 12 ∧ sA μ 1 j = nI (sz μ j) ∧ sz μ j ≤ 3) ∧ (∀ r : Nat, r < 8 → sA μ 3 r = nI (dk μ r) ∧ dk μ r ≤ 4) ∧ ∀ q : Nat, q < 32 → sA μ 4 q = nI (fm μ q) ∧ fm μ q ≤ 13 ∧ sA μ 5 q = nI (ac μ q) ∧ ac μ q ≤ 4
theorem item_of {μ : MS} {t : Int32} (hW : WF μ) (h : isItem μ t = true) : ∃ j : Nat, j < nn μ ∧ nn μ ≤ 60 ∧ t = nI j := by
  obtain ⟨⟨h1, h2⟩, -⟩ := hW
  unfold isItem at h
  rw [h1] at h
  obtain ⟨k, h3, h4⟩ := isIn_pred (by omega) h
  exact ⟨k, h3, h2, h4⟩
theorem isItem_of {μ : MS} {j : Nat} (hW : WF μ) (h : j < nn μ) : isItem μ (nI j) = true := by
  obtain ⟨⟨h1, h2⟩, -⟩ := hW
  unfold isItem
  rw [h1]
  exact isIn_pred_of h (by omega)
theorem wpl_0 {z : Nat} {i : Int32} {r : Bool} (hz : z < 2147483648) (h : wpl (nI z) i r = 0) : r = true ∧ ∃ k : Nat, k < z ∧ i = nI k := by
  unfold wpl at h
  cases r with
  | false => rw [if_pos rfl] at h; exact absurd h (by decide)
  | true =>
    rw [if_neg (by decide)] at h
    cases hi : isIn i 0 (nI z - 1) with
    | false => rw [hi, if_pos rfl] at h; exact absurd h (by decide)
    | true => exact ⟨rfl, isIn_pred hz hi⟩
theorem wpl_f (z i : Int32) : wpl z i false = -4 := rfl
theorem wpl_t {z i : Int32} (h : isIn i 0 (z - 1) = true) : wpl z i true = 0 := by
  unfold wpl
  rw [if_neg (by decide), h, if_neg (by decide)]
theorem wpl_i {z i : Int32} (h : isIn i 0 (z - 1) = false) : wpl z i true = -5 := by
  unfold wpl
  rw [if_neg (by decide), h, if_pos rfl]
theorem cl_nI {n : Nat} (h : n < 2147483648) : (nI n).toNatClampNeg = n := nI_clamp (by omega)

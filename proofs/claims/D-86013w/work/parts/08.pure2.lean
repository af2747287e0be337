/-! PURE: the plain operations, case by case -/
set_option maxRecDepth 100000
theorem p_make_bad {μ : MS} {k n : Int32} (h : (isIn k 0 12 && (isIn k 5 7 || isIn n 0 3)) = false) : p_make μ k n = (p_no (setS μ 1 0) (-2), -2) := by
  unfold p_make
  rw [h, if_neg (by decide)]
theorem p_make_full {μ : MS} {k n : Int32} (h : (isIn k 0 12 && (isIn k 5 7 || isIn n 0 3)) = true) (h2 : sS μ 0 = 60) : p_make μ k n = (p_no (setS μ 1 0) (-3), -3) := by
  unfold p_make
  rw [h, if_pos rfl, if_pos h2]
theorem p_make_ok {μ : MS} {k : Nat} {n : Int32} (hk : k < 2147483648) (h : (isIn (nI k) 0 12 && (isIn (nI k) 5 7 || isIn n 0 3)) = true) (h2 : ¬ sS μ 0 = 60) : p_make μ (nI k) n = (p_mk (setS μ 1 0) (nn μ) (nI k) (if oneN k = true then 0 else n) (if thgN k = true then -1 else 0), nI (nn μ)) := by
  unfold p_make
  rw [h, if_pos rfl, if_neg h2, cl_nI hk]
theorem p_put_bad {μ : MS} {t i v : Int32} (h : isItem μ t = false) : p_put μ t i v = (p_no (setS μ 1 0) (-2), -2) := by
  unfold p_put
  rw [h, if_neg (by decide)]
theorem p_put_why {μ : MS} {j : Nat} {i v : Int32} (hj : j < 2147483648) (h : isItem μ (nI j) = true) (h2 : ¬ wpl (sA μ 1 j) i (numN (kd μ j)) = 0) : p_put μ (nI j) i v = (p_no (setS μ 1 0) (wpl (sA μ 1 j) i (numN (kd μ j))), wpl (sA μ 1 j) i (numN (kd μ j))) := by
  unfold p_put
  rw [h, if_pos rfl, cl_nI hj]
  show (if wpl (sA μ 1 j) i (numN (kd μ j)) = 0 then _ else _) = _
  rw [if_neg h2]
theorem p_put_ok {μ : MS} {j a : Nat} {v : Int32} (hj : j < 2147483648) (ha : a < 2147483648) (h : isItem μ (nI j) = true) (h2 : wpl (sA μ 1 j) (nI a) (numN (kd μ j)) = 0) : p_put μ (nI j) (nI a) v = (setC (setS μ 1 0) (3 * j + a) (keptN (kd μ j) v.toInt64), 1) := by
  unfold p_put
  rw [h, if_pos rfl, cl_nI hj, cl_nI ha]
  show (if wpl (sA μ 1 j) (nI a) (numN (kd μ j)) = 0 then _ else _) = _
  rw [if_pos h2]
theorem p_get_bad {μ : MS} {t i : Int32} (h : isItem μ t = false) : p_get μ t i = (p_no (setS μ 1 0) (-2), 0) := by
  unfold p_get
  rw [h, if_neg (by decide)]
theorem p_get_why {μ : MS} {j : Nat} {i : Int32} (hj : j < 2147483648) (h : isItem μ (nI j) = true) (h2 : ¬ wpl (sA μ 1 j) i (numN (kd μ j)) = 0) : p_get μ (nI j) i = (p_no (setS μ 1 0) (wpl (sA μ 1 j) i (numN (kd μ j))), 0) := by
  unfold p_get
  rw [h, if_pos rfl, cl_nI hj]
  show (if wpl (sA μ 1 j) i (numN (kd μ j)) = 0 then _ else _) = _
  rw [if_neg h2]
theorem p_get_ok {μ : MS} {j a : Nat} (hj : j < 2147483648) (ha : a < 2147483648) (h : isItem μ (nI j) = true) (h2 : wpl (sA μ 1 j) (nI a) (numN (kd μ j)) = 0) : p_get μ (nI j) (nI a) = (setS μ 1 0, satI (sC μ (3 * j + a))) := by
  unfold p_get
  rw [h, if_pos rfl, cl_nI hj, cl_nI ha]
  show (if wpl (sA μ 1 j) (nI a) (numN (kd μ j)) = 0 then _ else _) = _
  rw [if_pos h2]
theorem p_at_bad {μ : MS} {t i : Int32} (h : isItem μ t = false) : p_at μ t i = (p_no (setS μ 1 0) (-2), -2) := by
  unfold p_at
  rw [h, if_neg (by decide)]
theorem p_at_why {μ : MS} {j : Nat} {i : Int32} (hj : j < 2147483648) (h : isItem μ (nI j) = true) (h2 : ¬ wpl (sA μ 1 j) i (thgN (kd μ j)) = 0) : p_at μ (nI j) i = (p_no (setS μ 1 0) (wpl (sA μ 1 j) i (thgN (kd μ j))), wpl (sA μ 1 j) i (thgN (kd μ j))) := by
  unfold p_at
  rw [h, if_pos rfl, cl_nI hj]
  show (if wpl (sA μ 1 j) i (thgN (kd μ j)) = 0 then _ else _) = _
  rw [if_neg h2]
theorem p_at_ok {μ : MS} {j a : Nat} (hj : j < 2147483648) (ha : a < 2147483648) (h : isItem μ (nI j) = true) (h2 : wpl (sA μ 1 j) (nI a) (thgN (kd μ j)) = 0) : p_at μ (nI j) (nI a) = (setS μ 1 0, (sC μ (3 * j + a)).toInt32) := by
  unfold p_at
  rw [h, if_pos rfl, cl_nI hj, cl_nI ha]
  show (if wpl (sA μ 1 j) (nI a) (thgN (kd μ j)) = 0 then _ else _) = _
  rw [if_pos h2]
theorem p_is_bad {μ : MS} {t f : Int32} (h : (isItem μ t && isIn f 0 13) = false) : p_is μ t f = (p_no (setS μ 1 0) (-2), -2) := by
  unfold p_is
  rw [h, if_neg (by decide)]
theorem p_is_ok {μ : MS} {j f : Nat} (hj : j < 2147483648) (hf : f < 2147483648) (h : (isItem μ (nI j) && isIn (nI f) 0 13) = true) : p_is μ (nI j) (nI f) = (setS μ 1 0, bI (goesN (kd μ j) f)) := by
  unfold p_is
  rw [h, if_pos rfl, cl_nI hj, cl_nI hf]
theorem p_stamps_bad {μ : MS} {t : Int32} (h : isItem μ t = false) : p_stamps μ t = (p_no (setS μ 1 0) (-2), 0) := by
  unfold p_stamps
  rw [h, if_neg (by decide)]
theorem p_stamps_why {μ : MS} {j : Nat} (hj : j < 2147483648) (h : isItem μ (nI j) = true) (h2 : oneN (kd μ j) = false) : p_stamps μ (nI j) = (p_no (setS μ 1 0) (-4), 0) := by
  unfold p_stamps
  rw [h, if_pos rfl, cl_nI hj, h2, if_neg (by decide)]
theorem p_stamps_ok {μ : MS} {j : Nat} (hj : j < 2147483648) (h : isItem μ (nI j) = true) (h2 : oneN (kd μ j) = true) : p_stamps μ (nI j) = (setS μ 1 0, sA μ 2 j) := by
  unfold p_stamps
  rw [h, if_pos rfl, cl_nI hj, h2, if_pos rfl]
theorem p_lay_bad {μ : MS} {t i x : Int32} (h : (isItem μ t && (decide (x = -1) || isItem μ x)) = false) : p_lay μ t i x = (p_no (setS μ 1 0) (-2), -2) := by
  unfold p_lay
  rw [h, if_neg (by decide)]
theorem p_lay_why {μ : MS} {j : Nat} {i x : Int32} (hj : j < 2147483648) (h : (isItem μ (nI j) && (decide (x = -1) || isItem μ x)) = true) (h2 : ¬ wpl (sA μ 1 j) i (layOk μ j x) = 0) : p_lay μ (nI j) i x = (p_no (setS μ 1 0) (wpl (sA μ 1 j) i (layOk μ j x)), wpl (sA μ 1 j) i (layOk μ j x)) := by
  unfold p_lay
  rw [h, if_pos rfl, cl_nI hj]
  show (if wpl (sA μ 1 j) i (layOk μ j x) = 0 then _ else _) = _
  rw [if_neg h2]
theorem p_lay_st {μ : MS} {j a : Nat} {x : Int32} (hj : j < 2147483648) (h : (isItem μ (nI j) && (decide (x = -1) || isItem μ x)) = true) (h2 : wpl (sA μ 1 j) (nI a) (layOk μ j x) = 0) (h3 : (decide (x = -1) || goesN (kd μ x.toNatClampNeg) (holdN (kd μ j))) = false) : p_lay μ (nI j) (nI a) x = (p_no (setS μ 1 0) (-6), -6) := by
  unfold p_lay
  rw [h, if_pos rfl, cl_nI hj]
  show (if wpl (sA μ 1 j) (nI a) (layOk μ j x) = 0 then _ else _) = _
  rw [if_pos h2, h3, if_neg (by decide)]
theorem p_lay_ok {μ : MS} {j a : Nat} {x : Int32} (hj : j < 2147483648) (ha : a < 2147483648) (h : (isItem μ (nI j) && (decide (x = -1) || isItem μ x)) = true) (h2 : wpl (sA μ 1 j) (nI a) (layOk μ j x) = 0) (h3 : (decide (x = -1) || goesN (kd μ x.toNatClampNeg) (holdN (kd μ j))) = true) : p_lay μ (nI j) (nI a) x = (setC (setS μ 1 0) (3 * j + a) x.toInt64, 1) := by
  unfold p_lay
  rw [h, if_pos rfl, cl_nI hj, cl_nI ha]
  show (if wpl (sA μ 1 j) (nI a) (layOk μ j x) = 0 then _ else _) = _
  rw [if_pos h2, h3, if_pos rfl]
theorem p_desk_bad {μ : MS} {r f a : Int32} {s : Bool} (h : (isIn r 0 7 && (isIn f 0 13 && isIn a 0 4)) = false) : p_desk μ r f a s = (p_no (setS μ 1 0) (-2), -2) := by
  unfold p_desk
  rw [h, if_neg (by decide)]
theorem p_desk_full {μ : MS} {r : Nat} {f a : Int32} {s : Bool} (hr : r < 2147483648) (h : (isIn (nI r) 0 7 && (isIn f 0 13 && isIn a 0 4)) = true) (h2 : sA μ 3 r = 4) : p_desk μ (nI r) f a s = (p_no (setS μ 1 0) (-3), -3) := by
  unfold p_desk
  rw [h, if_pos rfl, cl_nI hr]
  show (if sA μ 3 r = 4 then _ else _) = _
  rw [if_pos h2]
theorem p_desk_ok {μ : MS} {r : Nat} {f a : Int32} {s : Bool} (hr : r < 2147483648) (h : (isIn (nI r) 0 7 && (isIn f 0 13 && isIn a 0 4)) = true) (h2 : ¬ sA μ 3 r = 4) : p_desk μ (nI r) f a s = (p_newdesk (setS μ 1 0) r (4 * r + dk μ r) (dk μ r) f a (bI s), nI (dk μ r)) := by
  unfold p_desk
  rw [h, if_pos rfl, cl_nI hr]
  show (if sA μ 3 r = 4 then _ else _) = _
  rw [if_neg h2]
theorem p_change_bad {μ : MS} {r d f a : Int32} {s : Bool} (h : (isDesk μ r d && (isIn f 0 13 && isIn a 0 4)) = false) : p_change μ r d f a s = (p_no (setS μ 1 0) (-2), -2) := by
  unfold p_change
  rw [h, if_neg (by decide)]
theorem p_change_ok {μ : MS} {r d : Nat} {f a : Int32} {s : Bool} (hr : r < 2147483648) (hd : d < 2147483648) (h : (isDesk μ (nI r) (nI d) && (isIn f 0 13 && isIn a 0 4)) = true) : p_change μ (nI r) (nI d) f a s = (p_settle (setS μ 1 0) (4 * r + d) f a (bI s), 1) := by
  unfold p_change
  rw [h, if_pos rfl, cl_nI hr, cl_nI hd]
theorem isDesk_nat {μ : MS} {r : Nat} {d : Int32} (hr : r ≤ 7) : isDesk μ (nI r) d = isIn d 0 (sA μ 3 r - 1) := by
  unfold isDesk
  rw [cl_nI (by omega), show isIn (nI r) 0 7 = true from isIn_of (n := 7) hr (by omega), Bool.true_and]
theorem isDesk_f {μ : MS} {r d : Int32} (h : isIn r 0 7 = false) : isDesk μ r d = false := by
  unfold isDesk
  rw [h, Bool.false_and]
theorem p_told_bad {μ : MS} {r d w : Int32} (h : isDesk μ r d = false) : p_told μ r d w = -2 := by
  unfold p_told
  rw [h, if_neg (by decide)]
theorem p_told_ok {μ : MS} {r d : Nat} {w : Int32} (hr : r < 2147483648) (hd : d < 2147483648) (h : isDesk μ (nI r) (nI d) = true) : p_told μ (nI r) (nI d) w = (if w = 0 then sA μ 7 (4 * r + d) else if w = 1 then sA μ 8 (4 * r + d) else if w = 2 then sA μ 9 (4 * r + d) else if w = 3 then sA μ 10 (4 * r + d) else if w = 4 then sA μ 11 (4 * r + d) else -2) := by
  unfold p_told
  rw [h, if_pos rfl, cl_nI hr, cl_nI hd]
/-- a switch's number: one of the first, or outside -/
theorem sw5 (x : Int32) : x = 0 ∨ x = 1 ∨ x = 2 ∨ x = 3 ∨ x = 4 ∨ ((x.toInt < 0 ∨ 4 < x.toInt) ∧ x ≠ 0 ∧ x ≠ 1 ∧ x ≠ 2 ∧ x ≠ 3 ∧ x ≠ 4) := by
  by_cases h0 : x = 0
  · exact Or.inl h0
  by_cases h1 : x = 1
  · exact Or.inr (Or.inl h1)
  by_cases h2 : x = 2
  · exact Or.inr (Or.inr (Or.inl h2))
  by_cases h3 : x = 3
  · exact Or.inr (Or.inr (Or.inr (Or.inl h3)))
  by_cases h4 : x = 4
  · exact Or.inr (Or.inr (Or.inr (Or.inr (Or.inl h4))))
  refine Or.inr (Or.inr (Or.inr (Or.inr (Or.inr ⟨?_, h0, h1, h2, h3, h4⟩))))
  have e0 : x.toInt ≠ 0 := fun q => h0 (Int32.toInt_inj.mp q)
  have e1 : x.toInt ≠ 1 := fun q => h1 (Int32.toInt_inj.mp q)
  have e2 : x.toInt ≠ 2 := fun q => h2 (Int32.toInt_inj.mp q)
  have e3 : x.toInt ≠ 3 := fun q => h3 (Int32.toInt_inj.mp q)
  have e4 : x.toInt ≠ 4 := fun q => h4 (Int32.toInt_inj.mp q)
  omega
theorem wantN_lt (k : Nat) : wantN k < 256 := by
  unfold wantN
  split <;> (try split) <;> (try split) <;> omega
theorem holdN_lt (k : Nat) : holdN k < 256 := by
  unfold holdN
  split
  · omega
  split
  · omega
  · exact wantN_lt k
theorem satI_le {v : Int64} (h : v ≤ 2147483647) : satI v = v.toInt32 := if_pos h
theorem satI_gt {v : Int64} (h : 2147483647 < v) : satI v = 2147483647 := if_neg (fun q => by
  have h1 := Int64.lt_iff_toInt_lt.mp h
  have h2 := Int64.le_iff_toInt_le.mp q
  omega)

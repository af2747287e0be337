/-! SYSTEM 6: turning and stamping -/
set_option maxRecDepth 100000
set_option maxHeartbeats 4000000
theorem low_of : ∀ k : Nat, k < 13 → ∀ K ∈ [4, 8, 9, 10], goesN k (holdN K) = true → thgN k = false := by decide
theorem mid_of : ∀ k : Nat, k < 13 → ∀ K ∈ [11, 12], goesN k (holdN K) = true → thgN k = true ∧ k < 11 := by decide
theorem turnL_step {t z i : Nat} {ν κ : MS} (hi : i < z / 2) (hp : p_turnL t z (z / 2 - i) i ν = κ) : p_turnL t z (z / 2 - (i + 1)) (i + 1) (p_swap ν (3 * t + i) (3 * t + (z - 1 - i))) = κ := by
  rw [show z / 2 - i = (z / 2 - (i + 1)) + 1 by omega] at hp
  have e : 3 * t + z - 1 - i = 3 * t + (z - 1 - i) := by omega
  unfold p_turnL at hp
  rw [e] at hp
  exact hp
theorem turnL_end {t z i : Nat} {ν κ : MS} (hi : z / 2 ≤ i) (hp : p_turnL t z (z / 2 - i) i ν = κ) : ν = κ := by
  rw [show z / 2 - i = 0 by omega] at hp
  exact hp
theorem swap_IV {μ : MS} {t i k : Nat} (h : IV μ) (ht : t < 60) (hi : i < 3) (hk : k < 3) : IV (p_swap μ (3 * t + i) (3 * t + k)) :=
  IV_setC (IV_setC h ht hi (h.2 t ht k hk)) ht hk (SR_CVp (SR_setC _ _ _) (h.2 t ht i hi))
theorem numL_step {k t z i : Nat} {ν κ : MS} (hi : i < z) (hp : p_numL k t (z - i) i ν = κ) : p_numL k t (z - (i + 1)) (i + 1) (setC ν (3 * t + i) (nextN k (sC ν (3 * t + i)))) = κ := by
  rw [show z - i = (z - (i + 1)) + 1 by omega] at hp
  exact hp
theorem numL_end {k t z i : Nat} {ν κ : MS} (hi : z ≤ i) (hp : p_numL k t (z - i) i ν = κ) : ν = κ := by
  rw [show z - i = 0 by omega] at hp
  exact hp
/-- the doubles' values, at most b eighths above what can be put -/
def DB (b : Nat) (μ : MS) : Prop := ∀ j : Nat, j < 60 → kd μ j = 2 → ∀ i : Nat, i < 3 → -2147483648 ≤ (sC μ (3 * j + i)).toInt ∧ (sC μ (3 * j + i)).toInt ≤ 2147483648 + (b : Int)
theorem DB_mono {b b' : Nat} {μ : MS} (h : DB b μ) (hb : b ≤ b') : DB b' μ := fun j hj hk i hi => by
  have := h j hj hk i hi
  omega
theorem DB_sr {b : Nat} {μ ν : MS} (h : SR μ ν) (hc : sC ν = sC μ) (k : DB b μ) : DB b ν := fun j hj hk i hi => by
  rw [hc]
  rw [SR_kd h] at hk
  exact k j hj hk i hi
theorem numL_C (k t : Nat) : ∀ (n i : Nat) (μ : MS) (a : Nat), sC (p_numL k t n i μ) a = if 3 * t + i ≤ a ∧ a < 3 * t + i + n then nextN k (sC μ a) else sC μ a
  | 0, i, μ, a => by rw [if_neg (by omega)]; rfl
  | n + 1, i, μ, a => by
    show sC (p_numL k t n (i + 1) _) a = _
    rw [numL_C k t n (i + 1) _ a, sC_setC]
    by_cases h : a = 3 * t + i
    · subst h
      rw [if_neg (by omega), if_pos rfl, if_pos (by omega)]
    · by_cases h2 : 3 * t + (i + 1) ≤ a ∧ a < 3 * t + (i + 1) + n
      · rw [if_pos h2, if_neg h, if_pos (by omega)]
      · rw [if_neg h2, if_neg h, if_neg (by omega)]
theorem next2 {v : Int64} (h1 : -2147483648 ≤ v.toInt) (h2 : v.toInt < 2 ^ 62) : (nextN 2 v).toInt = v.toInt + 1 := by
  show (v + 1).toInt = _
  rw [Int64.toInt_add]
  have : (1 : Int64).toInt = 1 := by decide
  rw [this]
  apply Int.bmod_eq_of_le <;> omega
theorem stampLow_DB {b : Nat} {μ : MS} {t : Nat} (hz : sz μ t ≤ 3) (hb : b < 2 ^ 60) (h : DB b μ) : DB (b + 1) (p_stampLow μ t) := by
  have hs := stampLow_SR μ t
  intro j hj hk i hi
  rw [SR_kd hs] at hk
  have h0 := h j hj hk i hi
  have e : sC (p_stampLow μ t) (3 * j + i) = if 3 * t + 0 ≤ 3 * j + i ∧ 3 * j + i < 3 * t + 0 + (if numN (kd μ t) = true then sz μ t else 0) then nextN (kd μ t) (sC μ (3 * j + i)) else sC μ (3 * j + i) := by
    unfold p_stampLow
    rw [numL_C]
    rfl
  rw [e]
  by_cases hc : 3 * t + 0 ≤ 3 * j + i ∧ 3 * j + i < 3 * t + 0 + (if numN (kd μ t) = true then sz μ t else 0)
  · rw [if_pos hc]
    have hjt : j = t := by
      obtain ⟨c1, c2⟩ := hc
      split at c2 <;> omega
    subst hjt
    rw [hk, next2 h0.1 (by omega)]
    omega
  · rw [if_neg hc]
    omega
theorem rowL_DB {f : MS → Nat → MS} {c : Nat} (hs : ∀ μ x, SR μ (f μ x)) (hI : ∀ μ x, IV μ → x < nn μ → IV (f μ x)) (hD : ∀ (b : Nat) μ x, IV μ → x < nn μ → b + c < 2 ^ 60 → DB b μ → DB (b + c) (f μ x)) {t : Nat} (ht : t < 60) : ∀ (n i b : Nat) (μ : MS), IV μ → thgN (kd μ t) = true → i + n ≤ 3 → b + n * c < 2 ^ 60 → DB b μ → DB (b + n * c) (p_rowL f t n i μ)
  | 0, _, b, _, _, _, _, _, h => by rw [Nat.zero_mul]; exact h
  | n + 1, i, b, μ, hμ, hk, hn, hb, h => by
    have e : b + (n + 1) * c = (b + c) + n * c := by rw [Nat.add_mul, Nat.one_mul]; omega
    rw [e] at hb ⊢
    show DB _ (p_rowL f t n (i + 1) (if sC μ (3 * t + i) = -1 then μ else f μ (sC μ (3 * t + i)).toNatClampNeg))
    by_cases hc : sC μ (3 * t + i) = -1
    · rw [if_pos hc]
      exact rowL_DB hs hI hD ht n (i + 1) (b + c) μ hμ hk (by omega) hb (DB_mono h (by omega))
    · rw [if_neg hc]
      rcases CV_thg hμ ht (show i < 3 by omega) hk with q | ⟨x, hx, q, -⟩
      · exact absurd q hc
      · have hn60 := hμ.1.1.2
        rw [q, lN_cl (by omega)]
        exact rowL_DB hs hI hD ht n (i + 1) (b + c) _ (hI _ _ hμ hx) (by rw [SR_kd (hs μ x)]; exact hk) (by omega) hb (hD b μ x hμ hx (by omega) h)
theorem stampRow_DB {b : Nat} {μ : MS} {t : Nat} (hμ : IV μ) (ht : t < 60) (hb : b + 4 < 2 ^ 60) (h : DB b μ) : DB (b + 4) (p_stampRow μ t) := by
  have hz := (hμ.1.2.1 t ht).2.2.2
  have h1 := stampLow_DB hz (by omega) h
  have hs := stampLow_SR μ t
  have hI := stampLow_IV hμ ht
  unfold p_stampRow
  cases hk : thgN (kd μ t) with
  | false => exact DB_mono h1 (by omega)
  | true =>
    rw [if_pos rfl]
    refine DB_mono (rowL_DB (c := 1) stampLow_SR (fun μ x h hx => stampLow_IV h (by have := h.1.1.2; omega)) (fun b μ x h hx hb hD => stampLow_DB (h.1.2.1 x (by have := h.1.1.2; omega)).2.2.2 (by omega) hD) ht (sz μ t) 0 (b + 1) _ hI (by rw [SR_kd hs]; exact hk) (by omega) (by omega) h1) (by omega)
theorem stampAll_DB {b : Nat} {μ : MS} {t : Nat} (hμ : IV μ) (ht : t < 60) (hb : b + 12 < 2 ^ 60) (h : DB b μ) : DB (b + 12) (p_stampAll μ t) := by
  have hz := (hμ.1.2.1 t ht).2.2.2
  unfold p_stampAll
  split
  · exact DB_mono (stampRow_DB hμ ht (by omega) h) (by omega)
  · rename_i hk
    refine DB_mono (rowL_DB (c := 4) stampRow_SR (fun μ x h hx => stampRow_IV h (by have := h.1.1.2; omega)) (fun b μ x h hx hb hD => stampRow_DB h (by have := h.1.1.2; omega) hb hD) ht (sz μ t) 0 b μ hμ (by simp [thgN]; omega) (by omega) (by omega) h) (by omega)
theorem swap_DB {b : Nat} {μ : MS} {t i k : Nat} (hi : i < 3) (hk : k < 3) (ht : t < 60) (h : DB b μ) : DB b (p_swap μ (3 * t + i) (3 * t + k)) := by
  intro j hj hkd a ha
  have hkd' : kd μ j = 2 := hkd
  unfold p_swap
  rw [sC_setC, sC_setC]
  by_cases e1 : 3 * j + a = 3 * t + k
  · rw [if_pos e1]
    have : j = t := by omega
    subst this
    exact h j hj hkd' i hi
  · rw [if_neg e1]
    by_cases e2 : 3 * j + a = 3 * t + i
    · rw [if_pos e2]
      have : j = t := by omega
      subst this
      exact h j hj hkd' k hk
    · rw [if_neg e2]
      exact h j hj hkd' a ha
theorem turnL_DB {b t z : Nat} (ht : t < 60) (hz : z ≤ 3) : ∀ (n i : Nat) (μ : MS), i + n ≤ z / 2 → DB b μ → DB b (p_turnL t z n i μ)
  | 0, _, _, _, h => h
  | n + 1, i, μ, hn, h => by
    have e : 3 * t + z - 1 - i = 3 * t + (z - 1 - i) := by omega
    refine turnL_DB ht hz n (i + 1) _ (by omega) ?_
    rw [e]
    exact swap_DB (by omega) (by omega) ht h
theorem turn_DB {b : Nat} {μ : MS} {t : Nat} (hμ : IV μ) (ht : t < 60) (h : DB b μ) : DB b (p_turn μ t) := turnL_DB ht (hμ.1.2.1 t ht).2.2.2 _ _ _ (by omega) h
theorem inc32 {v : Int64} (h1 : -2147483648 ≤ v.toInt) (h2 : v.toInt < 2147483647) : (v.toInt32 + 1).toInt64 = v + 1 := by
  apply Int64.toInt_inj.mp
  have e1 : (1 : Int64).toInt = 1 := by decide
  have e2 : (1 : Int32).toInt = 1 := by decide
  rw [Int32.toInt_toInt64, Int32.toInt_add, Int64.toInt_toInt32, Int64.toInt_add, e1, e2]
  rw [show Int.bmod v.toInt (2 ^ 32) = v.toInt by apply Int.bmod_eq_of_le <;> omega, show Int.bmod (v.toInt + 1) (2 ^ 64) = v.toInt + 1 by apply Int.bmod_eq_of_le <;> omega]
  apply Int.bmod_eq_of_le <;> omega
theorem nx_c {μ : MS} {j : Nat} {v : Int64} (h : CVp μ j v) (hk : kd μ j = 0) : narrow .char (.int ((v.toInt32 + 1).toUInt32 % 65536).toInt32) = .int (nextN 0 v).toInt32 := by
  unfold CVp at h
  rw [hk, if_neg (by decide), if_pos rfl] at h
  have e := kp_c (v.toInt32 + 1)
  rw [inc32 (by omega) (by omega)] at e
  exact e
theorem nx_s {μ : MS} {j : Nat} {v : Int64} (h : CVp μ j v) (hk : kd μ j = 1) : narrow .short (.int (v.toInt32 + 1).toInt16.toInt32) = .int (nextN 1 v).toInt32 := by
  unfold CVp at h
  rw [hk, if_neg (by decide), if_neg (by decide), if_pos rfl] at h
  have e := kp_s (v.toInt32 + 1)
  rw [inc32 (by omega) (by omega)] at e
  exact e
theorem nx_z {μ : MS} {j : Nat} {v : Int64} (h : CVp μ j v) (hk : kd μ j = 3) : narrow .boolean (.int (if v.toInt32 = 0 then 1 else 0)) = .int (nextN 3 v).toInt32 := by
  unfold CVp at h
  rw [hk, if_neg (by decide), if_neg (by decide), if_neg (by decide), if_pos rfl] at h
  rcases h with rfl | rfl <;> decide
theorem k_X0_turn (l : Launch) (hst : l.stackTraces = false) (D : va_G) (tc : Nat → ClassId) (x mo : Nat) (β : Nat → Nat) (μ : MS) (hI : IV μ) (hZV : ZV μ) (j : Nat) (hj : j < nn μ) : YC l yX0_turn cX0_turn 3 none 2 49 0 0 D tc x mo β [.ref (β (64 + j))] μ (p_turn μ j) none := by
  refine YC.of (by decide) rfl (Nat.le_of_ble_eq_true rfl) ?_
  intro p e s m below meth c hC hX hZ hr hlk hml hM hS ls hl
  have hx := hC.1
  have hb := hC.2.1
  have hts := hC.2.2.1
  have hown := hC.2.2.2.1
  have hl : lv_has ls 3 [(0, .ref (β (64 + j)))] := hl
  have hn := hI.1.1.2
  have h12 := (hI.1.2.1 j (by omega)).2.1
  have h3 := (hI.1.2.1 j (by omega)).2.2.2
  refine lv_aload_n hx hb dX0_turn_0 rfl (lv_at hl 0 rfl) ?_
  refine w_YS (As := [.ref (β (64 + j))]) hC hX hZ hM hS hml hl.1 (k_X0_size l hst D tc x mo β μ j hj hn h12) q399 q400 q23 q401 rfl ⟨by decide, by decide, rfl⟩ (Nat.le_of_ble_eq_true rfl) (Nat.le_of_ble_eq_true rfl) ⟨(Nat.le_of_ble_eq_true rfl), (Nat.le_of_ble_eq_true rfl)⟩ rfl (Nat.le_of_ble_eq_true rfl) dX0_turn_1 (fun H locs hM hS => ?_)
  cases ho : oneN (kd μ j)
  · refine w_top (y := .int (nI (sz μ j))) (by unfold talI; rw [ho]; rfl) ?_
    refine lv_istore_n (lv' := [(1, .int (nI (sz μ j))), (0, .ref (β (64 + j)))]) hx hb dX0_turn_4 rfl hl (by decide) rfl (fun ls hl => ?_)
    refine lv_iconst (v := 0) hx hb dX0_turn_5 (by decide) ?_
    refine lv_istore_n (lv' := [(2, .int 0), (1, .int (nI (sz μ j))), (0, .ref (β (64 + j)))]) hx hb dX0_turn_6 rfl hl (by decide) rfl (fun ls hl => ?_)
    refine w_loop (σ := Nat × MS) (fun y9 H locs ls => y9.1 ≤ sz μ j / 2 ∧ (p_turnL j (sz μ j) (sz μ j / 2 - y9.1) y9.1 y9.2 = p_turn μ j) ∧ (SR μ y9.2) ∧ (IV y9.2) ∧ Sys D tc x mo β y9.2 H ∧ va_S (sy_A x mo) s.heap H locs ∧ lv_has ls 3 [(2, .int (nI y9.1)), (0, .ref (β (64 + j))), (1, .int (nI (sz μ j)))]) (fun y9 => sz μ j / 2 - y9.1) ?_ (0, μ) ⟨Nat.zero_le _, rfl, SR.rf, hI, hM, hS, lv_sub hl [0, 2, 1] rfl⟩
    intro y9 H locs ls hI9 ih
    obtain ⟨i, ν⟩ := y9
    obtain ⟨hi, hp, hsr, hIv, hM, hS, hl⟩ := hI9
    have hi : i ≤ sz μ j / 2 := hi
    have hp : p_turnL j (sz μ j) (sz μ j / 2 - i) i ν = p_turn μ j := hp
    have hsr : SR μ ν := hsr
    have hIv : IV ν := hIv
    have hM : Sys D tc x mo β ν H := hM
    have hl : lv_has ls 3 [(2, .int (nI i)), (0, .ref (β (64 + j))), (1, .int (nI (sz μ j)))] := hl
    refine lv_iload_n hx hb dX0_turn_7 rfl (lv_at hl 0 rfl) ?_
    refine lv_iload_n hx hb dX0_turn_8 rfl (lv_at hl 2 rfl) ?_
    refine lv_iconst (v := 2) hx hb dX0_turn_9 (by decide) ?_
    refine lv_idiv hx hb dX0_turn_10 (by decide) ?_
    refine w_top (congrArg Value.int (pk_div (a := (sz μ j)) (d := 2) (by omega) (by decide) (by decide))) ?_
    refine n_icmp_ge (a := i) (b := ((sz μ j) / 2)) (tgt := 30) hx hb dX0_turn_11 (by decide) (by omega) (by omega) (fun c_11 => ?_) (fun c_11 => ?_)
    · exact sy_vret hC hr hlk hM hS (turnL_end (by omega) hp) (Nat.le_of_ble_eq_true rfl) (Nat.le_of_ble_eq_true rfl) dX0_turn_30
    · refine lv_aload_n hx hb dX0_turn_14 rfl (lv_at hl 1 rfl) ?_
      refine lv_iload_n hx hb dX0_turn_15 rfl (lv_at hl 0 rfl) ?_
      refine lv_iload_n hx hb dX0_turn_16 rfl (lv_at hl 2 rfl) ?_
      refine lv_iconst (v := 1) hx hb dX0_turn_17 (by decide) ?_
      refine lv_isub hx hb dX0_turn_18 ?_
      refine w_top (congrArg Value.int (pk_sub (a := (sz μ j)) (b := 1) (by omega))) ?_
      refine lv_iload_n hx hb dX0_turn_19 rfl (lv_at hl 0 rfl) ?_
      refine lv_isub hx hb dX0_turn_20 ?_
      refine w_top (congrArg Value.int (pk_sub (a := (sz μ j - 1)) (b := i) (by omega))) ?_
      refine w_YS (As := [.ref (β (64 + j)), .int (nI i), .int (nI (sz μ j - 1 - i))]) hC hX hZ hM hS hml hl.1 (k_X0_change_2 l hst D tc x mo β ν hIv j (by rw [SR_nn hsr]; exact hj) (by rw [SR_kd hsr]; exact ho) i (sz μ j - 1 - i) (by rw [SR_sz hsr]; omega) (by rw [SR_sz hsr]; omega)) q405 q406 q23 q407 rfl ⟨by decide, by decide, rfl⟩ (Nat.le_of_ble_eq_true rfl) (Nat.le_of_ble_eq_true rfl) ⟨(Nat.le_of_ble_eq_true rfl), (Nat.le_of_ble_eq_true rfl)⟩ rfl (Nat.le_of_ble_eq_true rfl) dX0_turn_21 (fun H locs hM hS => ?_)
      refine lv_iinc (v := (nI (i + 1))) (lv' := [(2, .int (nI (i + 1))), (0, .ref (β (64 + j))), (1, .int (nI (sz μ j)))]) hx hb dX0_turn_24 hl (k := 0) rfl (nI_1 i) (by decide) rfl (fun ls hl => ?_)
      refine lv_goto (tgt := 7) hx hb dX0_turn_27 (by decide) ?_
      exact ih (i + 1, (p_swap ν (3 * j + i) (3 * j + (sz μ j - 1 - i)))) H locs ls ⟨by show i + 1 ≤ sz μ j / 2; omega, turnL_step (by omega) hp, hsr.tr (swap_SR _ _ _), swap_IV hIv (by omega) (by omega) (by omega), hM, hS, lv_sub hl [0, 1, 2] rfl⟩ (by show sz μ j / 2 - (i + 1) < sz μ j / 2 - i; omega)
  · refine w_top (y := .int 1) (by unfold talI; rw [ho]; rfl) ?_
    refine lv_istore_n (lv' := [(1, .int 1), (0, .ref (β (64 + j)))]) hx hb dX0_turn_4 rfl hl (by decide) rfl (fun ls hl => ?_)
    refine lv_iconst (v := 0) hx hb dX0_turn_5 (by decide) ?_
    refine lv_istore_n (lv' := [(2, .int 0), (1, .int 1), (0, .ref (β (64 + j)))]) hx hb dX0_turn_6 rfl hl (by decide) rfl (fun ls hl => ?_)
    refine lv_iload_n hx hb dX0_turn_7 rfl (lv_at hl 0 rfl) ?_
    refine lv_iload_n hx hb dX0_turn_8 rfl (lv_at hl 1 rfl) ?_
    refine lv_iconst (v := 2) hx hb dX0_turn_9 (by decide) ?_
    refine lv_idiv hx hb dX0_turn_10 (by decide) ?_
    refine lv_icmp_ge (tgt := 30) hx hb dX0_turn_11 (by decide) (fun _ => ?_) (fun h => absurd (by decide) h)
    exact sy_vret hC hr hlk hM hS (by have hz0 := hZV j (by omega) ho; unfold p_turn; rw [hz0]; rfl) (Nat.le_of_ble_eq_true rfl) (Nat.le_of_ble_eq_true rfl) dX0_turn_30
theorem k_X0_stamp0 (l : Launch) (hst : l.stackTraces = false) (D : va_G) (tc : Nat → ClassId) (x mo : Nat) (β : Nat → Nat) (μ : MS) (hI : IV μ) (b : Nat) (hb52 : b < 2 ^ 52) (hD : DB b μ) (j : Nat) (hj : j < nn μ) (hk : thgN (kd μ j) = false) : YC l yX0_stamp cX0_stamp 3 none 2 41 0 0 D tc x mo β [.ref (β (64 + j))] μ (p_stampLow μ j) none := by
  refine YC.of (by decide) rfl (Nat.le_of_ble_eq_true rfl) ?_
  intro p e s m below meth c hC hX hZ hr hlk hml hM hS ls hl
  have hx := hC.1
  have hb := hC.2.1
  have hts := hC.2.2.1
  have hown := hC.2.2.2.1
  have hl : lv_has ls 3 [(0, .ref (β (64 + j)))] := hl
  have hn := hI.1.1.2
  have h12 := (hI.1.2.1 j (by omega)).2.1
  have h3 := (hI.1.2.1 j (by omega)).2.2.2
  rcases (by simp [thgN] at hk; omega : kd μ j = 0 ∨ kd μ j = 1 ∨ kd μ j = 2 ∨ kd μ j = 3 ∨ kd μ j = 5 ∨ kd μ j = 6 ∨ kd μ j = 7) with hk_j | hk_j | hk_j | hk_j | hk_j | hk_j | hk_j
  · refine lv_aload_n hx hb dX0_stamp_0 rfl (lv_at hl 0 rfl) ?_
    refine w_inst hC hX (k := 0) (f := 13) (by decide) (by decide) (sy_thRk hC.2.2.2.2 hM hj hn hk_j (by omega)) q136 rfl (b := false) rfl dX0_stamp_1 ?_
    refine b_ifeq (w := false) (tgt := 19) hx hb dX0_stamp_4 (by decide) (fun _ => ?_) (fun h => absurd (h.symm.trans rfl) (by decide))
    refine lv_aload_n hx hb dX0_stamp_19 rfl (lv_at hl 0 rfl) ?_
    refine w_inst hC hX (k := 0) (f := 0) (by decide) (by decide) (sy_thRk hC.2.2.2.2 hM hj hn hk_j (by omega)) q100 rfl (b := true) rfl dX0_stamp_20 ?_
    refine b_ifeq (w := true) (tgt := 56) hx hb dX0_stamp_23 (by decide) (fun h => absurd (h.symm.trans rfl) (by decide)) (fun _ => ?_)
    refine lv_aload_n hx hb dX0_stamp_26 rfl (lv_at hl 0 rfl) ?_
    refine w_cast hC hX (k := 0) (f := 0) (by decide) (by decide) (sy_thRk hC.2.2.2.2 hM hj hn hk_j (by omega)) q100 rfl rfl dX0_stamp_27 ?_
    refine lv_astore_n (lv' := [(1, .ref (β (64 + j))), (0, .ref (β (64 + j)))]) hx hb dX0_stamp_30 rfl hl (by decide) rfl (fun ls hl => ?_)
    refine lv_iconst (v := 0) hx hb dX0_stamp_31 (by decide) ?_
    refine lv_istore_n (lv' := [(2, .int 0), (1, .ref (β (64 + j))), (0, .ref (β (64 + j)))]) hx hb dX0_stamp_32 rfl hl (by decide) rfl (fun ls hl => ?_)
    have hM := hM.pM0 (v := sA μ 2 j + 0) (j := j) (by rw [hk_j]; first | exact Or.inl rfl | exact Or.inr (Or.inl rfl))
    refine w_loop (σ := Nat × MS) (fun y9 H locs ls => y9.1 ≤ sz μ j ∧ (p_numL 0 j (sz μ j - y9.1) y9.1 y9.2 = p_stampLow μ j) ∧ (SR μ y9.2) ∧ (IV y9.2) ∧ (∀ b : Nat, y9.1 ≤ b → sC y9.2 (3 * j + b) = sC μ (3 * j + b)) ∧ Sys D tc x mo β y9.2 H ∧ va_S (sy_A x mo) s.heap H locs ∧ lv_has ls 3 [(2, .int (nI y9.1)), (0, .ref (β (64 + j))), (1, .ref (β (64 + j)))]) (fun y9 => sz μ j - y9.1) ?_ (0, (setA μ 2 j (sA μ 2 j + 0))) ⟨Nat.zero_le _, by unfold p_stampLow; rw [hk_j]; rfl, ⟨rfl, rfl, rfl, rfl, rfl, rfl, rfl⟩, IV_sr ⟨rfl, rfl, rfl, rfl, rfl, rfl, rfl⟩ rfl hI, fun _ _ => rfl, hM, hS, lv_sub hl [0, 2, 1] rfl⟩
    intro y9 H locs ls hI9 ih
    obtain ⟨i, ν⟩ := y9
    obtain ⟨hi, hp, hsr, hIv, hun, hM, hS, hl⟩ := hI9
    have hi : i ≤ sz μ j := hi
    have hp : p_numL 0 j (sz μ j - i) i ν = p_stampLow μ j := hp
    have hsr : SR μ ν := hsr
    have hIv : IV ν := hIv
    have hun : ∀ b : Nat, i ≤ b → sC ν (3 * j + b) = sC μ (3 * j + b) := hun
    have hM : Sys D tc x mo β ν H := hM
    have hl : lv_has ls 3 [(2, .int (nI i)), (0, .ref (β (64 + j))), (1, .ref (β (64 + j)))] := hl
    have hk0 := hk_j
    have hj : j < nn ν := by rw [SR_nn hsr]; exact hj
    have hn : nn ν ≤ 60 := by rw [SR_nn hsr]; exact hn
    have hk_j : kd ν j = 0 := by rw [SR_kd hsr]; exact hk_j
    have h3 : sz ν j ≤ 3 := by rw [SR_sz hsr]; exact h3
    have hz9 : sz ν j = sz μ j := SR_sz hsr j
    refine lv_iload_n hx hb dX0_stamp_33 rfl (lv_at hl 0 rfl) ?_
    refine lv_aload_n hx hb dX0_stamp_34 rfl (lv_at hl 2 rfl) ?_
    refine sy_alen hC hM hj hn (by have := hk_j; show kd ν j ≤ 12; omega) (by rw [show kd ν j = 0 from hk_j]; rfl) dX0_stamp_35 ?_
    refine n_icmp_ge (a := i) (b := (sz ν j)) (tgt := 53) hx hb dX0_stamp_36 (by decide) (by omega) (by omega) (fun c_36 => ?_) (fun c_36 => ?_)
    · refine lv_goto (tgt := 204) hx hb dX0_stamp_53 (by decide) ?_
      exact sy_vret hC hr hlk hM hS (numL_end (by omega) hp) (Nat.le_of_ble_eq_true rfl) (Nat.le_of_ble_eq_true rfl) dX0_stamp_204
    · refine lv_aload_n hx hb dX0_stamp_39 rfl (lv_at hl 2 rfl) ?_
      refine lv_iload_n hx hb dX0_stamp_40 rfl (lv_at hl 0 rfl) ?_
      refine lv_dup2_11 hx hb dX0_stamp_41 rfl rfl ?_
      refine sy_cald hC hM hj hn hk_j h3 i rfl (show i < sz ν j by omega) dX0_stamp_42 ?_
      refine lv_iconst (v := 1) hx hb dX0_stamp_43 (by decide) ?_
      refine lv_iadd hx hb dX0_stamp_44 ?_
      refine lv_i2c hx hb dX0_stamp_45 rfl ?_
      refine sy_cast hC hM hS hj hn hk_j h3 (w := (nextN 0 (sC ν (3 * j + i)))) i rfl (show i < sz ν j by omega) (nx_c (hIv.2 j (by omega) i (by omega)) hk_j) dX0_stamp_46 (fun H locs hM hS => ?_)
      refine lv_iinc (v := (nI (i + 1))) (lv' := [(2, .int (nI (i + 1))), (0, .ref (β (64 + j))), (1, .ref (β (64 + j)))]) hx hb dX0_stamp_47 hl (k := 0) rfl (nI_1 i) (by decide) rfl (fun ls hl => ?_)
      refine lv_goto (tgt := 33) hx hb dX0_stamp_50 (by decide) ?_
      exact ih (i + 1, (setC ν (3 * j + i) (nextN 0 (sC ν (3 * j + i))))) H locs ls ⟨by show i + 1 ≤ sz μ j; omega, numL_step (by omega) hp, hsr.tr (SR_setC _ _ _), IV_setC hIv (by omega) (by omega) (by have h9 := nextN_CVp (μ := ν) (j := j) (by rw [hk_j]; rfl) (hIv.2 j (by omega) i (by omega)); rw [hk_j] at h9; exact h9), fun b hb9 => by rw [sC_setC, if_neg (by omega)]; exact hun b (by omega), hM, hS, lv_sub hl [0, 1, 2] rfl⟩ (by show sz μ j - (i + 1) < sz μ j - i; omega)
  · refine lv_aload_n hx hb dX0_stamp_0 rfl (lv_at hl 0 rfl) ?_
    refine w_inst hC hX (k := 1) (f := 13) (by decide) (by decide) (sy_thRk hC.2.2.2.2 hM hj hn hk_j (by omega)) q136 rfl (b := false) rfl dX0_stamp_1 ?_
    refine b_ifeq (w := false) (tgt := 19) hx hb dX0_stamp_4 (by decide) (fun _ => ?_) (fun h => absurd (h.symm.trans rfl) (by decide))
    refine lv_aload_n hx hb dX0_stamp_19 rfl (lv_at hl 0 rfl) ?_
    refine w_inst hC hX (k := 1) (f := 0) (by decide) (by decide) (sy_thRk hC.2.2.2.2 hM hj hn hk_j (by omega)) q100 rfl (b := false) rfl dX0_stamp_20 ?_
    refine b_ifeq (w := false) (tgt := 56) hx hb dX0_stamp_23 (by decide) (fun _ => ?_) (fun h => absurd (h.symm.trans rfl) (by decide))
    refine lv_aload_n hx hb dX0_stamp_56 rfl (lv_at hl 0 rfl) ?_
    refine w_inst hC hX (k := 1) (f := 1) (by decide) (by decide) (sy_thRk hC.2.2.2.2 hM hj hn hk_j (by omega)) q252 rfl (b := true) rfl dX0_stamp_57 ?_
    refine b_ifeq (w := true) (tgt := 93) hx hb dX0_stamp_60 (by decide) (fun h => absurd (h.symm.trans rfl) (by decide)) (fun _ => ?_)
    refine lv_aload_n hx hb dX0_stamp_63 rfl (lv_at hl 0 rfl) ?_
    refine w_cast hC hX (k := 1) (f := 1) (by decide) (by decide) (sy_thRk hC.2.2.2.2 hM hj hn hk_j (by omega)) q252 rfl rfl dX0_stamp_64 ?_
    refine lv_astore_n (lv' := [(1, .ref (β (64 + j))), (0, .ref (β (64 + j)))]) hx hb dX0_stamp_67 rfl hl (by decide) rfl (fun ls hl => ?_)
    refine lv_iconst (v := 0) hx hb dX0_stamp_68 (by decide) ?_
    refine lv_istore_n (lv' := [(2, .int 0), (1, .ref (β (64 + j))), (0, .ref (β (64 + j)))]) hx hb dX0_stamp_69 rfl hl (by decide) rfl (fun ls hl => ?_)
    have hM := hM.pM0 (v := sA μ 2 j + 0) (j := j) (by rw [hk_j]; first | exact Or.inl rfl | exact Or.inr (Or.inl rfl))
    refine w_loop (σ := Nat × MS) (fun y9 H locs ls => y9.1 ≤ sz μ j ∧ (p_numL 1 j (sz μ j - y9.1) y9.1 y9.2 = p_stampLow μ j) ∧ (SR μ y9.2) ∧ (IV y9.2) ∧ (∀ b : Nat, y9.1 ≤ b → sC y9.2 (3 * j + b) = sC μ (3 * j + b)) ∧ Sys D tc x mo β y9.2 H ∧ va_S (sy_A x mo) s.heap H locs ∧ lv_has ls 3 [(2, .int (nI y9.1)), (0, .ref (β (64 + j))), (1, .ref (β (64 + j)))]) (fun y9 => sz μ j - y9.1) ?_ (0, (setA μ 2 j (sA μ 2 j + 0))) ⟨Nat.zero_le _, by unfold p_stampLow; rw [hk_j]; rfl, ⟨rfl, rfl, rfl, rfl, rfl, rfl, rfl⟩, IV_sr ⟨rfl, rfl, rfl, rfl, rfl, rfl, rfl⟩ rfl hI, fun _ _ => rfl, hM, hS, lv_sub hl [0, 2, 1] rfl⟩
    intro y9 H locs ls hI9 ih
    obtain ⟨i, ν⟩ := y9
    obtain ⟨hi, hp, hsr, hIv, hun, hM, hS, hl⟩ := hI9
    have hi : i ≤ sz μ j := hi
    have hp : p_numL 1 j (sz μ j - i) i ν = p_stampLow μ j := hp
    have hsr : SR μ ν := hsr
    have hIv : IV ν := hIv
    have hun : ∀ b : Nat, i ≤ b → sC ν (3 * j + b) = sC μ (3 * j + b) := hun
    have hM : Sys D tc x mo β ν H := hM
    have hl : lv_has ls 3 [(2, .int (nI i)), (0, .ref (β (64 + j))), (1, .ref (β (64 + j)))] := hl
    have hk0 := hk_j
    have hj : j < nn ν := by rw [SR_nn hsr]; exact hj
    have hn : nn ν ≤ 60 := by rw [SR_nn hsr]; exact hn
    have hk_j : kd ν j = 1 := by rw [SR_kd hsr]; exact hk_j
    have h3 : sz ν j ≤ 3 := by rw [SR_sz hsr]; exact h3
    have hz9 : sz ν j = sz μ j := SR_sz hsr j
    refine lv_iload_n hx hb dX0_stamp_70 rfl (lv_at hl 0 rfl) ?_
    refine lv_aload_n hx hb dX0_stamp_71 rfl (lv_at hl 2 rfl) ?_
    refine sy_alen hC hM hj hn (by have := hk_j; show kd ν j ≤ 12; omega) (by rw [show kd ν j = 1 from hk_j]; rfl) dX0_stamp_72 ?_
    refine n_icmp_ge (a := i) (b := (sz ν j)) (tgt := 90) hx hb dX0_stamp_73 (by decide) (by omega) (by omega) (fun c_73 => ?_) (fun c_73 => ?_)
    · refine lv_goto (tgt := 204) hx hb dX0_stamp_90 (by decide) ?_
      exact sy_vret hC hr hlk hM hS (numL_end (by omega) hp) (Nat.le_of_ble_eq_true rfl) (Nat.le_of_ble_eq_true rfl) dX0_stamp_204
    · refine lv_aload_n hx hb dX0_stamp_76 rfl (lv_at hl 2 rfl) ?_
      refine lv_iload_n hx hb dX0_stamp_77 rfl (lv_at hl 0 rfl) ?_
      refine lv_dup2_11 hx hb dX0_stamp_78 rfl rfl ?_
      refine sy_sald hC hM hj hn hk_j h3 i rfl (show i < sz ν j by omega) dX0_stamp_79 ?_
      refine lv_iconst (v := 1) hx hb dX0_stamp_80 (by decide) ?_
      refine lv_iadd hx hb dX0_stamp_81 ?_
      refine lv_i2s hx hb dX0_stamp_82 rfl ?_
      refine sy_sast hC hM hS hj hn hk_j h3 (w := (nextN 1 (sC ν (3 * j + i)))) i rfl (show i < sz ν j by omega) (nx_s (hIv.2 j (by omega) i (by omega)) hk_j) dX0_stamp_83 (fun H locs hM hS => ?_)
      refine lv_iinc (v := (nI (i + 1))) (lv' := [(2, .int (nI (i + 1))), (0, .ref (β (64 + j))), (1, .ref (β (64 + j)))]) hx hb dX0_stamp_84 hl (k := 0) rfl (nI_1 i) (by decide) rfl (fun ls hl => ?_)
      refine lv_goto (tgt := 70) hx hb dX0_stamp_87 (by decide) ?_
      exact ih (i + 1, (setC ν (3 * j + i) (nextN 1 (sC ν (3 * j + i))))) H locs ls ⟨by show i + 1 ≤ sz μ j; omega, numL_step (by omega) hp, hsr.tr (SR_setC _ _ _), IV_setC hIv (by omega) (by omega) (by have h9 := nextN_CVp (μ := ν) (j := j) (by rw [hk_j]; rfl) (hIv.2 j (by omega) i (by omega)); rw [hk_j] at h9; exact h9), fun b hb9 => by rw [sC_setC, if_neg (by omega)]; exact hun b (by omega), hM, hS, lv_sub hl [0, 1, 2] rfl⟩ (by show sz μ j - (i + 1) < sz μ j - i; omega)
  · refine lv_aload_n hx hb dX0_stamp_0 rfl (lv_at hl 0 rfl) ?_
    refine w_inst hC hX (k := 2) (f := 13) (by decide) (by decide) (sy_thRk hC.2.2.2.2 hM hj hn hk_j (by omega)) q136 rfl (b := false) rfl dX0_stamp_1 ?_
    refine b_ifeq (w := false) (tgt := 19) hx hb dX0_stamp_4 (by decide) (fun _ => ?_) (fun h => absurd (h.symm.trans rfl) (by decide))
    refine lv_aload_n hx hb dX0_stamp_19 rfl (lv_at hl 0 rfl) ?_
    refine w_inst hC hX (k := 2) (f := 0) (by decide) (by decide) (sy_thRk hC.2.2.2.2 hM hj hn hk_j (by omega)) q100 rfl (b := false) rfl dX0_stamp_20 ?_
    refine b_ifeq (w := false) (tgt := 56) hx hb dX0_stamp_23 (by decide) (fun _ => ?_) (fun h => absurd (h.symm.trans rfl) (by decide))
    refine lv_aload_n hx hb dX0_stamp_56 rfl (lv_at hl 0 rfl) ?_
    refine w_inst hC hX (k := 2) (f := 1) (by decide) (by decide) (sy_thRk hC.2.2.2.2 hM hj hn hk_j (by omega)) q252 rfl (b := false) rfl dX0_stamp_57 ?_
    refine b_ifeq (w := false) (tgt := 93) hx hb dX0_stamp_60 (by decide) (fun _ => ?_) (fun h => absurd (h.symm.trans rfl) (by decide))
    refine lv_aload_n hx hb dX0_stamp_93 rfl (lv_at hl 0 rfl) ?_
    refine w_inst hC hX (k := 2) (f := 2) (by decide) (by decide) (sy_thRk hC.2.2.2.2 hM hj hn hk_j (by omega)) q253 rfl (b := true) rfl dX0_stamp_94 ?_
    refine b_ifeq (w := true) (tgt := 131) hx hb dX0_stamp_97 (by decide) (fun h => absurd (h.symm.trans rfl) (by decide)) (fun _ => ?_)
    refine lv_aload_n hx hb dX0_stamp_100 rfl (lv_at hl 0 rfl) ?_
    refine w_cast hC hX (k := 2) (f := 2) (by decide) (by decide) (sy_thRk hC.2.2.2.2 hM hj hn hk_j (by omega)) q253 rfl rfl dX0_stamp_101 ?_
    refine lv_astore_n (lv' := [(1, .ref (β (64 + j))), (0, .ref (β (64 + j)))]) hx hb dX0_stamp_104 rfl hl (by decide) rfl (fun ls hl => ?_)
    refine lv_iconst (v := 0) hx hb dX0_stamp_105 (by decide) ?_
    refine lv_istore_n (lv' := [(2, .int 0), (1, .ref (β (64 + j))), (0, .ref (β (64 + j)))]) hx hb dX0_stamp_106 rfl hl (by decide) rfl (fun ls hl => ?_)
    have hM := hM.pM0 (v := sA μ 2 j + 0) (j := j) (by rw [hk_j]; first | exact Or.inl rfl | exact Or.inr (Or.inl rfl))
    refine w_loop (σ := Nat × MS) (fun y9 H locs ls => y9.1 ≤ sz μ j ∧ (p_numL 2 j (sz μ j - y9.1) y9.1 y9.2 = p_stampLow μ j) ∧ (SR μ y9.2) ∧ (IV y9.2) ∧ (∀ b : Nat, y9.1 ≤ b → sC y9.2 (3 * j + b) = sC μ (3 * j + b)) ∧ Sys D tc x mo β y9.2 H ∧ va_S (sy_A x mo) s.heap H locs ∧ lv_has ls 3 [(2, .int (nI y9.1)), (0, .ref (β (64 + j))), (1, .ref (β (64 + j)))]) (fun y9 => sz μ j - y9.1) ?_ (0, (setA μ 2 j (sA μ 2 j + 0))) ⟨Nat.zero_le _, by unfold p_stampLow; rw [hk_j]; rfl, ⟨rfl, rfl, rfl, rfl, rfl, rfl, rfl⟩, IV_sr ⟨rfl, rfl, rfl, rfl, rfl, rfl, rfl⟩ rfl hI, fun _ _ => rfl, hM, hS, lv_sub hl [0, 2, 1] rfl⟩
    intro y9 H locs ls hI9 ih
    obtain ⟨i, ν⟩ := y9
    obtain ⟨hi, hp, hsr, hIv, hun, hM, hS, hl⟩ := hI9
    have hi : i ≤ sz μ j := hi
    have hp : p_numL 2 j (sz μ j - i) i ν = p_stampLow μ j := hp
    have hsr : SR μ ν := hsr
    have hIv : IV ν := hIv
    have hun : ∀ b : Nat, i ≤ b → sC ν (3 * j + b) = sC μ (3 * j + b) := hun
    have hM : Sys D tc x mo β ν H := hM
    have hl : lv_has ls 3 [(2, .int (nI i)), (0, .ref (β (64 + j))), (1, .ref (β (64 + j)))] := hl
    have hk0 := hk_j
    have hj : j < nn ν := by rw [SR_nn hsr]; exact hj
    have hn : nn ν ≤ 60 := by rw [SR_nn hsr]; exact hn
    have hk_j : kd ν j = 2 := by rw [SR_kd hsr]; exact hk_j
    have h3 : sz ν j ≤ 3 := by rw [SR_sz hsr]; exact h3
    have hz9 : sz ν j = sz μ j := SR_sz hsr j
    refine lv_iload_n hx hb dX0_stamp_107 rfl (lv_at hl 0 rfl) ?_
    refine lv_aload_n hx hb dX0_stamp_108 rfl (lv_at hl 2 rfl) ?_
    refine sy_alen hC hM hj hn (by have := hk_j; show kd ν j ≤ 12; omega) (by rw [show kd ν j = 2 from hk_j]; rfl) dX0_stamp_109 ?_
    refine n_icmp_ge (a := i) (b := (sz ν j)) (tgt := 128) hx hb dX0_stamp_110 (by decide) (by omega) (by omega) (fun c_110 => ?_) (fun c_110 => ?_)
    · refine lv_goto (tgt := 204) hx hb dX0_stamp_128 (by decide) ?_
      exact sy_vret hC hr hlk hM hS (numL_end (by omega) hp) (Nat.le_of_ble_eq_true rfl) (Nat.le_of_ble_eq_true rfl) dX0_stamp_204
    · refine lv_aload_n hx hb dX0_stamp_113 rfl (lv_at hl 2 rfl) ?_
      refine lv_iload_n hx hb dX0_stamp_114 rfl (lv_at hl 0 rfl) ?_
      refine lv_dup2_11 hx hb dX0_stamp_115 rfl rfl ?_
      refine sy_dald hC hM hj hn hk_j h3 i rfl (show i < sz ν j by omega) dX0_stamp_116 ?_
      have hd2 := hD j (by omega) hk0 i (by omega)
      rw [← hun i (Nat.le_refl _)] at hd2
      refine lv_ldc2d (v := 4593671619917905920) hx hb hown (hts _ q443) dX0_stamp_117 ?_
      refine lv_dadd hx hb dX0_stamp_120 (de_add (by omega) (by omega)).2 ?_
      refine sy_dast hC hM hS hj hn hk_j h3 (w := (nextN 2 (sC ν (3 * j + i)))) i rfl (show i < sz ν j by omega) (de_add (by omega) (by omega)).1 dX0_stamp_121 (fun H locs hM hS => ?_)
      refine lv_iinc (v := (nI (i + 1))) (lv' := [(2, .int (nI (i + 1))), (0, .ref (β (64 + j))), (1, .ref (β (64 + j)))]) hx hb dX0_stamp_122 hl (k := 0) rfl (nI_1 i) (by decide) rfl (fun ls hl => ?_)
      refine lv_goto (tgt := 107) hx hb dX0_stamp_125 (by decide) ?_
      exact ih (i + 1, (setC ν (3 * j + i) (nextN 2 (sC ν (3 * j + i))))) H locs ls ⟨by show i + 1 ≤ sz μ j; omega, numL_step (by omega) hp, hsr.tr (SR_setC _ _ _), IV_setC hIv (by omega) (by omega) (by have h9 := nextN_CVp (μ := ν) (j := j) (by rw [hk_j]; rfl) (hIv.2 j (by omega) i (by omega)); rw [hk_j] at h9; exact h9), fun b hb9 => by rw [sC_setC, if_neg (by omega)]; exact hun b (by omega), hM, hS, lv_sub hl [0, 1, 2] rfl⟩ (by show sz μ j - (i + 1) < sz μ j - i; omega)
  · refine lv_aload_n hx hb dX0_stamp_0 rfl (lv_at hl 0 rfl) ?_
    refine w_inst hC hX (k := 3) (f := 13) (by decide) (by decide) (sy_thRk hC.2.2.2.2 hM hj hn hk_j (by omega)) q136 rfl (b := false) rfl dX0_stamp_1 ?_
    refine b_ifeq (w := false) (tgt := 19) hx hb dX0_stamp_4 (by decide) (fun _ => ?_) (fun h => absurd (h.symm.trans rfl) (by decide))
    refine lv_aload_n hx hb dX0_stamp_19 rfl (lv_at hl 0 rfl) ?_
    refine w_inst hC hX (k := 3) (f := 0) (by decide) (by decide) (sy_thRk hC.2.2.2.2 hM hj hn hk_j (by omega)) q100 rfl (b := false) rfl dX0_stamp_20 ?_
    refine b_ifeq (w := false) (tgt := 56) hx hb dX0_stamp_23 (by decide) (fun _ => ?_) (fun h => absurd (h.symm.trans rfl) (by decide))
    refine lv_aload_n hx hb dX0_stamp_56 rfl (lv_at hl 0 rfl) ?_
    refine w_inst hC hX (k := 3) (f := 1) (by decide) (by decide) (sy_thRk hC.2.2.2.2 hM hj hn hk_j (by omega)) q252 rfl (b := false) rfl dX0_stamp_57 ?_
    refine b_ifeq (w := false) (tgt := 93) hx hb dX0_stamp_60 (by decide) (fun _ => ?_) (fun h => absurd (h.symm.trans rfl) (by decide))
    refine lv_aload_n hx hb dX0_stamp_93 rfl (lv_at hl 0 rfl) ?_
    refine w_inst hC hX (k := 3) (f := 2) (by decide) (by decide) (sy_thRk hC.2.2.2.2 hM hj hn hk_j (by omega)) q253 rfl (b := false) rfl dX0_stamp_94 ?_
    refine b_ifeq (w := false) (tgt := 131) hx hb dX0_stamp_97 (by decide) (fun _ => ?_) (fun h => absurd (h.symm.trans rfl) (by decide))
    refine lv_aload_n hx hb dX0_stamp_131 rfl (lv_at hl 0 rfl) ?_
    refine w_inst hC hX (k := 3) (f := 3) (by decide) (by decide) (sy_thRk hC.2.2.2.2 hM hj hn hk_j (by omega)) q255 rfl (b := true) rfl dX0_stamp_132 ?_
    refine b_ifeq (w := true) (tgt := 174) hx hb dX0_stamp_135 (by decide) (fun h => absurd (h.symm.trans rfl) (by decide)) (fun _ => ?_)
    refine lv_aload_n hx hb dX0_stamp_138 rfl (lv_at hl 0 rfl) ?_
    refine w_cast hC hX (k := 3) (f := 3) (by decide) (by decide) (sy_thRk hC.2.2.2.2 hM hj hn hk_j (by omega)) q255 rfl rfl dX0_stamp_139 ?_
    refine lv_astore_n (lv' := [(1, .ref (β (64 + j))), (0, .ref (β (64 + j)))]) hx hb dX0_stamp_142 rfl hl (by decide) rfl (fun ls hl => ?_)
    refine lv_iconst (v := 0) hx hb dX0_stamp_143 (by decide) ?_
    refine lv_istore_n (lv' := [(2, .int 0), (1, .ref (β (64 + j))), (0, .ref (β (64 + j)))]) hx hb dX0_stamp_144 rfl hl (by decide) rfl (fun ls hl => ?_)
    have hM := hM.pM0 (v := sA μ 2 j + 0) (j := j) (by rw [hk_j]; first | exact Or.inl rfl | exact Or.inr (Or.inl rfl))
    refine w_loop (σ := Nat × MS) (fun y9 H locs ls => y9.1 ≤ sz μ j ∧ (p_numL 3 j (sz μ j - y9.1) y9.1 y9.2 = p_stampLow μ j) ∧ (SR μ y9.2) ∧ (IV y9.2) ∧ (∀ b : Nat, y9.1 ≤ b → sC y9.2 (3 * j + b) = sC μ (3 * j + b)) ∧ Sys D tc x mo β y9.2 H ∧ va_S (sy_A x mo) s.heap H locs ∧ lv_has ls 3 [(2, .int (nI y9.1)), (0, .ref (β (64 + j))), (1, .ref (β (64 + j)))]) (fun y9 => sz μ j - y9.1) ?_ (0, (setA μ 2 j (sA μ 2 j + 0))) ⟨Nat.zero_le _, by unfold p_stampLow; rw [hk_j]; rfl, ⟨rfl, rfl, rfl, rfl, rfl, rfl, rfl⟩, IV_sr ⟨rfl, rfl, rfl, rfl, rfl, rfl, rfl⟩ rfl hI, fun _ _ => rfl, hM, hS, lv_sub hl [0, 2, 1] rfl⟩
    intro y9 H locs ls hI9 ih
    obtain ⟨i, ν⟩ := y9
    obtain ⟨hi, hp, hsr, hIv, hun, hM, hS, hl⟩ := hI9
    have hi : i ≤ sz μ j := hi
    have hp : p_numL 3 j (sz μ j - i) i ν = p_stampLow μ j := hp
    have hsr : SR μ ν := hsr
    have hIv : IV ν := hIv
    have hun : ∀ b : Nat, i ≤ b → sC ν (3 * j + b) = sC μ (3 * j + b) := hun
    have hM : Sys D tc x mo β ν H := hM
    have hl : lv_has ls 3 [(2, .int (nI i)), (0, .ref (β (64 + j))), (1, .ref (β (64 + j)))] := hl
    have hk0 := hk_j
    have hj : j < nn ν := by rw [SR_nn hsr]; exact hj
    have hn : nn ν ≤ 60 := by rw [SR_nn hsr]; exact hn
    have hk_j : kd ν j = 3 := by rw [SR_kd hsr]; exact hk_j
    have h3 : sz ν j ≤ 3 := by rw [SR_sz hsr]; exact h3
    have hz9 : sz ν j = sz μ j := SR_sz hsr j
    refine lv_iload_n hx hb dX0_stamp_145 rfl (lv_at hl 0 rfl) ?_
    refine lv_aload_n hx hb dX0_stamp_146 rfl (lv_at hl 2 rfl) ?_
    refine sy_alen hC hM hj hn (by have := hk_j; show kd ν j ≤ 12; omega) (by rw [show kd ν j = 3 from hk_j]; rfl) dX0_stamp_147 ?_
    refine n_icmp_ge (a := i) (b := (sz ν j)) (tgt := 171) hx hb dX0_stamp_148 (by decide) (by omega) (by omega) (fun c_148 => ?_) (fun c_148 => ?_)
    · refine lv_goto (tgt := 204) hx hb dX0_stamp_171 (by decide) ?_
      exact sy_vret hC hr hlk hM hS (numL_end (by omega) hp) (Nat.le_of_ble_eq_true rfl) (Nat.le_of_ble_eq_true rfl) dX0_stamp_204
    · refine lv_aload_n hx hb dX0_stamp_151 rfl (lv_at hl 2 rfl) ?_
      refine lv_iload_n hx hb dX0_stamp_152 rfl (lv_at hl 0 rfl) ?_
      refine lv_aload_n hx hb dX0_stamp_153 rfl (lv_at hl 2 rfl) ?_
      refine lv_iload_n hx hb dX0_stamp_154 rfl (lv_at hl 0 rfl) ?_
      refine sy_zald hC hM hj hn hk_j h3 i rfl (show i < sz ν j by omega) dX0_stamp_155 ?_
      refine w_tern (P := (sC ν (3 * j + i)).toInt32 = 0) (x := 1) (y := 0) (pcT := 159) (pcF := 163) (pcE := 164) (fun a b => lv_if_ne (tgt := 163) hx hb dX0_stamp_156 (by decide) b a) (fun k => lv_iconst (v := 1) hx hb dX0_stamp_159 (by decide) (lv_goto (tgt := 164) hx hb dX0_stamp_160 (by decide) k)) (fun k => lv_iconst (v := 0) hx hb dX0_stamp_163 (by decide) k) ?_
      refine sy_zast hC hM hS hj hn hk_j h3 (w := (nextN 3 (sC ν (3 * j + i)))) i rfl (show i < sz ν j by omega) (nx_z (hIv.2 j (by omega) i (by omega)) hk_j) dX0_stamp_164 (fun H locs hM hS => ?_)
      refine lv_iinc (v := (nI (i + 1))) (lv' := [(2, .int (nI (i + 1))), (0, .ref (β (64 + j))), (1, .ref (β (64 + j)))]) hx hb dX0_stamp_165 hl (k := 0) rfl (nI_1 i) (by decide) rfl (fun ls hl => ?_)
      refine lv_goto (tgt := 145) hx hb dX0_stamp_168 (by decide) ?_
      exact ih (i + 1, (setC ν (3 * j + i) (nextN 3 (sC ν (3 * j + i))))) H locs ls ⟨by show i + 1 ≤ sz μ j; omega, numL_step (by omega) hp, hsr.tr (SR_setC _ _ _), IV_setC hIv (by omega) (by omega) (by have h9 := nextN_CVp (μ := ν) (j := j) (by rw [hk_j]; rfl) (hIv.2 j (by omega) i (by omega)); rw [hk_j] at h9; exact h9), fun b hb9 => by rw [sC_setC, if_neg (by omega)]; exact hun b (by omega), hM, hS, lv_sub hl [0, 1, 2] rfl⟩ (by show sz μ j - (i + 1) < sz μ j - i; omega)
  · refine lv_aload_n hx hb dX0_stamp_0 rfl (lv_at hl 0 rfl) ?_
    refine w_inst hC hX (k := 5) (f := 13) (by decide) (by decide) (sy_thRk hC.2.2.2.2 hM hj hn hk_j (by omega)) q136 rfl (b := true) rfl dX0_stamp_1 ?_
    refine b_ifeq (w := true) (tgt := 19) hx hb dX0_stamp_4 (by decide) (fun h => absurd (h.symm.trans rfl) (by decide)) (fun _ => ?_)
    refine lv_aload_n hx hb dX0_stamp_7 rfl (lv_at hl 0 rfl) ?_
    refine w_cast hC hX (k := 5) (f := 13) (by decide) (by decide) (sy_thRk hC.2.2.2.2 hM hj hn hk_j (by omega)) q136 rfl rfl dX0_stamp_8 ?_
    refine w_YF (As := []) (C := "MailRooms$Card") (y0 := ⟨"MailRooms$Stamped", "stamp", "()V"⟩) hC hX hZ hM hS hml hl.1 (sy_thRk hC.2.2.2.2 hM hj hn hk_j (by omega)) (hC.2.2.2.2.1 3 _ rfl).2 (List.mem_of_getElem? (i := 3) rfl) (k_X3_stamp l hst D tc x mo β μ j hj hn hk_j) q415 q420 q418 q26 q422 rfl ⟨by decide, by decide, rfl⟩ (Nat.le_of_ble_eq_true rfl) (Nat.le_of_ble_eq_true rfl) ⟨(Nat.le_of_ble_eq_true rfl), (Nat.le_of_ble_eq_true rfl)⟩ rfl (Nat.le_of_ble_eq_true rfl) dX0_stamp_11 (fun H locs hM hS => ?_)
    refine lv_goto (tgt := 204) hx hb dX0_stamp_16 (by decide) ?_
    exact sy_vret hC hr hlk hM hS (by unfold p_stampLow; rw [hk_j]; rfl) (Nat.le_of_ble_eq_true rfl) (Nat.le_of_ble_eq_true rfl) dX0_stamp_204
  · refine lv_aload_n hx hb dX0_stamp_0 rfl (lv_at hl 0 rfl) ?_
    refine w_inst hC hX (k := 6) (f := 13) (by decide) (by decide) (sy_thRk hC.2.2.2.2 hM hj hn hk_j (by omega)) q136 rfl (b := true) rfl dX0_stamp_1 ?_
    refine b_ifeq (w := true) (tgt := 19) hx hb dX0_stamp_4 (by decide) (fun h => absurd (h.symm.trans rfl) (by decide)) (fun _ => ?_)
    refine lv_aload_n hx hb dX0_stamp_7 rfl (lv_at hl 0 rfl) ?_
    refine w_cast hC hX (k := 6) (f := 13) (by decide) (by decide) (sy_thRk hC.2.2.2.2 hM hj hn hk_j (by omega)) q136 rfl rfl dX0_stamp_8 ?_
    refine w_YF (As := []) (C := "MailRooms$GoldCard") (y0 := ⟨"MailRooms$Stamped", "stamp", "()V"⟩) hC hX hZ hM hS hml hl.1 (sy_thRk hC.2.2.2.2 hM hj hn hk_j (by omega)) (hC.2.2.2.2.1 4 _ rfl).2 (List.mem_of_getElem? (i := 4) rfl) (k_X4_stamp l hst D tc x mo β μ j hj hn hk_j) q415 q431 q429 q27 q433 rfl ⟨by decide, by decide, rfl⟩ (Nat.le_of_ble_eq_true rfl) (Nat.le_of_ble_eq_true rfl) ⟨(Nat.le_of_ble_eq_true rfl), (Nat.le_of_ble_eq_true rfl)⟩ rfl (Nat.le_of_ble_eq_true rfl) dX0_stamp_11 (fun H locs hM hS => ?_)
    refine lv_goto (tgt := 204) hx hb dX0_stamp_16 (by decide) ?_
    exact sy_vret hC hr hlk hM hS (by unfold p_stampLow; rw [hk_j]; rfl) (Nat.le_of_ble_eq_true rfl) (Nat.le_of_ble_eq_true rfl) dX0_stamp_204
  · refine lv_aload_n hx hb dX0_stamp_0 rfl (lv_at hl 0 rfl) ?_
    refine w_inst hC hX (k := 7) (f := 13) (by decide) (by decide) (sy_thRk hC.2.2.2.2 hM hj hn hk_j (by omega)) q136 rfl (b := true) rfl dX0_stamp_1 ?_
    refine b_ifeq (w := true) (tgt := 19) hx hb dX0_stamp_4 (by decide) (fun h => absurd (h.symm.trans rfl) (by decide)) (fun _ => ?_)
    refine lv_aload_n hx hb dX0_stamp_7 rfl (lv_at hl 0 rfl) ?_
    refine w_cast hC hX (k := 7) (f := 13) (by decide) (by decide) (sy_thRk hC.2.2.2.2 hM hj hn hk_j (by omega)) q136 rfl rfl dX0_stamp_8 ?_
    refine w_YF (As := []) (C := "MailRooms$Token") (y0 := ⟨"MailRooms$Stamped", "stamp", "()V"⟩) hC hX hZ hM hS hml hl.1 (sy_thRk hC.2.2.2.2 hM hj hn hk_j (by omega)) (hC.2.2.2.2.1 5 _ rfl).2 (List.mem_of_getElem? (i := 5) rfl) (k_X5_stamp l hst D tc x mo β μ j hj hn hk_j) q415 q440 q438 q28 q442 rfl ⟨by decide, by decide, rfl⟩ (Nat.le_of_ble_eq_true rfl) (Nat.le_of_ble_eq_true rfl) ⟨(Nat.le_of_ble_eq_true rfl), (Nat.le_of_ble_eq_true rfl)⟩ rfl (Nat.le_of_ble_eq_true rfl) dX0_stamp_11 (fun H locs hM hS => ?_)
    refine lv_goto (tgt := 204) hx hb dX0_stamp_16 (by decide) ?_
    exact sy_vret hC hr hlk hM hS (by unfold p_stampLow; rw [hk_j]; rfl) (Nat.le_of_ble_eq_true rfl) (Nat.le_of_ble_eq_true rfl) dX0_stamp_204
theorem k_X0_stamp1 (l : Launch) (hst : l.stackTraces = false) (D : va_G) (tc : Nat → ClassId) (x mo : Nat) (β : Nat → Nat) (μ : MS) (hI : IV μ) (b : Nat) (hb52 : b + 20 < 2 ^ 52) (hD : DB b μ) (j : Nat) (hj : j < nn μ) (hk : thgN (kd μ j) = true) (hk11 : kd μ j < 11) : YC l yX0_stamp cX0_stamp 3 none 3 63 0 0 D tc x mo β [.ref (β (64 + j))] μ (p_stampRow μ j) none := by
  refine YC.of (by decide) rfl (Nat.le_of_ble_eq_true rfl) ?_
  intro p e s m below meth c hC hX hZ hr hlk hml hM hS ls hl
  have hx := hC.1
  have hb := hC.2.1
  have hts := hC.2.2.1
  have hown := hC.2.2.2.1
  have hl : lv_has ls 3 [(0, .ref (β (64 + j)))] := hl
  have hn := hI.1.1.2
  have h12 := (hI.1.2.1 j (by omega)).2.1
  have h3 := (hI.1.2.1 j (by omega)).2.2.2
  rcases (by simp [thgN] at hk; omega : kd μ j = 4 ∨ kd μ j = 8 ∨ kd μ j = 9 ∨ kd μ j = 10) with hk_j | hk_j | hk_j | hk_j
  · refine lv_aload_n hx hb dX0_stamp_0 rfl (lv_at hl 0 rfl) ?_
    refine w_inst hC hX (k := 4) (f := 13) (by decide) (by decide) (sy_thRk hC.2.2.2.2 hM hj hn hk_j (by omega)) q136 rfl (b := false) rfl dX0_stamp_1 ?_
    refine b_ifeq (w := false) (tgt := 19) hx hb dX0_stamp_4 (by decide) (fun _ => ?_) (fun h => absurd (h.symm.trans rfl) (by decide))
    refine lv_aload_n hx hb dX0_stamp_19 rfl (lv_at hl 0 rfl) ?_
    refine w_inst hC hX (k := 4) (f := 0) (by decide) (by decide) (sy_thRk hC.2.2.2.2 hM hj hn hk_j (by omega)) q100 rfl (b := false) rfl dX0_stamp_20 ?_
    refine b_ifeq (w := false) (tgt := 56) hx hb dX0_stamp_23 (by decide) (fun _ => ?_) (fun h => absurd (h.symm.trans rfl) (by decide))
    refine lv_aload_n hx hb dX0_stamp_56 rfl (lv_at hl 0 rfl) ?_
    refine w_inst hC hX (k := 4) (f := 1) (by decide) (by decide) (sy_thRk hC.2.2.2.2 hM hj hn hk_j (by omega)) q252 rfl (b := false) rfl dX0_stamp_57 ?_
    refine b_ifeq (w := false) (tgt := 93) hx hb dX0_stamp_60 (by decide) (fun _ => ?_) (fun h => absurd (h.symm.trans rfl) (by decide))
    refine lv_aload_n hx hb dX0_stamp_93 rfl (lv_at hl 0 rfl) ?_
    refine w_inst hC hX (k := 4) (f := 2) (by decide) (by decide) (sy_thRk hC.2.2.2.2 hM hj hn hk_j (by omega)) q253 rfl (b := false) rfl dX0_stamp_94 ?_
    refine b_ifeq (w := false) (tgt := 131) hx hb dX0_stamp_97 (by decide) (fun _ => ?_) (fun h => absurd (h.symm.trans rfl) (by decide))
    refine lv_aload_n hx hb dX0_stamp_131 rfl (lv_at hl 0 rfl) ?_
    refine w_inst hC hX (k := 4) (f := 3) (by decide) (by decide) (sy_thRk hC.2.2.2.2 hM hj hn hk_j (by omega)) q255 rfl (b := false) rfl dX0_stamp_132 ?_
    refine b_ifeq (w := false) (tgt := 174) hx hb dX0_stamp_135 (by decide) (fun _ => ?_) (fun h => absurd (h.symm.trans rfl) (by decide))
    refine lv_iconst (v := 0) hx hb dX0_stamp_174 (by decide) ?_
    refine lv_istore_n (lv' := [(1, .int 0), (0, .ref (β (64 + j)))]) hx hb dX0_stamp_175 rfl hl (by decide) rfl (fun ls hl => ?_)
    have hM := hM.pM0 (v := sA μ 2 j + 0) (j := j) (by rw [hk_j]; exact Or.inr (Or.inr rfl))
    refine w_loop (σ := Nat × MS) (fun y9 H locs ls => y9.1 ≤ sz μ j ∧ (p_rowL p_stampLow j (sz μ j - y9.1) y9.1 y9.2 = p_stampRow μ j) ∧ (SR μ y9.2) ∧ (IV y9.2) ∧ (DB (b + 1 + y9.1 * 1) y9.2) ∧ Sys D tc x mo β y9.2 H ∧ va_S (sy_A x mo) s.heap H locs ∧ lv_has ls 3 [(1, .int (nI y9.1)), (0, .ref (β (64 + j)))]) (fun y9 => sz μ j - y9.1) ?_ (0, (setA μ 2 j (sA μ 2 j + 0))) ⟨Nat.zero_le _, by unfold p_stampRow p_stampLow; rw [hk_j]; rfl, ⟨rfl, rfl, rfl, rfl, rfl, rfl, rfl⟩, IV_sr ⟨rfl, rfl, rfl, rfl, rfl, rfl, rfl⟩ rfl hI, DB_sr ⟨rfl, rfl, rfl, rfl, rfl, rfl, rfl⟩ rfl (DB_mono hD (by omega)), hM, hS, lv_sub hl [0, 1] rfl⟩
    intro y9 H locs ls hI9 ih
    obtain ⟨i, ν⟩ := y9
    obtain ⟨hi, hp, hsr, hIv, hDv, hM, hS, hl⟩ := hI9
    have hi : i ≤ sz μ j := hi
    have hp : p_rowL p_stampLow j (sz μ j - i) i ν = p_stampRow μ j := hp
    have hsr : SR μ ν := hsr
    have hIv : IV ν := hIv
    have hDv : DB (b + 1 + i * 1) ν := hDv
    have hM : Sys D tc x mo β ν H := hM
    have hl : lv_has ls 3 [(1, .int (nI i)), (0, .ref (β (64 + j)))] := hl
    have hn9 : nn ν = nn μ := SR_nn hsr
    refine lv_iload_n hx hb dX0_stamp_176 rfl (lv_at hl 0 rfl) ?_
    refine lv_aload_n hx hb dX0_stamp_177 rfl (lv_at hl 1 rfl) ?_
    refine w_YS (As := [.ref (β (64 + j))]) hC hX hZ hM hS hml hl.1 (k_X0_size l hst D tc x mo β ν j (by rw [SR_nn hsr]; exact hj) (by rw [SR_nn hsr]; exact hn) (by rw [SR_kd hsr]; exact h12)) q399 q400 q23 q401 rfl ⟨by decide, by decide, rfl⟩ (Nat.le_of_ble_eq_true rfl) (Nat.le_of_ble_eq_true rfl) ⟨(Nat.le_of_ble_eq_true rfl), (Nat.le_of_ble_eq_true rfl)⟩ rfl (Nat.le_of_ble_eq_true rfl) dX0_stamp_178 (fun H locs hM hS => ?_)
    refine w_top (y := .int (nI (sz μ j))) (by unfold talI; rw [SR_kd hsr, SR_sz hsr, hk_j]; rfl) ?_
    refine n_icmp_ge (a := i) (b := (sz μ j)) (tgt := 204) hx hb dX0_stamp_181 (by decide) (by omega) (by omega) (fun c_181 => ?_) (fun c_181 => ?_)
    · exact sy_vret hC hr hlk hM hS (rowL_end (by omega) hp) (Nat.le_of_ble_eq_true rfl) (Nat.le_of_ble_eq_true rfl) dX0_stamp_204
    · refine lv_aload_n hx hb dX0_stamp_184 rfl (lv_at hl 1 rfl) ?_
      refine lv_iload_n hx hb dX0_stamp_185 rfl (lv_at hl 0 rfl) ?_
      refine w_YS (As := [.ref (β (64 + j)), .int (nI i)]) hC hX hZ hM hS hml hl.1 (k_X0_part_ok l hst D tc x mo β ν j (by rw [SR_nn hsr]; exact hj) (by rw [SR_nn hsr]; exact hn) (by rw [SR_kd hsr]; exact hk) (by rw [SR_kd hsr]; exact h12) (by rw [SR_sz hsr]; exact h3) i (by rw [SR_sz hsr]; omega)) q291 q292 q23 q293 rfl ⟨by decide, by decide, rfl⟩ (Nat.le_of_ble_eq_true rfl) (Nat.le_of_ble_eq_true rfl) ⟨(Nat.le_of_ble_eq_true rfl), (Nat.le_of_ble_eq_true rfl)⟩ rfl (Nat.le_of_ble_eq_true rfl) dX0_stamp_186 (fun H locs hM hS => ?_)
      rcases CV_thg (j := j) hIv (by omega) (show i < 3 by omega) (by rw [SR_kd hsr]; exact hk) with e8 | ⟨y8, hy8, e8, g8⟩
      · refine w_top (y := .null) (by rw [e8]; rfl) ?_
        refine lv_astore_nN (lv' := [(2, .null), (1, .int (nI i)), (0, .ref (β (64 + j)))]) hx hb dX0_stamp_189 rfl hl (by decide) rfl (fun ls hl => ?_)
        refine lv_aload_nN hx hb dX0_stamp_190 rfl (lv_at hl 0 rfl) ?_
        refine lv_ifnullN (tgt := 198) hx hb dX0_stamp_191 (by decide) ?_
        refine lv_iinc (v := (nI (i + 1))) (lv' := [(1, .int (nI (i + 1))), (2, .null), (0, .ref (β (64 + j)))]) hx hb dX0_stamp_198 hl (k := 1) rfl (nI_1 i) (by decide) rfl (fun ls hl => ?_)
        refine lv_goto (tgt := 176) hx hb dX0_stamp_201 (by decide) ?_
        exact ih (i + 1, ν) H locs ls ⟨by show i + 1 ≤ sz μ j; omega, rowL_skip (by omega) hp e8, hsr, hIv, DB_mono hDv (by omega), hM, hS, lv_sub hl [0, 2] rfl⟩ (by show sz μ j - (i + 1) < sz μ j - i; omega)
      · refine w_top (y := .ref (β (64 + y8))) (by rw [e8, qT_N (by omega)]; rfl) ?_
        refine lv_astore_n (lv' := [(2, .ref (β (64 + y8))), (1, .int (nI i)), (0, .ref (β (64 + j)))]) hx hb dX0_stamp_189 rfl hl (by decide) rfl (fun ls hl => ?_)
        refine lv_aload_n hx hb dX0_stamp_190 rfl (lv_at hl 0 rfl) ?_
        refine lv_ifnull hx hb dX0_stamp_191 ?_
        refine lv_aload_n hx hb dX0_stamp_194 rfl (lv_at hl 0 rfl) ?_
        refine w_YS (As := [.ref (β (64 + y8))]) hC hX hZ hM hS hml hl.1 (k_X0_stamp0 l hst D tc x mo β ν hIv (b + 1 + i * 1) (by omega) hDv y8 hy8 (low_of (kd ν y8) (by have := (hIv.1.2.1 y8 (by omega)).2.1; omega) (kd μ j) (by rw [hk_j]; decide) (by have h := g8; rw [SR_kd hsr j] at h; exact h))) q411 q412 q23 q413 rfl ⟨by decide, by decide, rfl⟩ (Nat.le_of_ble_eq_true rfl) (Nat.le_of_ble_eq_true rfl) ⟨(Nat.le_of_ble_eq_true rfl), (Nat.le_of_ble_eq_true rfl)⟩ rfl (Nat.le_of_ble_eq_true rfl) dX0_stamp_195 (fun H locs hM hS => ?_)
        refine lv_iinc (v := (nI (i + 1))) (lv' := [(1, .int (nI (i + 1))), (2, .ref (β (64 + y8))), (0, .ref (β (64 + j)))]) hx hb dX0_stamp_198 hl (k := 1) rfl (nI_1 i) (by decide) rfl (fun ls hl => ?_)
        refine lv_goto (tgt := 176) hx hb dX0_stamp_201 (by decide) ?_
        exact ih (i + 1, (p_stampLow ν y8)) H locs ls ⟨by show i + 1 ≤ sz μ j; omega, rowL_do (by omega) hp (by rw [e8]; exact lN_m1 (by omega)) (by omega) e8, hsr.tr (stampLow_SR _ _), stampLow_IV hIv (by omega), DB_mono (stampLow_DB (hIv.1.2.1 y8 (by omega)).2.2.2 (by omega) hDv) (by omega), hM, hS, lv_sub hl [0, 2] rfl⟩ (by show sz μ j - (i + 1) < sz μ j - i; omega)
  · refine lv_aload_n hx hb dX0_stamp_0 rfl (lv_at hl 0 rfl) ?_
    refine w_inst hC hX (k := 8) (f := 13) (by decide) (by decide) (sy_thRk hC.2.2.2.2 hM hj hn hk_j (by omega)) q136 rfl (b := false) rfl dX0_stamp_1 ?_
    refine b_ifeq (w := false) (tgt := 19) hx hb dX0_stamp_4 (by decide) (fun _ => ?_) (fun h => absurd (h.symm.trans rfl) (by decide))
    refine lv_aload_n hx hb dX0_stamp_19 rfl (lv_at hl 0 rfl) ?_
    refine w_inst hC hX (k := 8) (f := 0) (by decide) (by decide) (sy_thRk hC.2.2.2.2 hM hj hn hk_j (by omega)) q100 rfl (b := false) rfl dX0_stamp_20 ?_
    refine b_ifeq (w := false) (tgt := 56) hx hb dX0_stamp_23 (by decide) (fun _ => ?_) (fun h => absurd (h.symm.trans rfl) (by decide))
    refine lv_aload_n hx hb dX0_stamp_56 rfl (lv_at hl 0 rfl) ?_
    refine w_inst hC hX (k := 8) (f := 1) (by decide) (by decide) (sy_thRk hC.2.2.2.2 hM hj hn hk_j (by omega)) q252 rfl (b := false) rfl dX0_stamp_57 ?_
    refine b_ifeq (w := false) (tgt := 93) hx hb dX0_stamp_60 (by decide) (fun _ => ?_) (fun h => absurd (h.symm.trans rfl) (by decide))
    refine lv_aload_n hx hb dX0_stamp_93 rfl (lv_at hl 0 rfl) ?_
    refine w_inst hC hX (k := 8) (f := 2) (by decide) (by decide) (sy_thRk hC.2.2.2.2 hM hj hn hk_j (by omega)) q253 rfl (b := false) rfl dX0_stamp_94 ?_
    refine b_ifeq (w := false) (tgt := 131) hx hb dX0_stamp_97 (by decide) (fun _ => ?_) (fun h => absurd (h.symm.trans rfl) (by decide))
    refine lv_aload_n hx hb dX0_stamp_131 rfl (lv_at hl 0 rfl) ?_
    refine w_inst hC hX (k := 8) (f := 3) (by decide) (by decide) (sy_thRk hC.2.2.2.2 hM hj hn hk_j (by omega)) q255 rfl (b := false) rfl dX0_stamp_132 ?_
    refine b_ifeq (w := false) (tgt := 174) hx hb dX0_stamp_135 (by decide) (fun _ => ?_) (fun h => absurd (h.symm.trans rfl) (by decide))
    refine lv_iconst (v := 0) hx hb dX0_stamp_174 (by decide) ?_
    refine lv_istore_n (lv' := [(1, .int 0), (0, .ref (β (64 + j)))]) hx hb dX0_stamp_175 rfl hl (by decide) rfl (fun ls hl => ?_)
    have hM := hM.pM0 (v := sA μ 2 j + 0) (j := j) (by rw [hk_j]; exact Or.inr (Or.inr rfl))
    refine w_loop (σ := Nat × MS) (fun y9 H locs ls => y9.1 ≤ sz μ j ∧ (p_rowL p_stampLow j (sz μ j - y9.1) y9.1 y9.2 = p_stampRow μ j) ∧ (SR μ y9.2) ∧ (IV y9.2) ∧ (DB (b + 1 + y9.1 * 1) y9.2) ∧ Sys D tc x mo β y9.2 H ∧ va_S (sy_A x mo) s.heap H locs ∧ lv_has ls 3 [(1, .int (nI y9.1)), (0, .ref (β (64 + j)))]) (fun y9 => sz μ j - y9.1) ?_ (0, (setA μ 2 j (sA μ 2 j + 0))) ⟨Nat.zero_le _, by unfold p_stampRow p_stampLow; rw [hk_j]; rfl, ⟨rfl, rfl, rfl, rfl, rfl, rfl, rfl⟩, IV_sr ⟨rfl, rfl, rfl, rfl, rfl, rfl, rfl⟩ rfl hI, DB_sr ⟨rfl, rfl, rfl, rfl, rfl, rfl, rfl⟩ rfl (DB_mono hD (by omega)), hM, hS, lv_sub hl [0, 1] rfl⟩
    intro y9 H locs ls hI9 ih
    obtain ⟨i, ν⟩ := y9
    obtain ⟨hi, hp, hsr, hIv, hDv, hM, hS, hl⟩ := hI9
    have hi : i ≤ sz μ j := hi
    have hp : p_rowL p_stampLow j (sz μ j - i) i ν = p_stampRow μ j := hp
    have hsr : SR μ ν := hsr
    have hIv : IV ν := hIv
    have hDv : DB (b + 1 + i * 1) ν := hDv
    have hM : Sys D tc x mo β ν H := hM
    have hl : lv_has ls 3 [(1, .int (nI i)), (0, .ref (β (64 + j)))] := hl
    have hn9 : nn ν = nn μ := SR_nn hsr
    refine lv_iload_n hx hb dX0_stamp_176 rfl (lv_at hl 0 rfl) ?_
    refine lv_aload_n hx hb dX0_stamp_177 rfl (lv_at hl 1 rfl) ?_
    refine w_YS (As := [.ref (β (64 + j))]) hC hX hZ hM hS hml hl.1 (k_X0_size l hst D tc x mo β ν j (by rw [SR_nn hsr]; exact hj) (by rw [SR_nn hsr]; exact hn) (by rw [SR_kd hsr]; exact h12)) q399 q400 q23 q401 rfl ⟨by decide, by decide, rfl⟩ (Nat.le_of_ble_eq_true rfl) (Nat.le_of_ble_eq_true rfl) ⟨(Nat.le_of_ble_eq_true rfl), (Nat.le_of_ble_eq_true rfl)⟩ rfl (Nat.le_of_ble_eq_true rfl) dX0_stamp_178 (fun H locs hM hS => ?_)
    refine w_top (y := .int (nI (sz μ j))) (by unfold talI; rw [SR_kd hsr, SR_sz hsr, hk_j]; rfl) ?_
    refine n_icmp_ge (a := i) (b := (sz μ j)) (tgt := 204) hx hb dX0_stamp_181 (by decide) (by omega) (by omega) (fun c_181 => ?_) (fun c_181 => ?_)
    · exact sy_vret hC hr hlk hM hS (rowL_end (by omega) hp) (Nat.le_of_ble_eq_true rfl) (Nat.le_of_ble_eq_true rfl) dX0_stamp_204
    · refine lv_aload_n hx hb dX0_stamp_184 rfl (lv_at hl 1 rfl) ?_
      refine lv_iload_n hx hb dX0_stamp_185 rfl (lv_at hl 0 rfl) ?_
      refine w_YS (As := [.ref (β (64 + j)), .int (nI i)]) hC hX hZ hM hS hml hl.1 (k_X0_part_ok l hst D tc x mo β ν j (by rw [SR_nn hsr]; exact hj) (by rw [SR_nn hsr]; exact hn) (by rw [SR_kd hsr]; exact hk) (by rw [SR_kd hsr]; exact h12) (by rw [SR_sz hsr]; exact h3) i (by rw [SR_sz hsr]; omega)) q291 q292 q23 q293 rfl ⟨by decide, by decide, rfl⟩ (Nat.le_of_ble_eq_true rfl) (Nat.le_of_ble_eq_true rfl) ⟨(Nat.le_of_ble_eq_true rfl), (Nat.le_of_ble_eq_true rfl)⟩ rfl (Nat.le_of_ble_eq_true rfl) dX0_stamp_186 (fun H locs hM hS => ?_)
      rcases CV_thg (j := j) hIv (by omega) (show i < 3 by omega) (by rw [SR_kd hsr]; exact hk) with e8 | ⟨y8, hy8, e8, g8⟩
      · refine w_top (y := .null) (by rw [e8]; rfl) ?_
        refine lv_astore_nN (lv' := [(2, .null), (1, .int (nI i)), (0, .ref (β (64 + j)))]) hx hb dX0_stamp_189 rfl hl (by decide) rfl (fun ls hl => ?_)
        refine lv_aload_nN hx hb dX0_stamp_190 rfl (lv_at hl 0 rfl) ?_
        refine lv_ifnullN (tgt := 198) hx hb dX0_stamp_191 (by decide) ?_
        refine lv_iinc (v := (nI (i + 1))) (lv' := [(1, .int (nI (i + 1))), (2, .null), (0, .ref (β (64 + j)))]) hx hb dX0_stamp_198 hl (k := 1) rfl (nI_1 i) (by decide) rfl (fun ls hl => ?_)
        refine lv_goto (tgt := 176) hx hb dX0_stamp_201 (by decide) ?_
        exact ih (i + 1, ν) H locs ls ⟨by show i + 1 ≤ sz μ j; omega, rowL_skip (by omega) hp e8, hsr, hIv, DB_mono hDv (by omega), hM, hS, lv_sub hl [0, 2] rfl⟩ (by show sz μ j - (i + 1) < sz μ j - i; omega)
      · refine w_top (y := .ref (β (64 + y8))) (by rw [e8, qT_N (by omega)]; rfl) ?_
        refine lv_astore_n (lv' := [(2, .ref (β (64 + y8))), (1, .int (nI i)), (0, .ref (β (64 + j)))]) hx hb dX0_stamp_189 rfl hl (by decide) rfl (fun ls hl => ?_)
        refine lv_aload_n hx hb dX0_stamp_190 rfl (lv_at hl 0 rfl) ?_
        refine lv_ifnull hx hb dX0_stamp_191 ?_
        refine lv_aload_n hx hb dX0_stamp_194 rfl (lv_at hl 0 rfl) ?_
        refine w_YS (As := [.ref (β (64 + y8))]) hC hX hZ hM hS hml hl.1 (k_X0_stamp0 l hst D tc x mo β ν hIv (b + 1 + i * 1) (by omega) hDv y8 hy8 (low_of (kd ν y8) (by have := (hIv.1.2.1 y8 (by omega)).2.1; omega) (kd μ j) (by rw [hk_j]; decide) (by have h := g8; rw [SR_kd hsr j] at h; exact h))) q411 q412 q23 q413 rfl ⟨by decide, by decide, rfl⟩ (Nat.le_of_ble_eq_true rfl) (Nat.le_of_ble_eq_true rfl) ⟨(Nat.le_of_ble_eq_true rfl), (Nat.le_of_ble_eq_true rfl)⟩ rfl (Nat.le_of_ble_eq_true rfl) dX0_stamp_195 (fun H locs hM hS => ?_)
        refine lv_iinc (v := (nI (i + 1))) (lv' := [(1, .int (nI (i + 1))), (2, .ref (β (64 + y8))), (0, .ref (β (64 + j)))]) hx hb dX0_stamp_198 hl (k := 1) rfl (nI_1 i) (by decide) rfl (fun ls hl => ?_)
        refine lv_goto (tgt := 176) hx hb dX0_stamp_201 (by decide) ?_
        exact ih (i + 1, (p_stampLow ν y8)) H locs ls ⟨by show i + 1 ≤ sz μ j; omega, rowL_do (by omega) hp (by rw [e8]; exact lN_m1 (by omega)) (by omega) e8, hsr.tr (stampLow_SR _ _), stampLow_IV hIv (by omega), DB_mono (stampLow_DB (hIv.1.2.1 y8 (by omega)).2.2.2 (by omega) hDv) (by omega), hM, hS, lv_sub hl [0, 2] rfl⟩ (by show sz μ j - (i + 1) < sz μ j - i; omega)
  · refine lv_aload_n hx hb dX0_stamp_0 rfl (lv_at hl 0 rfl) ?_
    refine w_inst hC hX (k := 9) (f := 13) (by decide) (by decide) (sy_thRk hC.2.2.2.2 hM hj hn hk_j (by omega)) q136 rfl (b := false) rfl dX0_stamp_1 ?_
    refine b_ifeq (w := false) (tgt := 19) hx hb dX0_stamp_4 (by decide) (fun _ => ?_) (fun h => absurd (h.symm.trans rfl) (by decide))
    refine lv_aload_n hx hb dX0_stamp_19 rfl (lv_at hl 0 rfl) ?_
    refine w_inst hC hX (k := 9) (f := 0) (by decide) (by decide) (sy_thRk hC.2.2.2.2 hM hj hn hk_j (by omega)) q100 rfl (b := false) rfl dX0_stamp_20 ?_
    refine b_ifeq (w := false) (tgt := 56) hx hb dX0_stamp_23 (by decide) (fun _ => ?_) (fun h => absurd (h.symm.trans rfl) (by decide))
    refine lv_aload_n hx hb dX0_stamp_56 rfl (lv_at hl 0 rfl) ?_
    refine w_inst hC hX (k := 9) (f := 1) (by decide) (by decide) (sy_thRk hC.2.2.2.2 hM hj hn hk_j (by omega)) q252 rfl (b := false) rfl dX0_stamp_57 ?_
    refine b_ifeq (w := false) (tgt := 93) hx hb dX0_stamp_60 (by decide) (fun _ => ?_) (fun h => absurd (h.symm.trans rfl) (by decide))
    refine lv_aload_n hx hb dX0_stamp_93 rfl (lv_at hl 0 rfl) ?_
    refine w_inst hC hX (k := 9) (f := 2) (by decide) (by decide) (sy_thRk hC.2.2.2.2 hM hj hn hk_j (by omega)) q253 rfl (b := false) rfl dX0_stamp_94 ?_
    refine b_ifeq (w := false) (tgt := 131) hx hb dX0_stamp_97 (by decide) (fun _ => ?_) (fun h => absurd (h.symm.trans rfl) (by decide))
    refine lv_aload_n hx hb dX0_stamp_131 rfl (lv_at hl 0 rfl) ?_
    refine w_inst hC hX (k := 9) (f := 3) (by decide) (by decide) (sy_thRk hC.2.2.2.2 hM hj hn hk_j (by omega)) q255 rfl (b := false) rfl dX0_stamp_132 ?_
    refine b_ifeq (w := false) (tgt := 174) hx hb dX0_stamp_135 (by decide) (fun _ => ?_) (fun h => absurd (h.symm.trans rfl) (by decide))
    refine lv_iconst (v := 0) hx hb dX0_stamp_174 (by decide) ?_
    refine lv_istore_n (lv' := [(1, .int 0), (0, .ref (β (64 + j)))]) hx hb dX0_stamp_175 rfl hl (by decide) rfl (fun ls hl => ?_)
    have hM := hM.pM0 (v := sA μ 2 j + 0) (j := j) (by rw [hk_j]; exact Or.inr (Or.inr rfl))
    refine w_loop (σ := Nat × MS) (fun y9 H locs ls => y9.1 ≤ sz μ j ∧ (p_rowL p_stampLow j (sz μ j - y9.1) y9.1 y9.2 = p_stampRow μ j) ∧ (SR μ y9.2) ∧ (IV y9.2) ∧ (DB (b + 1 + y9.1 * 1) y9.2) ∧ Sys D tc x mo β y9.2 H ∧ va_S (sy_A x mo) s.heap H locs ∧ lv_has ls 3 [(1, .int (nI y9.1)), (0, .ref (β (64 + j)))]) (fun y9 => sz μ j - y9.1) ?_ (0, (setA μ 2 j (sA μ 2 j + 0))) ⟨Nat.zero_le _, by unfold p_stampRow p_stampLow; rw [hk_j]; rfl, ⟨rfl, rfl, rfl, rfl, rfl, rfl, rfl⟩, IV_sr ⟨rfl, rfl, rfl, rfl, rfl, rfl, rfl⟩ rfl hI, DB_sr ⟨rfl, rfl, rfl, rfl, rfl, rfl, rfl⟩ rfl (DB_mono hD (by omega)), hM, hS, lv_sub hl [0, 1] rfl⟩
    intro y9 H locs ls hI9 ih
    obtain ⟨i, ν⟩ := y9
    obtain ⟨hi, hp, hsr, hIv, hDv, hM, hS, hl⟩ := hI9
    have hi : i ≤ sz μ j := hi
    have hp : p_rowL p_stampLow j (sz μ j - i) i ν = p_stampRow μ j := hp
    have hsr : SR μ ν := hsr
    have hIv : IV ν := hIv
    have hDv : DB (b + 1 + i * 1) ν := hDv
    have hM : Sys D tc x mo β ν H := hM
    have hl : lv_has ls 3 [(1, .int (nI i)), (0, .ref (β (64 + j)))] := hl
    have hn9 : nn ν = nn μ := SR_nn hsr
    refine lv_iload_n hx hb dX0_stamp_176 rfl (lv_at hl 0 rfl) ?_
    refine lv_aload_n hx hb dX0_stamp_177 rfl (lv_at hl 1 rfl) ?_
    refine w_YS (As := [.ref (β (64 + j))]) hC hX hZ hM hS hml hl.1 (k_X0_size l hst D tc x mo β ν j (by rw [SR_nn hsr]; exact hj) (by rw [SR_nn hsr]; exact hn) (by rw [SR_kd hsr]; exact h12)) q399 q400 q23 q401 rfl ⟨by decide, by decide, rfl⟩ (Nat.le_of_ble_eq_true rfl) (Nat.le_of_ble_eq_true rfl) ⟨(Nat.le_of_ble_eq_true rfl), (Nat.le_of_ble_eq_true rfl)⟩ rfl (Nat.le_of_ble_eq_true rfl) dX0_stamp_178 (fun H locs hM hS => ?_)
    refine w_top (y := .int (nI (sz μ j))) (by unfold talI; rw [SR_kd hsr, SR_sz hsr, hk_j]; rfl) ?_
    refine n_icmp_ge (a := i) (b := (sz μ j)) (tgt := 204) hx hb dX0_stamp_181 (by decide) (by omega) (by omega) (fun c_181 => ?_) (fun c_181 => ?_)
    · exact sy_vret hC hr hlk hM hS (rowL_end (by omega) hp) (Nat.le_of_ble_eq_true rfl) (Nat.le_of_ble_eq_true rfl) dX0_stamp_204
    · refine lv_aload_n hx hb dX0_stamp_184 rfl (lv_at hl 1 rfl) ?_
      refine lv_iload_n hx hb dX0_stamp_185 rfl (lv_at hl 0 rfl) ?_
      refine w_YS (As := [.ref (β (64 + j)), .int (nI i)]) hC hX hZ hM hS hml hl.1 (k_X0_part_ok l hst D tc x mo β ν j (by rw [SR_nn hsr]; exact hj) (by rw [SR_nn hsr]; exact hn) (by rw [SR_kd hsr]; exact hk) (by rw [SR_kd hsr]; exact h12) (by rw [SR_sz hsr]; exact h3) i (by rw [SR_sz hsr]; omega)) q291 q292 q23 q293 rfl ⟨by decide, by decide, rfl⟩ (Nat.le_of_ble_eq_true rfl) (Nat.le_of_ble_eq_true rfl) ⟨(Nat.le_of_ble_eq_true rfl), (Nat.le_of_ble_eq_true rfl)⟩ rfl (Nat.le_of_ble_eq_true rfl) dX0_stamp_186 (fun H locs hM hS => ?_)
      rcases CV_thg (j := j) hIv (by omega) (show i < 3 by omega) (by rw [SR_kd hsr]; exact hk) with e8 | ⟨y8, hy8, e8, g8⟩
      · refine w_top (y := .null) (by rw [e8]; rfl) ?_
        refine lv_astore_nN (lv' := [(2, .null), (1, .int (nI i)), (0, .ref (β (64 + j)))]) hx hb dX0_stamp_189 rfl hl (by decide) rfl (fun ls hl => ?_)
        refine lv_aload_nN hx hb dX0_stamp_190 rfl (lv_at hl 0 rfl) ?_
        refine lv_ifnullN (tgt := 198) hx hb dX0_stamp_191 (by decide) ?_
        refine lv_iinc (v := (nI (i + 1))) (lv' := [(1, .int (nI (i + 1))), (2, .null), (0, .ref (β (64 + j)))]) hx hb dX0_stamp_198 hl (k := 1) rfl (nI_1 i) (by decide) rfl (fun ls hl => ?_)
        refine lv_goto (tgt := 176) hx hb dX0_stamp_201 (by decide) ?_
        exact ih (i + 1, ν) H locs ls ⟨by show i + 1 ≤ sz μ j; omega, rowL_skip (by omega) hp e8, hsr, hIv, DB_mono hDv (by omega), hM, hS, lv_sub hl [0, 2] rfl⟩ (by show sz μ j - (i + 1) < sz μ j - i; omega)
      · refine w_top (y := .ref (β (64 + y8))) (by rw [e8, qT_N (by omega)]; rfl) ?_
        refine lv_astore_n (lv' := [(2, .ref (β (64 + y8))), (1, .int (nI i)), (0, .ref (β (64 + j)))]) hx hb dX0_stamp_189 rfl hl (by decide) rfl (fun ls hl => ?_)
        refine lv_aload_n hx hb dX0_stamp_190 rfl (lv_at hl 0 rfl) ?_
        refine lv_ifnull hx hb dX0_stamp_191 ?_
        refine lv_aload_n hx hb dX0_stamp_194 rfl (lv_at hl 0 rfl) ?_
        refine w_YS (As := [.ref (β (64 + y8))]) hC hX hZ hM hS hml hl.1 (k_X0_stamp0 l hst D tc x mo β ν hIv (b + 1 + i * 1) (by omega) hDv y8 hy8 (low_of (kd ν y8) (by have := (hIv.1.2.1 y8 (by omega)).2.1; omega) (kd μ j) (by rw [hk_j]; decide) (by have h := g8; rw [SR_kd hsr j] at h; exact h))) q411 q412 q23 q413 rfl ⟨by decide, by decide, rfl⟩ (Nat.le_of_ble_eq_true rfl) (Nat.le_of_ble_eq_true rfl) ⟨(Nat.le_of_ble_eq_true rfl), (Nat.le_of_ble_eq_true rfl)⟩ rfl (Nat.le_of_ble_eq_true rfl) dX0_stamp_195 (fun H locs hM hS => ?_)
        refine lv_iinc (v := (nI (i + 1))) (lv' := [(1, .int (nI (i + 1))), (2, .ref (β (64 + y8))), (0, .ref (β (64 + j)))]) hx hb dX0_stamp_198 hl (k := 1) rfl (nI_1 i) (by decide) rfl (fun ls hl => ?_)
        refine lv_goto (tgt := 176) hx hb dX0_stamp_201 (by decide) ?_
        exact ih (i + 1, (p_stampLow ν y8)) H locs ls ⟨by show i + 1 ≤ sz μ j; omega, rowL_do (by omega) hp (by rw [e8]; exact lN_m1 (by omega)) (by omega) e8, hsr.tr (stampLow_SR _ _), stampLow_IV hIv (by omega), DB_mono (stampLow_DB (hIv.1.2.1 y8 (by omega)).2.2.2 (by omega) hDv) (by omega), hM, hS, lv_sub hl [0, 2] rfl⟩ (by show sz μ j - (i + 1) < sz μ j - i; omega)
  · refine lv_aload_n hx hb dX0_stamp_0 rfl (lv_at hl 0 rfl) ?_
    refine w_inst hC hX (k := 10) (f := 13) (by decide) (by decide) (sy_thRk hC.2.2.2.2 hM hj hn hk_j (by omega)) q136 rfl (b := false) rfl dX0_stamp_1 ?_
    refine b_ifeq (w := false) (tgt := 19) hx hb dX0_stamp_4 (by decide) (fun _ => ?_) (fun h => absurd (h.symm.trans rfl) (by decide))
    refine lv_aload_n hx hb dX0_stamp_19 rfl (lv_at hl 0 rfl) ?_
    refine w_inst hC hX (k := 10) (f := 0) (by decide) (by decide) (sy_thRk hC.2.2.2.2 hM hj hn hk_j (by omega)) q100 rfl (b := false) rfl dX0_stamp_20 ?_
    refine b_ifeq (w := false) (tgt := 56) hx hb dX0_stamp_23 (by decide) (fun _ => ?_) (fun h => absurd (h.symm.trans rfl) (by decide))
    refine lv_aload_n hx hb dX0_stamp_56 rfl (lv_at hl 0 rfl) ?_
    refine w_inst hC hX (k := 10) (f := 1) (by decide) (by decide) (sy_thRk hC.2.2.2.2 hM hj hn hk_j (by omega)) q252 rfl (b := false) rfl dX0_stamp_57 ?_
    refine b_ifeq (w := false) (tgt := 93) hx hb dX0_stamp_60 (by decide) (fun _ => ?_) (fun h => absurd (h.symm.trans rfl) (by decide))
    refine lv_aload_n hx hb dX0_stamp_93 rfl (lv_at hl 0 rfl) ?_
    refine w_inst hC hX (k := 10) (f := 2) (by decide) (by decide) (sy_thRk hC.2.2.2.2 hM hj hn hk_j (by omega)) q253 rfl (b := false) rfl dX0_stamp_94 ?_
    refine b_ifeq (w := false) (tgt := 131) hx hb dX0_stamp_97 (by decide) (fun _ => ?_) (fun h => absurd (h.symm.trans rfl) (by decide))
    refine lv_aload_n hx hb dX0_stamp_131 rfl (lv_at hl 0 rfl) ?_
    refine w_inst hC hX (k := 10) (f := 3) (by decide) (by decide) (sy_thRk hC.2.2.2.2 hM hj hn hk_j (by omega)) q255 rfl (b := false) rfl dX0_stamp_132 ?_
    refine b_ifeq (w := false) (tgt := 174) hx hb dX0_stamp_135 (by decide) (fun _ => ?_) (fun h => absurd (h.symm.trans rfl) (by decide))
    refine lv_iconst (v := 0) hx hb dX0_stamp_174 (by decide) ?_
    refine lv_istore_n (lv' := [(1, .int 0), (0, .ref (β (64 + j)))]) hx hb dX0_stamp_175 rfl hl (by decide) rfl (fun ls hl => ?_)
    have hM := hM.pM0 (v := sA μ 2 j + 0) (j := j) (by rw [hk_j]; exact Or.inr (Or.inr rfl))
    refine w_loop (σ := Nat × MS) (fun y9 H locs ls => y9.1 ≤ sz μ j ∧ (p_rowL p_stampLow j (sz μ j - y9.1) y9.1 y9.2 = p_stampRow μ j) ∧ (SR μ y9.2) ∧ (IV y9.2) ∧ (DB (b + 1 + y9.1 * 1) y9.2) ∧ Sys D tc x mo β y9.2 H ∧ va_S (sy_A x mo) s.heap H locs ∧ lv_has ls 3 [(1, .int (nI y9.1)), (0, .ref (β (64 + j)))]) (fun y9 => sz μ j - y9.1) ?_ (0, (setA μ 2 j (sA μ 2 j + 0))) ⟨Nat.zero_le _, by unfold p_stampRow p_stampLow; rw [hk_j]; rfl, ⟨rfl, rfl, rfl, rfl, rfl, rfl, rfl⟩, IV_sr ⟨rfl, rfl, rfl, rfl, rfl, rfl, rfl⟩ rfl hI, DB_sr ⟨rfl, rfl, rfl, rfl, rfl, rfl, rfl⟩ rfl (DB_mono hD (by omega)), hM, hS, lv_sub hl [0, 1] rfl⟩
    intro y9 H locs ls hI9 ih
    obtain ⟨i, ν⟩ := y9
    obtain ⟨hi, hp, hsr, hIv, hDv, hM, hS, hl⟩ := hI9
    have hi : i ≤ sz μ j := hi
    have hp : p_rowL p_stampLow j (sz μ j - i) i ν = p_stampRow μ j := hp
    have hsr : SR μ ν := hsr
    have hIv : IV ν := hIv
    have hDv : DB (b + 1 + i * 1) ν := hDv
    have hM : Sys D tc x mo β ν H := hM
    have hl : lv_has ls 3 [(1, .int (nI i)), (0, .ref (β (64 + j)))] := hl
    have hn9 : nn ν = nn μ := SR_nn hsr
    refine lv_iload_n hx hb dX0_stamp_176 rfl (lv_at hl 0 rfl) ?_
    refine lv_aload_n hx hb dX0_stamp_177 rfl (lv_at hl 1 rfl) ?_
    refine w_YS (As := [.ref (β (64 + j))]) hC hX hZ hM hS hml hl.1 (k_X0_size l hst D tc x mo β ν j (by rw [SR_nn hsr]; exact hj) (by rw [SR_nn hsr]; exact hn) (by rw [SR_kd hsr]; exact h12)) q399 q400 q23 q401 rfl ⟨by decide, by decide, rfl⟩ (Nat.le_of_ble_eq_true rfl) (Nat.le_of_ble_eq_true rfl) ⟨(Nat.le_of_ble_eq_true rfl), (Nat.le_of_ble_eq_true rfl)⟩ rfl (Nat.le_of_ble_eq_true rfl) dX0_stamp_178 (fun H locs hM hS => ?_)
    refine w_top (y := .int (nI (sz μ j))) (by unfold talI; rw [SR_kd hsr, SR_sz hsr, hk_j]; rfl) ?_
    refine n_icmp_ge (a := i) (b := (sz μ j)) (tgt := 204) hx hb dX0_stamp_181 (by decide) (by omega) (by omega) (fun c_181 => ?_) (fun c_181 => ?_)
    · exact sy_vret hC hr hlk hM hS (rowL_end (by omega) hp) (Nat.le_of_ble_eq_true rfl) (Nat.le_of_ble_eq_true rfl) dX0_stamp_204
    · refine lv_aload_n hx hb dX0_stamp_184 rfl (lv_at hl 1 rfl) ?_
      refine lv_iload_n hx hb dX0_stamp_185 rfl (lv_at hl 0 rfl) ?_
      refine w_YS (As := [.ref (β (64 + j)), .int (nI i)]) hC hX hZ hM hS hml hl.1 (k_X0_part_ok l hst D tc x mo β ν j (by rw [SR_nn hsr]; exact hj) (by rw [SR_nn hsr]; exact hn) (by rw [SR_kd hsr]; exact hk) (by rw [SR_kd hsr]; exact h12) (by rw [SR_sz hsr]; exact h3) i (by rw [SR_sz hsr]; omega)) q291 q292 q23 q293 rfl ⟨by decide, by decide, rfl⟩ (Nat.le_of_ble_eq_true rfl) (Nat.le_of_ble_eq_true rfl) ⟨(Nat.le_of_ble_eq_true rfl), (Nat.le_of_ble_eq_true rfl)⟩ rfl (Nat.le_of_ble_eq_true rfl) dX0_stamp_186 (fun H locs hM hS => ?_)
      rcases CV_thg (j := j) hIv (by omega) (show i < 3 by omega) (by rw [SR_kd hsr]; exact hk) with e8 | ⟨y8, hy8, e8, g8⟩
      · refine w_top (y := .null) (by rw [e8]; rfl) ?_
        refine lv_astore_nN (lv' := [(2, .null), (1, .int (nI i)), (0, .ref (β (64 + j)))]) hx hb dX0_stamp_189 rfl hl (by decide) rfl (fun ls hl => ?_)
        refine lv_aload_nN hx hb dX0_stamp_190 rfl (lv_at hl 0 rfl) ?_
        refine lv_ifnullN (tgt := 198) hx hb dX0_stamp_191 (by decide) ?_
        refine lv_iinc (v := (nI (i + 1))) (lv' := [(1, .int (nI (i + 1))), (2, .null), (0, .ref (β (64 + j)))]) hx hb dX0_stamp_198 hl (k := 1) rfl (nI_1 i) (by decide) rfl (fun ls hl => ?_)
        refine lv_goto (tgt := 176) hx hb dX0_stamp_201 (by decide) ?_
        exact ih (i + 1, ν) H locs ls ⟨by show i + 1 ≤ sz μ j; omega, rowL_skip (by omega) hp e8, hsr, hIv, DB_mono hDv (by omega), hM, hS, lv_sub hl [0, 2] rfl⟩ (by show sz μ j - (i + 1) < sz μ j - i; omega)
      · refine w_top (y := .ref (β (64 + y8))) (by rw [e8, qT_N (by omega)]; rfl) ?_
        refine lv_astore_n (lv' := [(2, .ref (β (64 + y8))), (1, .int (nI i)), (0, .ref (β (64 + j)))]) hx hb dX0_stamp_189 rfl hl (by decide) rfl (fun ls hl => ?_)
        refine lv_aload_n hx hb dX0_stamp_190 rfl (lv_at hl 0 rfl) ?_
        refine lv_ifnull hx hb dX0_stamp_191 ?_
        refine lv_aload_n hx hb dX0_stamp_194 rfl (lv_at hl 0 rfl) ?_
        refine w_YS (As := [.ref (β (64 + y8))]) hC hX hZ hM hS hml hl.1 (k_X0_stamp0 l hst D tc x mo β ν hIv (b + 1 + i * 1) (by omega) hDv y8 hy8 (low_of (kd ν y8) (by have := (hIv.1.2.1 y8 (by omega)).2.1; omega) (kd μ j) (by rw [hk_j]; decide) (by have h := g8; rw [SR_kd hsr j] at h; exact h))) q411 q412 q23 q413 rfl ⟨by decide, by decide, rfl⟩ (Nat.le_of_ble_eq_true rfl) (Nat.le_of_ble_eq_true rfl) ⟨(Nat.le_of_ble_eq_true rfl), (Nat.le_of_ble_eq_true rfl)⟩ rfl (Nat.le_of_ble_eq_true rfl) dX0_stamp_195 (fun H locs hM hS => ?_)
        refine lv_iinc (v := (nI (i + 1))) (lv' := [(1, .int (nI (i + 1))), (2, .ref (β (64 + y8))), (0, .ref (β (64 + j)))]) hx hb dX0_stamp_198 hl (k := 1) rfl (nI_1 i) (by decide) rfl (fun ls hl => ?_)
        refine lv_goto (tgt := 176) hx hb dX0_stamp_201 (by decide) ?_
        exact ih (i + 1, (p_stampLow ν y8)) H locs ls ⟨by show i + 1 ≤ sz μ j; omega, rowL_do (by omega) hp (by rw [e8]; exact lN_m1 (by omega)) (by omega) e8, hsr.tr (stampLow_SR _ _), stampLow_IV hIv (by omega), DB_mono (stampLow_DB (hIv.1.2.1 y8 (by omega)).2.2.2 (by omega) hDv) (by omega), hM, hS, lv_sub hl [0, 2] rfl⟩ (by show sz μ j - (i + 1) < sz μ j - i; omega)
theorem k_X0_stamp2 (l : Launch) (hst : l.stackTraces = false) (D : va_G) (tc : Nat → ClassId) (x mo : Nat) (β : Nat → Nat) (μ : MS) (hI : IV μ) (b : Nat) (hb52 : b + 40 < 2 ^ 52) (hD : DB b μ) (j : Nat) (hj : j < nn μ) (hk : thgN (kd μ j) = true) (hk11 : ¬ kd μ j < 11) : YC l yX0_stamp cX0_stamp 3 none 4 85 0 0 D tc x mo β [.ref (β (64 + j))] μ (p_stampAll μ j) none := by
  refine YC.of (by decide) rfl (Nat.le_of_ble_eq_true rfl) ?_
  intro p e s m below meth c hC hX hZ hr hlk hml hM hS ls hl
  have hx := hC.1
  have hb := hC.2.1
  have hts := hC.2.2.1
  have hown := hC.2.2.2.1
  have hl : lv_has ls 3 [(0, .ref (β (64 + j)))] := hl
  have hn := hI.1.1.2
  have h12 := (hI.1.2.1 j (by omega)).2.1
  have h3 := (hI.1.2.1 j (by omega)).2.2.2
  rcases (by have h12 := (hI.1.2.1 j (by have := hI.1.1.2; omega)).2.1; omega : kd μ j = 11 ∨ kd μ j = 12) with hk_j | hk_j
  · refine lv_aload_n hx hb dX0_stamp_0 rfl (lv_at hl 0 rfl) ?_
    refine w_inst hC hX (k := 11) (f := 13) (by decide) (by decide) (sy_thRk hC.2.2.2.2 hM hj hn hk_j (by omega)) q136 rfl (b := false) rfl dX0_stamp_1 ?_
    refine b_ifeq (w := false) (tgt := 19) hx hb dX0_stamp_4 (by decide) (fun _ => ?_) (fun h => absurd (h.symm.trans rfl) (by decide))
    refine lv_aload_n hx hb dX0_stamp_19 rfl (lv_at hl 0 rfl) ?_
    refine w_inst hC hX (k := 11) (f := 0) (by decide) (by decide) (sy_thRk hC.2.2.2.2 hM hj hn hk_j (by omega)) q100 rfl (b := false) rfl dX0_stamp_20 ?_
    refine b_ifeq (w := false) (tgt := 56) hx hb dX0_stamp_23 (by decide) (fun _ => ?_) (fun h => absurd (h.symm.trans rfl) (by decide))
    refine lv_aload_n hx hb dX0_stamp_56 rfl (lv_at hl 0 rfl) ?_
    refine w_inst hC hX (k := 11) (f := 1) (by decide) (by decide) (sy_thRk hC.2.2.2.2 hM hj hn hk_j (by omega)) q252 rfl (b := false) rfl dX0_stamp_57 ?_
    refine b_ifeq (w := false) (tgt := 93) hx hb dX0_stamp_60 (by decide) (fun _ => ?_) (fun h => absurd (h.symm.trans rfl) (by decide))
    refine lv_aload_n hx hb dX0_stamp_93 rfl (lv_at hl 0 rfl) ?_
    refine w_inst hC hX (k := 11) (f := 2) (by decide) (by decide) (sy_thRk hC.2.2.2.2 hM hj hn hk_j (by omega)) q253 rfl (b := false) rfl dX0_stamp_94 ?_
    refine b_ifeq (w := false) (tgt := 131) hx hb dX0_stamp_97 (by decide) (fun _ => ?_) (fun h => absurd (h.symm.trans rfl) (by decide))
    refine lv_aload_n hx hb dX0_stamp_131 rfl (lv_at hl 0 rfl) ?_
    refine w_inst hC hX (k := 11) (f := 3) (by decide) (by decide) (sy_thRk hC.2.2.2.2 hM hj hn hk_j (by omega)) q255 rfl (b := false) rfl dX0_stamp_132 ?_
    refine b_ifeq (w := false) (tgt := 174) hx hb dX0_stamp_135 (by decide) (fun _ => ?_) (fun h => absurd (h.symm.trans rfl) (by decide))
    refine lv_iconst (v := 0) hx hb dX0_stamp_174 (by decide) ?_
    refine lv_istore_n (lv' := [(1, .int 0), (0, .ref (β (64 + j)))]) hx hb dX0_stamp_175 rfl hl (by decide) rfl (fun ls hl => ?_)
    refine w_loop (σ := Nat × MS) (fun y9 H locs ls => y9.1 ≤ sz μ j ∧ (p_rowL p_stampRow j (sz μ j - y9.1) y9.1 y9.2 = p_stampAll μ j) ∧ (SR μ y9.2) ∧ (IV y9.2) ∧ (DB (b + 0 + y9.1 * 4) y9.2) ∧ Sys D tc x mo β y9.2 H ∧ va_S (sy_A x mo) s.heap H locs ∧ lv_has ls 3 [(1, .int (nI y9.1)), (0, .ref (β (64 + j)))]) (fun y9 => sz μ j - y9.1) ?_ (0, μ) ⟨Nat.zero_le _, by unfold p_stampAll; rw [hk_j]; rfl, SR.rf, hI, DB_mono hD (by omega), hM, hS, lv_sub hl [0, 1] rfl⟩
    intro y9 H locs ls hI9 ih
    obtain ⟨i, ν⟩ := y9
    obtain ⟨hi, hp, hsr, hIv, hDv, hM, hS, hl⟩ := hI9
    have hi : i ≤ sz μ j := hi
    have hp : p_rowL p_stampRow j (sz μ j - i) i ν = p_stampAll μ j := hp
    have hsr : SR μ ν := hsr
    have hIv : IV ν := hIv
    have hDv : DB (b + 0 + i * 4) ν := hDv
    have hM : Sys D tc x mo β ν H := hM
    have hl : lv_has ls 3 [(1, .int (nI i)), (0, .ref (β (64 + j)))] := hl
    have hn9 : nn ν = nn μ := SR_nn hsr
    refine lv_iload_n hx hb dX0_stamp_176 rfl (lv_at hl 0 rfl) ?_
    refine lv_aload_n hx hb dX0_stamp_177 rfl (lv_at hl 1 rfl) ?_
    refine w_YS (As := [.ref (β (64 + j))]) hC hX hZ hM hS hml hl.1 (k_X0_size l hst D tc x mo β ν j (by rw [SR_nn hsr]; exact hj) (by rw [SR_nn hsr]; exact hn) (by rw [SR_kd hsr]; exact h12)) q399 q400 q23 q401 rfl ⟨by decide, by decide, rfl⟩ (Nat.le_of_ble_eq_true rfl) (Nat.le_of_ble_eq_true rfl) ⟨(Nat.le_of_ble_eq_true rfl), (Nat.le_of_ble_eq_true rfl)⟩ rfl (Nat.le_of_ble_eq_true rfl) dX0_stamp_178 (fun H locs hM hS => ?_)
    refine w_top (y := .int (nI (sz μ j))) (by unfold talI; rw [SR_kd hsr, SR_sz hsr, hk_j]; rfl) ?_
    refine n_icmp_ge (a := i) (b := (sz μ j)) (tgt := 204) hx hb dX0_stamp_181 (by decide) (by omega) (by omega) (fun c_181 => ?_) (fun c_181 => ?_)
    · exact sy_vret hC hr hlk hM hS (rowL_end (by omega) hp) (Nat.le_of_ble_eq_true rfl) (Nat.le_of_ble_eq_true rfl) dX0_stamp_204
    · refine lv_aload_n hx hb dX0_stamp_184 rfl (lv_at hl 1 rfl) ?_
      refine lv_iload_n hx hb dX0_stamp_185 rfl (lv_at hl 0 rfl) ?_
      refine w_YS (As := [.ref (β (64 + j)), .int (nI i)]) hC hX hZ hM hS hml hl.1 (k_X0_part_ok l hst D tc x mo β ν j (by rw [SR_nn hsr]; exact hj) (by rw [SR_nn hsr]; exact hn) (by rw [SR_kd hsr]; exact hk) (by rw [SR_kd hsr]; exact h12) (by rw [SR_sz hsr]; exact h3) i (by rw [SR_sz hsr]; omega)) q291 q292 q23 q293 rfl ⟨by decide, by decide, rfl⟩ (Nat.le_of_ble_eq_true rfl) (Nat.le_of_ble_eq_true rfl) ⟨(Nat.le_of_ble_eq_true rfl), (Nat.le_of_ble_eq_true rfl)⟩ rfl (Nat.le_of_ble_eq_true rfl) dX0_stamp_186 (fun H locs hM hS => ?_)
      rcases CV_thg (j := j) hIv (by omega) (show i < 3 by omega) (by rw [SR_kd hsr]; exact hk) with e8 | ⟨y8, hy8, e8, g8⟩
      · refine w_top (y := .null) (by rw [e8]; rfl) ?_
        refine lv_astore_nN (lv' := [(2, .null), (1, .int (nI i)), (0, .ref (β (64 + j)))]) hx hb dX0_stamp_189 rfl hl (by decide) rfl (fun ls hl => ?_)
        refine lv_aload_nN hx hb dX0_stamp_190 rfl (lv_at hl 0 rfl) ?_
        refine lv_ifnullN (tgt := 198) hx hb dX0_stamp_191 (by decide) ?_
        refine lv_iinc (v := (nI (i + 1))) (lv' := [(1, .int (nI (i + 1))), (2, .null), (0, .ref (β (64 + j)))]) hx hb dX0_stamp_198 hl (k := 1) rfl (nI_1 i) (by decide) rfl (fun ls hl => ?_)
        refine lv_goto (tgt := 176) hx hb dX0_stamp_201 (by decide) ?_
        exact ih (i + 1, ν) H locs ls ⟨by show i + 1 ≤ sz μ j; omega, rowL_skip (by omega) hp e8, hsr, hIv, DB_mono hDv (by omega), hM, hS, lv_sub hl [0, 2] rfl⟩ (by show sz μ j - (i + 1) < sz μ j - i; omega)
      · refine w_top (y := .ref (β (64 + y8))) (by rw [e8, qT_N (by omega)]; rfl) ?_
        refine lv_astore_n (lv' := [(2, .ref (β (64 + y8))), (1, .int (nI i)), (0, .ref (β (64 + j)))]) hx hb dX0_stamp_189 rfl hl (by decide) rfl (fun ls hl => ?_)
        refine lv_aload_n hx hb dX0_stamp_190 rfl (lv_at hl 0 rfl) ?_
        refine lv_ifnull hx hb dX0_stamp_191 ?_
        refine lv_aload_n hx hb dX0_stamp_194 rfl (lv_at hl 0 rfl) ?_
        refine w_YS (As := [.ref (β (64 + y8))]) hC hX hZ hM hS hml hl.1 (k_X0_stamp1 l hst D tc x mo β ν hIv (b + 0 + i * 4) (by omega) hDv y8 hy8 (mid_of (kd ν y8) (by have := (hIv.1.2.1 y8 (by omega)).2.1; omega) (kd μ j) (by rw [hk_j]; decide) (by have h := g8; rw [SR_kd hsr j] at h; exact h)).1 (mid_of (kd ν y8) (by have := (hIv.1.2.1 y8 (by omega)).2.1; omega) (kd μ j) (by rw [hk_j]; decide) (by have h := g8; rw [SR_kd hsr j] at h; exact h)).2) q411 q412 q23 q413 rfl ⟨by decide, by decide, rfl⟩ (Nat.le_of_ble_eq_true rfl) (Nat.le_of_ble_eq_true rfl) ⟨(Nat.le_of_ble_eq_true rfl), (Nat.le_of_ble_eq_true rfl)⟩ rfl (Nat.le_of_ble_eq_true rfl) dX0_stamp_195 (fun H locs hM hS => ?_)
        refine lv_iinc (v := (nI (i + 1))) (lv' := [(1, .int (nI (i + 1))), (2, .ref (β (64 + y8))), (0, .ref (β (64 + j)))]) hx hb dX0_stamp_198 hl (k := 1) rfl (nI_1 i) (by decide) rfl (fun ls hl => ?_)
        refine lv_goto (tgt := 176) hx hb dX0_stamp_201 (by decide) ?_
        exact ih (i + 1, (p_stampRow ν y8)) H locs ls ⟨by show i + 1 ≤ sz μ j; omega, rowL_do (by omega) hp (by rw [e8]; exact lN_m1 (by omega)) (by omega) e8, hsr.tr (stampRow_SR _ _), stampRow_IV hIv (by omega), DB_mono (stampRow_DB hIv (by omega) (by omega) hDv) (by omega), hM, hS, lv_sub hl [0, 2] rfl⟩ (by show sz μ j - (i + 1) < sz μ j - i; omega)
  · refine lv_aload_n hx hb dX0_stamp_0 rfl (lv_at hl 0 rfl) ?_
    refine w_inst hC hX (k := 12) (f := 13) (by decide) (by decide) (sy_thRk hC.2.2.2.2 hM hj hn hk_j (by omega)) q136 rfl (b := false) rfl dX0_stamp_1 ?_
    refine b_ifeq (w := false) (tgt := 19) hx hb dX0_stamp_4 (by decide) (fun _ => ?_) (fun h => absurd (h.symm.trans rfl) (by decide))
    refine lv_aload_n hx hb dX0_stamp_19 rfl (lv_at hl 0 rfl) ?_
    refine w_inst hC hX (k := 12) (f := 0) (by decide) (by decide) (sy_thRk hC.2.2.2.2 hM hj hn hk_j (by omega)) q100 rfl (b := false) rfl dX0_stamp_20 ?_
    refine b_ifeq (w := false) (tgt := 56) hx hb dX0_stamp_23 (by decide) (fun _ => ?_) (fun h => absurd (h.symm.trans rfl) (by decide))
    refine lv_aload_n hx hb dX0_stamp_56 rfl (lv_at hl 0 rfl) ?_
    refine w_inst hC hX (k := 12) (f := 1) (by decide) (by decide) (sy_thRk hC.2.2.2.2 hM hj hn hk_j (by omega)) q252 rfl (b := false) rfl dX0_stamp_57 ?_
    refine b_ifeq (w := false) (tgt := 93) hx hb dX0_stamp_60 (by decide) (fun _ => ?_) (fun h => absurd (h.symm.trans rfl) (by decide))
    refine lv_aload_n hx hb dX0_stamp_93 rfl (lv_at hl 0 rfl) ?_
    refine w_inst hC hX (k := 12) (f := 2) (by decide) (by decide) (sy_thRk hC.2.2.2.2 hM hj hn hk_j (by omega)) q253 rfl (b := false) rfl dX0_stamp_94 ?_
    refine b_ifeq (w := false) (tgt := 131) hx hb dX0_stamp_97 (by decide) (fun _ => ?_) (fun h => absurd (h.symm.trans rfl) (by decide))
    refine lv_aload_n hx hb dX0_stamp_131 rfl (lv_at hl 0 rfl) ?_
    refine w_inst hC hX (k := 12) (f := 3) (by decide) (by decide) (sy_thRk hC.2.2.2.2 hM hj hn hk_j (by omega)) q255 rfl (b := false) rfl dX0_stamp_132 ?_
    refine b_ifeq (w := false) (tgt := 174) hx hb dX0_stamp_135 (by decide) (fun _ => ?_) (fun h => absurd (h.symm.trans rfl) (by decide))
    refine lv_iconst (v := 0) hx hb dX0_stamp_174 (by decide) ?_
    refine lv_istore_n (lv' := [(1, .int 0), (0, .ref (β (64 + j)))]) hx hb dX0_stamp_175 rfl hl (by decide) rfl (fun ls hl => ?_)
    refine w_loop (σ := Nat × MS) (fun y9 H locs ls => y9.1 ≤ sz μ j ∧ (p_rowL p_stampRow j (sz μ j - y9.1) y9.1 y9.2 = p_stampAll μ j) ∧ (SR μ y9.2) ∧ (IV y9.2) ∧ (DB (b + 0 + y9.1 * 4) y9.2) ∧ Sys D tc x mo β y9.2 H ∧ va_S (sy_A x mo) s.heap H locs ∧ lv_has ls 3 [(1, .int (nI y9.1)), (0, .ref (β (64 + j)))]) (fun y9 => sz μ j - y9.1) ?_ (0, μ) ⟨Nat.zero_le _, by unfold p_stampAll; rw [hk_j]; rfl, SR.rf, hI, DB_mono hD (by omega), hM, hS, lv_sub hl [0, 1] rfl⟩
    intro y9 H locs ls hI9 ih
    obtain ⟨i, ν⟩ := y9
    obtain ⟨hi, hp, hsr, hIv, hDv, hM, hS, hl⟩ := hI9
    have hi : i ≤ sz μ j := hi
    have hp : p_rowL p_stampRow j (sz μ j - i) i ν = p_stampAll μ j := hp
    have hsr : SR μ ν := hsr
    have hIv : IV ν := hIv
    have hDv : DB (b + 0 + i * 4) ν := hDv
    have hM : Sys D tc x mo β ν H := hM
    have hl : lv_has ls 3 [(1, .int (nI i)), (0, .ref (β (64 + j)))] := hl
    have hn9 : nn ν = nn μ := SR_nn hsr
    refine lv_iload_n hx hb dX0_stamp_176 rfl (lv_at hl 0 rfl) ?_
    refine lv_aload_n hx hb dX0_stamp_177 rfl (lv_at hl 1 rfl) ?_
    refine w_YS (As := [.ref (β (64 + j))]) hC hX hZ hM hS hml hl.1 (k_X0_size l hst D tc x mo β ν j (by rw [SR_nn hsr]; exact hj) (by rw [SR_nn hsr]; exact hn) (by rw [SR_kd hsr]; exact h12)) q399 q400 q23 q401 rfl ⟨by decide, by decide, rfl⟩ (Nat.le_of_ble_eq_true rfl) (Nat.le_of_ble_eq_true rfl) ⟨(Nat.le_of_ble_eq_true rfl), (Nat.le_of_ble_eq_true rfl)⟩ rfl (Nat.le_of_ble_eq_true rfl) dX0_stamp_178 (fun H locs hM hS => ?_)
    refine w_top (y := .int (nI (sz μ j))) (by unfold talI; rw [SR_kd hsr, SR_sz hsr, hk_j]; rfl) ?_
    refine n_icmp_ge (a := i) (b := (sz μ j)) (tgt := 204) hx hb dX0_stamp_181 (by decide) (by omega) (by omega) (fun c_181 => ?_) (fun c_181 => ?_)
    · exact sy_vret hC hr hlk hM hS (rowL_end (by omega) hp) (Nat.le_of_ble_eq_true rfl) (Nat.le_of_ble_eq_true rfl) dX0_stamp_204
    · refine lv_aload_n hx hb dX0_stamp_184 rfl (lv_at hl 1 rfl) ?_
      refine lv_iload_n hx hb dX0_stamp_185 rfl (lv_at hl 0 rfl) ?_
      refine w_YS (As := [.ref (β (64 + j)), .int (nI i)]) hC hX hZ hM hS hml hl.1 (k_X0_part_ok l hst D tc x mo β ν j (by rw [SR_nn hsr]; exact hj) (by rw [SR_nn hsr]; exact hn) (by rw [SR_kd hsr]; exact hk) (by rw [SR_kd hsr]; exact h12) (by rw [SR_sz hsr]; exact h3) i (by rw [SR_sz hsr]; omega)) q291 q292 q23 q293 rfl ⟨by decide, by decide, rfl⟩ (Nat.le_of_ble_eq_true rfl) (Nat.le_of_ble_eq_true rfl) ⟨(Nat.le_of_ble_eq_true rfl), (Nat.le_of_ble_eq_true rfl)⟩ rfl (Nat.le_of_ble_eq_true rfl) dX0_stamp_186 (fun H locs hM hS => ?_)
      rcases CV_thg (j := j) hIv (by omega) (show i < 3 by omega) (by rw [SR_kd hsr]; exact hk) with e8 | ⟨y8, hy8, e8, g8⟩
      · refine w_top (y := .null) (by rw [e8]; rfl) ?_
        refine lv_astore_nN (lv' := [(2, .null), (1, .int (nI i)), (0, .ref (β (64 + j)))]) hx hb dX0_stamp_189 rfl hl (by decide) rfl (fun ls hl => ?_)
        refine lv_aload_nN hx hb dX0_stamp_190 rfl (lv_at hl 0 rfl) ?_
        refine lv_ifnullN (tgt := 198) hx hb dX0_stamp_191 (by decide) ?_
        refine lv_iinc (v := (nI (i + 1))) (lv' := [(1, .int (nI (i + 1))), (2, .null), (0, .ref (β (64 + j)))]) hx hb dX0_stamp_198 hl (k := 1) rfl (nI_1 i) (by decide) rfl (fun ls hl => ?_)
        refine lv_goto (tgt := 176) hx hb dX0_stamp_201 (by decide) ?_
        exact ih (i + 1, ν) H locs ls ⟨by show i + 1 ≤ sz μ j; omega, rowL_skip (by omega) hp e8, hsr, hIv, DB_mono hDv (by omega), hM, hS, lv_sub hl [0, 2] rfl⟩ (by show sz μ j - (i + 1) < sz μ j - i; omega)
      · refine w_top (y := .ref (β (64 + y8))) (by rw [e8, qT_N (by omega)]; rfl) ?_
        refine lv_astore_n (lv' := [(2, .ref (β (64 + y8))), (1, .int (nI i)), (0, .ref (β (64 + j)))]) hx hb dX0_stamp_189 rfl hl (by decide) rfl (fun ls hl => ?_)
        refine lv_aload_n hx hb dX0_stamp_190 rfl (lv_at hl 0 rfl) ?_
        refine lv_ifnull hx hb dX0_stamp_191 ?_
        refine lv_aload_n hx hb dX0_stamp_194 rfl (lv_at hl 0 rfl) ?_
        refine w_YS (As := [.ref (β (64 + y8))]) hC hX hZ hM hS hml hl.1 (k_X0_stamp1 l hst D tc x mo β ν hIv (b + 0 + i * 4) (by omega) hDv y8 hy8 (mid_of (kd ν y8) (by have := (hIv.1.2.1 y8 (by omega)).2.1; omega) (kd μ j) (by rw [hk_j]; decide) (by have h := g8; rw [SR_kd hsr j] at h; exact h)).1 (mid_of (kd ν y8) (by have := (hIv.1.2.1 y8 (by omega)).2.1; omega) (kd μ j) (by rw [hk_j]; decide) (by have h := g8; rw [SR_kd hsr j] at h; exact h)).2) q411 q412 q23 q413 rfl ⟨by decide, by decide, rfl⟩ (Nat.le_of_ble_eq_true rfl) (Nat.le_of_ble_eq_true rfl) ⟨(Nat.le_of_ble_eq_true rfl), (Nat.le_of_ble_eq_true rfl)⟩ rfl (Nat.le_of_ble_eq_true rfl) dX0_stamp_195 (fun H locs hM hS => ?_)
        refine lv_iinc (v := (nI (i + 1))) (lv' := [(1, .int (nI (i + 1))), (2, .ref (β (64 + y8))), (0, .ref (β (64 + j)))]) hx hb dX0_stamp_198 hl (k := 1) rfl (nI_1 i) (by decide) rfl (fun ls hl => ?_)
        refine lv_goto (tgt := 176) hx hb dX0_stamp_201 (by decide) ?_
        exact ih (i + 1, (p_stampRow ν y8)) H locs ls ⟨by show i + 1 ≤ sz μ j; omega, rowL_do (by omega) hp (by rw [e8]; exact lN_m1 (by omega)) (by omega) e8, hsr.tr (stampRow_SR _ _), stampRow_IV hIv (by omega), DB_mono (stampRow_DB hIv (by omega) (by omega) hDv) (by omega), hM, hS, lv_sub hl [0, 2] rfl⟩ (by show sz μ j - (i + 1) < sz μ j - i; omega)

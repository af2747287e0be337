/-! THE MODEL: its small methods -/
set_option maxRecDepth 100000
set_option maxHeartbeats 4000000
theorem k_X1_isIn (l : Launch) (a b d : Int32) : SC l yX1_isIn cX1_isIn 3 (some .boolean) 0 0 [.int a, .int b, .int d] (.int (bI (isIn a b d))) := by
  refine SC.of (by decide) (Nat.le_of_ble_eq_true rfl) ?_
  intro p e s m below meth c hx hb hr hlk hml hts hown ls hl
  have hl : lv_has ls 3 [(0, .int a), (1, .int b), (2, .int d)] := hl
  refine lv_iload_n hx hb dX1_isIn_0 rfl (lv_at hl 0 rfl) ?_
  refine lv_iload_n hx hb dX1_isIn_1 rfl (lv_at hl 1 rfl) ?_
  refine lv_icmp_lt (tgt := 14) hx hb dX1_isIn_2 (by decide) (fun c_2 => ?_) (fun c_2 => ?_)
  · refine lv_iconst (v := 0) hx hb dX1_isIn_14 (by decide) ?_
    exact sc_zret hx hb hr hlk (by rw [isIn_f1 c_2]; rfl) dX1_isIn_15
  · refine lv_iload_n hx hb dX1_isIn_5 rfl (lv_at hl 0 rfl) ?_
    refine lv_iload_n hx hb dX1_isIn_6 rfl (lv_at hl 2 rfl) ?_
    refine lv_icmp_gt (tgt := 14) hx hb dX1_isIn_7 (by decide) (fun c_7 => ?_) (fun c_7 => ?_)
    · refine lv_iconst (v := 0) hx hb dX1_isIn_14 (by decide) ?_
      exact sc_zret hx hb hr hlk (by rw [isIn_f2 c_7]; rfl) dX1_isIn_15
    · refine lv_iconst (v := 1) hx hb dX1_isIn_10 (by decide) ?_
      refine lv_goto (tgt := 15) hx hb dX1_isIn_11 (by decide) ?_
      exact sc_zret hx hb hr hlk (by rw [isIn_t c_2 c_7]; rfl) dX1_isIn_15
theorem k_X0_isIn (l : Launch) (a b d : Int32) : SC l yX0_isIn cX0_isIn 3 (some .boolean) 0 0 [.int a, .int b, .int d] (.int (bI (isIn a b d))) := by
  refine SC.of (by decide) (Nat.le_of_ble_eq_true rfl) ?_
  intro p e s m below meth c hx hb hr hlk hml hts hown ls hl
  have hl : lv_has ls 3 [(0, .int a), (1, .int b), (2, .int d)] := hl
  refine lv_iload_n hx hb dX0_isIn_0 rfl (lv_at hl 0 rfl) ?_
  refine lv_iload_n hx hb dX0_isIn_1 rfl (lv_at hl 1 rfl) ?_
  refine lv_icmp_lt (tgt := 14) hx hb dX0_isIn_2 (by decide) (fun c_2 => ?_) (fun c_2 => ?_)
  · refine lv_iconst (v := 0) hx hb dX0_isIn_14 (by decide) ?_
    exact sc_zret hx hb hr hlk (by rw [isIn_f1 c_2]; rfl) dX0_isIn_15
  · refine lv_iload_n hx hb dX0_isIn_5 rfl (lv_at hl 0 rfl) ?_
    refine lv_iload_n hx hb dX0_isIn_6 rfl (lv_at hl 2 rfl) ?_
    refine lv_icmp_gt (tgt := 14) hx hb dX0_isIn_7 (by decide) (fun c_7 => ?_) (fun c_7 => ?_)
    · refine lv_iconst (v := 0) hx hb dX0_isIn_14 (by decide) ?_
      exact sc_zret hx hb hr hlk (by rw [isIn_f2 c_7]; rfl) dX0_isIn_15
    · refine lv_iconst (v := 1) hx hb dX0_isIn_10 (by decide) ?_
      refine lv_goto (tgt := 15) hx hb dX0_isIn_11 (by decide) ?_
      exact sc_zret hx hb hr hlk (by rw [isIn_t c_2 c_7]; rfl) dX0_isIn_15
theorem k_X1_isRoom (l : Launch) (a : Int32) : SC l yX1_isRoom cX1_isRoom 1 (some .boolean) 1 22 [.int a] (.int (bI (isIn a 0 7))) := by
  refine SC.of (by decide) (Nat.le_of_ble_eq_true rfl) ?_
  intro p e s m below meth c hx hb hr hlk hml hts hown ls hl
  have hl : lv_has ls 1 [(0, .int a)] := hl
  refine lv_iload_n hx hb dX1_isRoom_0 rfl (lv_at hl 0 rfl) ?_
  refine lv_iconst (v := 0) hx hb dX1_isRoom_1 (by decide) ?_
  refine lv_bipush (v := 7) hx hb dX1_isRoom_2 (by decide) ?_
  refine w_SC (As := [.int a, .int 0, .int 7]) hx hb hts hown hml hl.1 (k_X1_isIn l a 0 7) q560 q561 q24 q562 rfl ⟨by decide, by decide, rfl⟩ (Nat.le_of_ble_eq_true rfl) (Nat.le_of_ble_eq_true rfl) ⟨Nat.zero_le _, Nat.zero_le _⟩ rfl (Nat.le_of_ble_eq_true rfl) dX1_isRoom_4 ?_
  exact sc_zret hx hb hr hlk rfl dX1_isRoom_7
theorem k_X0_isRoom (l : Launch) (a : Int32) : SC l yX0_isRoom cX0_isRoom 1 (some .boolean) 1 22 [.int a] (.int (bI (isIn a 0 7))) := by
  refine SC.of (by decide) (Nat.le_of_ble_eq_true rfl) ?_
  intro p e s m below meth c hx hb hr hlk hml hts hown ls hl
  have hl : lv_has ls 1 [(0, .int a)] := hl
  refine lv_iload_n hx hb dX0_isRoom_0 rfl (lv_at hl 0 rfl) ?_
  refine lv_iconst (v := 0) hx hb dX0_isRoom_1 (by decide) ?_
  refine lv_bipush (v := 7) hx hb dX0_isRoom_2 (by decide) ?_
  refine w_SC (As := [.int a, .int 0, .int 7]) hx hb hts hown hml hl.1 (k_X0_isIn l a 0 7) q89 q90 q23 q91 rfl ⟨by decide, by decide, rfl⟩ (Nat.le_of_ble_eq_true rfl) (Nat.le_of_ble_eq_true rfl) ⟨Nat.zero_le _, Nat.zero_le _⟩ rfl (Nat.le_of_ble_eq_true rfl) dX0_isRoom_4 ?_
  exact sc_zret hx hb hr hlk rfl dX0_isRoom_7
theorem isOne_eq {k : Nat} (hk : k < 256) : bI (isIn (nI k) 5 7) = bI (oneN k) := by
  have : isIn (nI k) 5 7 = oneN k := by
    rw [Bool.eq_iff_iff, isIn_iff, nI_toInt (by omega)]
    have e5 : (5 : Int32).toInt = 5 := by decide
    have e7 : (7 : Int32).toInt = 7 := by decide
    rw [e5, e7]
    simp [oneN]
    omega
  rw [this]
theorem k_X1_isOne (l : Launch) (k : Nat) (hk : k < 256) : SC l yX1_isOne cX1_isOne 1 (some .boolean) 1 22 [.int (nI k)] (.int (bI (oneN k))) := by
  refine SC.of (by decide) (Nat.le_of_ble_eq_true rfl) ?_
  intro p e s m below meth c hx hb hr hlk hml hts hown ls hl
  have hl : lv_has ls 1 [(0, .int (nI k))] := hl
  refine lv_iload_n hx hb dX1_isOne_0 rfl (lv_at hl 0 rfl) ?_
  refine lv_iconst (v := 5) hx hb dX1_isOne_1 (by decide) ?_
  refine lv_bipush (v := 7) hx hb dX1_isOne_2 (by decide) ?_
  refine w_SC (As := [.int (nI k), .int 5, .int 7]) hx hb hts hown hml hl.1 (k_X1_isIn l (nI k) 5 7) q560 q561 q24 q562 rfl ⟨by decide, by decide, rfl⟩ (Nat.le_of_ble_eq_true rfl) (Nat.le_of_ble_eq_true rfl) ⟨Nat.zero_le _, Nat.zero_le _⟩ rfl (Nat.le_of_ble_eq_true rfl) dX1_isOne_4 ?_
  exact sc_zret hx hb hr hlk (isOne_eq hk) dX1_isOne_7
theorem k_X1_isOfNumbers (l : Launch) (k : Nat) (hk : k < 256) : SC l yX1_isOfNumbers cX1_isOfNumbers 1 (some .boolean) 0 0 [.int (nI k)] (.int (bI (numN k))) := by
  refine SC.of (by decide) (Nat.le_of_ble_eq_true rfl) ?_
  intro p e s m below meth c hx hb hr hlk hml hts hown ls hl
  have hl : lv_has ls 1 [(0, .int (nI k))] := hl
  refine lv_iload_n hx hb dX1_isOfNumbers_0 rfl (lv_at hl 0 rfl) ?_
  refine lv_iconst (v := 3) hx hb dX1_isOfNumbers_1 (by decide) ?_
  refine n_icmp_gt (a := k) (b := 3) (tgt := 9) hx hb dX1_isOfNumbers_2 (by decide) (by omega) (by omega) (fun c_2 => ?_) (fun c_2 => ?_)
  · refine lv_iconst (v := 0) hx hb dX1_isOfNumbers_9 (by decide) ?_
    exact sc_zret hx hb hr hlk (by simp [bI, numN]; omega) dX1_isOfNumbers_10
  · refine lv_iconst (v := 1) hx hb dX1_isOfNumbers_5 (by decide) ?_
    refine lv_goto (tgt := 10) hx hb dX1_isOfNumbers_6 (by decide) ?_
    exact sc_zret hx hb hr hlk (by simp [bI, numN]; omega) dX1_isOfNumbers_10
theorem k_X1_isOfThings (l : Launch) (k : Nat) (hk : k < 256) : SC l yX1_isOfThings cX1_isOfThings 1 (some .boolean) 0 0 [.int (nI k)] (.int (bI (thgN k))) := by
  refine SC.of (by decide) (Nat.le_of_ble_eq_true rfl) ?_
  intro p e s m below meth c hx hb hr hlk hml hts hown ls hl
  have hl : lv_has ls 1 [(0, .int (nI k))] := hl
  refine lv_iload_n hx hb dX1_isOfThings_0 rfl (lv_at hl 0 rfl) ?_
  refine lv_iconst (v := 4) hx hb dX1_isOfThings_1 (by decide) ?_
  refine n_icmp_eq (a := k) (b := 4) (tgt := 11) hx hb dX1_isOfThings_2 (by decide) (by omega) (by omega) (fun c_2 => ?_) (fun c_2 => ?_)
  · refine lv_iconst (v := 1) hx hb dX1_isOfThings_11 (by decide) ?_
    refine lv_goto (tgt := 16) hx hb dX1_isOfThings_12 (by decide) ?_
    exact sc_zret hx hb hr hlk (by simp [bI, thgN]; omega) dX1_isOfThings_16
  · refine lv_iload_n hx hb dX1_isOfThings_5 rfl (lv_at hl 0 rfl) ?_
    refine lv_bipush (v := 8) hx hb dX1_isOfThings_6 (by decide) ?_
    refine n_icmp_lt (a := k) (b := 8) (tgt := 15) hx hb dX1_isOfThings_8 (by decide) (by omega) (by omega) (fun c_8 => ?_) (fun c_8 => ?_)
    · refine lv_iconst (v := 0) hx hb dX1_isOfThings_15 (by decide) ?_
      exact sc_zret hx hb hr hlk (by simp [bI, thgN]; omega) dX1_isOfThings_16
    · refine lv_iconst (v := 1) hx hb dX1_isOfThings_11 (by decide) ?_
      refine lv_goto (tgt := 16) hx hb dX1_isOfThings_12 (by decide) ?_
      exact sc_zret hx hb hr hlk (by simp [bI, thgN]; omega) dX1_isOfThings_16
theorem k_X1_kept (l : Launch) (k : Nat) (v : Int64) (hk : k < 256) : SC l yX1_kept cX1_kept 3 (some .long) 0 0 [.int (nI k), .long v] (.long (keptN k v)) := by
  refine SC.of (by decide) (Nat.le_of_ble_eq_true rfl) ?_
  intro p e s m below meth c hx hb hr hlk hml hts hown ls hl
  have hl : lv_has ls 3 [(0, .int (nI k)), (1, .long v)] := hl
  refine lv_iload_n hx hb dX1_kept_0 rfl (lv_at hl 0 rfl) ?_
  refine n_if_ne (a := k) (tgt := 12) hx hb dX1_kept_1 (by decide) (by omega) (fun c_1 => ?_) (fun c_1 => ?_)
  · refine lv_iload_n hx hb dX1_kept_12 rfl (lv_at hl 0 rfl) ?_
    refine lv_iconst (v := 1) hx hb dX1_kept_13 (by decide) ?_
    refine n_icmp_ne (a := k) (b := 1) (tgt := 24) hx hb dX1_kept_14 (by decide) (by omega) (by omega) (fun c_14 => ?_) (fun c_14 => ?_)
    · refine lv_iload_n hx hb dX1_kept_24 rfl (lv_at hl 0 rfl) ?_
      refine lv_iconst (v := 3) hx hb dX1_kept_25 (by decide) ?_
      refine n_icmp_ne (a := k) (b := 3) (tgt := 43) hx hb dX1_kept_26 (by decide) (by omega) (by omega) (fun c_26 => ?_) (fun c_26 => ?_)
      · refine lv_lload_n hx hb dX1_kept_43 rfl (lv_at hl 1 rfl) ?_
        exact sc_lret hx hb hr hlk (by first | rfl | (simp [keptN, *])) dX1_kept_44
      · refine lv_lload_n hx hb dX1_kept_29 rfl (lv_at hl 1 rfl) ?_
        refine lv_lconst (v := 0) hx hb dX1_kept_30 (by decide) ?_
        refine W.lcmp hx hb dX1_kept_31 ?_
        refine l_if_eq (x := v) (y := 0) (tgt := 39) hx hb dX1_kept_32 (by decide) (fun c_32 => ?_) (fun c_32 => ?_)
        · refine lv_lconst (v := 0) hx hb dX1_kept_39 (by decide) ?_
          refine lv_goto (tgt := 44) hx hb dX1_kept_40 (by decide) ?_
          exact sc_lret hx hb hr hlk (by first | rfl | (simp [keptN, *])) dX1_kept_44
        · refine lv_lconst (v := 1) hx hb dX1_kept_35 (by decide) ?_
          refine lv_goto (tgt := 44) hx hb dX1_kept_36 (by decide) ?_
          exact sc_lret hx hb hr hlk (by first | rfl | (simp [keptN, *])) dX1_kept_44
    · refine lv_lload_n hx hb dX1_kept_17 rfl (lv_at hl 1 rfl) ?_
      refine lv_l2i hx hb dX1_kept_18 rfl ?_
      refine lv_i2s hx hb dX1_kept_19 rfl ?_
      refine lv_i2l hx hb dX1_kept_20 rfl ?_
      refine lv_goto (tgt := 44) hx hb dX1_kept_21 (by decide) ?_
      exact sc_lret hx hb hr hlk (by first | rfl | (simp [keptN, *])) dX1_kept_44
  · refine lv_lload_n hx hb dX1_kept_4 rfl (lv_at hl 1 rfl) ?_
    refine lv_ldc2 (v := (65535)) hx hb hown (hts _ q592) dX1_kept_5 ?_
    refine lv_land hx hb dX1_kept_8 ?_
    refine lv_goto (tgt := 44) hx hb dX1_kept_9 (by decide) ?_
    exact sc_lret hx hb hr hlk (by first | rfl | (simp [keptN, *])) dX1_kept_44
theorem k_X1_wanted (l : Launch) (k : Nat) (hk : k < 256) : SC l yX1_wanted cX1_wanted 1 (some .int) 0 0 [.int (nI k)] (.int (nI (wantN k))) := by
  refine SC.of (by decide) (Nat.le_of_ble_eq_true rfl) ?_
  intro p e s m below meth c hx hb hr hlk hml hts hown ls hl
  have hl : lv_has ls 1 [(0, .int (nI k))] := hl
  refine lv_iload_n hx hb dX1_wanted_0 rfl (lv_at hl 0 rfl) ?_
  refine lv_iconst (v := 4) hx hb dX1_wanted_1 (by decide) ?_
  refine n_icmp_ne (a := k) (b := 4) (tgt := 9) hx hb dX1_wanted_2 (by decide) (by omega) (by omega) (fun c_2 => ?_) (fun c_2 => ?_)
  · refine lv_iload_n hx hb dX1_wanted_9 rfl (lv_at hl 0 rfl) ?_
    refine lv_bipush (v := 10) hx hb dX1_wanted_10 (by decide) ?_
    refine n_icmp_ne (a := k) (b := 10) (tgt := 20) hx hb dX1_wanted_12 (by decide) (by omega) (by omega) (fun c_12 => ?_) (fun c_12 => ?_)
    · refine lv_iload_n hx hb dX1_wanted_20 rfl (lv_at hl 0 rfl) ?_
      refine lv_bipush (v := 10) hx hb dX1_wanted_21 (by decide) ?_
      refine n_icmp_ge (a := k) (b := 10) (tgt := 30) hx hb dX1_wanted_23 (by decide) (by omega) (by omega) (fun c_23 => ?_) (fun c_23 => ?_)
      · refine lv_bipush (v := 8) hx hb dX1_wanted_30 (by decide) ?_
        exact sc_iret hx hb hr hlk (by rw [show wantN k = 8 from by unfold wantN; split <;> (try split) <;> (try split) <;> omega]; rfl) dX1_wanted_32
      · refine lv_iconst (v := 5) hx hb dX1_wanted_26 (by decide) ?_
        refine lv_goto (tgt := 32) hx hb dX1_wanted_27 (by decide) ?_
        exact sc_iret hx hb hr hlk (by rw [show wantN k = 5 from by unfold wantN; split <;> (try split) <;> (try split) <;> omega]; rfl) dX1_wanted_32
    · refine lv_bipush (v := 13) hx hb dX1_wanted_15 (by decide) ?_
      refine lv_goto (tgt := 32) hx hb dX1_wanted_17 (by decide) ?_
      exact sc_iret hx hb hr hlk (by rw [show wantN k = 13 from by unfold wantN; split <;> (try split) <;> (try split) <;> omega]; rfl) dX1_wanted_32
  · refine lv_iconst (v := 0) hx hb dX1_wanted_5 (by decide) ?_
    refine lv_goto (tgt := 32) hx hb dX1_wanted_6 (by decide) ?_
    exact sc_iret hx hb hr hlk (by rw [show wantN k = 0 from by unfold wantN; split <;> (try split) <;> (try split) <;> omega]; rfl) dX1_wanted_32
theorem k_X1_holds (l : Launch) (k : Nat) (hk : k < 256) : SC l yX1_holds cX1_holds 1 (some .int) 1 20 [.int (nI k)] (.int (nI (holdN k))) := by
  refine SC.of (by decide) (Nat.le_of_ble_eq_true rfl) ?_
  intro p e s m below meth c hx hb hr hlk hml hts hown ls hl
  have hl : lv_has ls 1 [(0, .int (nI k))] := hl
  refine lv_iload_n hx hb dX1_holds_0 rfl (lv_at hl 0 rfl) ?_
  refine lv_bipush (v := 9) hx hb dX1_holds_1 (by decide) ?_
  refine n_icmp_ne (a := k) (b := 9) (tgt := 11) hx hb dX1_holds_3 (by decide) (by omega) (by omega) (fun c_3 => ?_) (fun c_3 => ?_)
  · refine lv_iload_n hx hb dX1_holds_11 rfl (lv_at hl 0 rfl) ?_
    refine lv_bipush (v := 12) hx hb dX1_holds_12 (by decide) ?_
    refine n_icmp_ne (a := k) (b := 12) (tgt := 22) hx hb dX1_holds_14 (by decide) (by omega) (by omega) (fun c_14 => ?_) (fun c_14 => ?_)
    · refine lv_iload_n hx hb dX1_holds_22 rfl (lv_at hl 0 rfl) ?_
      refine w_SC (As := [.int (nI k)]) hx hb hts hown hml hl.1 (k_X1_wanted l k (by omega)) q603 q604 q24 q605 rfl ⟨by decide, by decide, rfl⟩ (Nat.le_of_ble_eq_true rfl) (Nat.le_of_ble_eq_true rfl) ⟨Nat.zero_le _, Nat.zero_le _⟩ rfl (Nat.le_of_ble_eq_true rfl) dX1_holds_23 ?_
      exact sc_iret hx hb hr hlk (by simp [holdN, nI, *]) dX1_holds_26
    · refine lv_bipush (v := 9) hx hb dX1_holds_17 (by decide) ?_
      refine lv_goto (tgt := 26) hx hb dX1_holds_19 (by decide) ?_
      exact sc_iret hx hb hr hlk (by simp [holdN, nI, *]) dX1_holds_26
  · refine lv_bipush (v := 6) hx hb dX1_holds_6 (by decide) ?_
    refine lv_goto (tgt := 26) hx hb dX1_holds_8 (by decide) ?_
    exact sc_iret hx hb hr hlk (by simp [holdN, nI, *]) dX1_holds_26
theorem k_X1_goes (l : Launch) (k f : Nat) (hk : k ≤ 12) (hf : f < 256) : SC l yX1_goes cX1_goes 2 (some .boolean) 0 0 [.int (nI k), .int (nI f)] (.int (bI (goesN k f))) := by
  refine SC.of (by decide) (Nat.le_of_ble_eq_true rfl) ?_
  intro p e s m below meth c hx hb hr hlk hml hts hown ls hl
  have hl : lv_has ls 2 [(0, .int (nI k)), (1, .int (nI f))] := hl
  rcases (show k = 0 ∨ k = 1 ∨ k = 2 ∨ k = 3 ∨ k = 4 ∨ k = 5 ∨ k = 6 ∨ k = 7 ∨ k = 8 ∨ k = 9 ∨ k = 10 ∨ k = 11 ∨ k = 12 by omega) with rfl | rfl | rfl | rfl | rfl | rfl | rfl | rfl | rfl | rfl | rfl | rfl | rfl
  · refine lv_iload_n hx hb dX1_goes_0 rfl (lv_at hl 0 rfl) ?_
    refine lv_iload_n hx hb dX1_goes_1 rfl (lv_at hl 1 rfl) ?_
    refine n_icmp_ne (a := 0) (b := f) (tgt := 7) hx hb dX1_goes_2 (by decide) (by omega) (by omega) (fun c_2 => ?_) (fun c_2 => ?_)
    · refine lv_iload_n hx hb dX1_goes_7 rfl (lv_at hl 0 rfl) ?_
      refine lv_tableOut (tgt := 127) hx hb dX1_goes_8 (by decide) (by decide) ?_
      refine lv_iconst (v := 0) hx hb dX1_goes_127 (by decide) ?_
      exact sc_zret hx hb hr hlk (by first | rfl | (simp [bI, goesN, *])) dX1_goes_128
    · refine lv_iconst (v := 1) hx hb dX1_goes_5 (by decide) ?_
      exact sc_zret hx hb hr hlk (by first | rfl | (simp [bI, goesN, *])) dX1_goes_6
  · refine lv_iload_n hx hb dX1_goes_0 rfl (lv_at hl 0 rfl) ?_
    refine lv_iload_n hx hb dX1_goes_1 rfl (lv_at hl 1 rfl) ?_
    refine n_icmp_ne (a := 1) (b := f) (tgt := 7) hx hb dX1_goes_2 (by decide) (by omega) (by omega) (fun c_2 => ?_) (fun c_2 => ?_)
    · refine lv_iload_n hx hb dX1_goes_7 rfl (lv_at hl 0 rfl) ?_
      refine lv_tableOut (tgt := 127) hx hb dX1_goes_8 (by decide) (by decide) ?_
      refine lv_iconst (v := 0) hx hb dX1_goes_127 (by decide) ?_
      exact sc_zret hx hb hr hlk (by first | rfl | (simp [bI, goesN, *])) dX1_goes_128
    · refine lv_iconst (v := 1) hx hb dX1_goes_5 (by decide) ?_
      exact sc_zret hx hb hr hlk (by first | rfl | (simp [bI, goesN, *])) dX1_goes_6
  · refine lv_iload_n hx hb dX1_goes_0 rfl (lv_at hl 0 rfl) ?_
    refine lv_iload_n hx hb dX1_goes_1 rfl (lv_at hl 1 rfl) ?_
    refine n_icmp_ne (a := 2) (b := f) (tgt := 7) hx hb dX1_goes_2 (by decide) (by omega) (by omega) (fun c_2 => ?_) (fun c_2 => ?_)
    · refine lv_iload_n hx hb dX1_goes_7 rfl (lv_at hl 0 rfl) ?_
      refine lv_tableOut (tgt := 127) hx hb dX1_goes_8 (by decide) (by decide) ?_
      refine lv_iconst (v := 0) hx hb dX1_goes_127 (by decide) ?_
      exact sc_zret hx hb hr hlk (by first | rfl | (simp [bI, goesN, *])) dX1_goes_128
    · refine lv_iconst (v := 1) hx hb dX1_goes_5 (by decide) ?_
      exact sc_zret hx hb hr hlk (by first | rfl | (simp [bI, goesN, *])) dX1_goes_6
  · refine lv_iload_n hx hb dX1_goes_0 rfl (lv_at hl 0 rfl) ?_
    refine lv_iload_n hx hb dX1_goes_1 rfl (lv_at hl 1 rfl) ?_
    refine n_icmp_ne (a := 3) (b := f) (tgt := 7) hx hb dX1_goes_2 (by decide) (by omega) (by omega) (fun c_2 => ?_) (fun c_2 => ?_)
    · refine lv_iload_n hx hb dX1_goes_7 rfl (lv_at hl 0 rfl) ?_
      refine lv_tableOut (tgt := 127) hx hb dX1_goes_8 (by decide) (by decide) ?_
      refine lv_iconst (v := 0) hx hb dX1_goes_127 (by decide) ?_
      exact sc_zret hx hb hr hlk (by first | rfl | (simp [bI, goesN, *])) dX1_goes_128
    · refine lv_iconst (v := 1) hx hb dX1_goes_5 (by decide) ?_
      exact sc_zret hx hb hr hlk (by first | rfl | (simp [bI, goesN, *])) dX1_goes_6
  · refine lv_iload_n hx hb dX1_goes_0 rfl (lv_at hl 0 rfl) ?_
    refine lv_iload_n hx hb dX1_goes_1 rfl (lv_at hl 1 rfl) ?_
    refine n_icmp_ne (a := 4) (b := f) (tgt := 7) hx hb dX1_goes_2 (by decide) (by omega) (by omega) (fun c_2 => ?_) (fun c_2 => ?_)
    · refine lv_iload_n hx hb dX1_goes_7 rfl (lv_at hl 0 rfl) ?_
      refine lv_tableOut (tgt := 127) hx hb dX1_goes_8 (by decide) (by decide) ?_
      refine lv_iconst (v := 0) hx hb dX1_goes_127 (by decide) ?_
      exact sc_zret hx hb hr hlk (by first | rfl | (simp [bI, goesN, *])) dX1_goes_128
    · refine lv_iconst (v := 1) hx hb dX1_goes_5 (by decide) ?_
      exact sc_zret hx hb hr hlk (by first | rfl | (simp [bI, goesN, *])) dX1_goes_6
  · refine lv_iload_n hx hb dX1_goes_0 rfl (lv_at hl 0 rfl) ?_
    refine lv_iload_n hx hb dX1_goes_1 rfl (lv_at hl 1 rfl) ?_
    refine n_icmp_ne (a := 5) (b := f) (tgt := 7) hx hb dX1_goes_2 (by decide) (by omega) (by omega) (fun c_2 => ?_) (fun c_2 => ?_)
    · refine lv_iload_n hx hb dX1_goes_7 rfl (lv_at hl 0 rfl) ?_
      refine lv_tableIn (off := 48) (tgt := 56) hx hb dX1_goes_8 (by decide) (by decide) rfl (by decide) ?_
      refine lv_iload_n hx hb dX1_goes_56 rfl (lv_at hl 1 rfl) ?_
      refine lv_bipush (v := 13) hx hb dX1_goes_57 (by decide) ?_
      refine n_icmp_ne (a := f) (b := 13) (tgt := 66) hx hb dX1_goes_59 (by decide) (by omega) (by omega) (fun c_59 => ?_) (fun c_59 => ?_)
      · refine lv_iconst (v := 0) hx hb dX1_goes_66 (by decide) ?_
        exact sc_zret hx hb hr hlk (by first | rfl | (simp [bI, goesN, *])) dX1_goes_67
      · refine lv_iconst (v := 1) hx hb dX1_goes_62 (by decide) ?_
        refine lv_goto (tgt := 67) hx hb dX1_goes_63 (by decide) ?_
        exact sc_zret hx hb hr hlk (by first | rfl | (simp [bI, goesN, *])) dX1_goes_67
    · refine lv_iconst (v := 1) hx hb dX1_goes_5 (by decide) ?_
      exact sc_zret hx hb hr hlk (by first | rfl | (simp [bI, goesN, *])) dX1_goes_6
  · refine lv_iload_n hx hb dX1_goes_0 rfl (lv_at hl 0 rfl) ?_
    refine lv_iload_n hx hb dX1_goes_1 rfl (lv_at hl 1 rfl) ?_
    refine n_icmp_ne (a := 6) (b := f) (tgt := 7) hx hb dX1_goes_2 (by decide) (by omega) (by omega) (fun c_2 => ?_) (fun c_2 => ?_)
    · refine lv_iload_n hx hb dX1_goes_7 rfl (lv_at hl 0 rfl) ?_
      refine lv_tableIn (off := 60) (tgt := 68) hx hb dX1_goes_8 (by decide) (by decide) rfl (by decide) ?_
      refine lv_iload_n hx hb dX1_goes_68 rfl (lv_at hl 1 rfl) ?_
      refine lv_iconst (v := 5) hx hb dX1_goes_69 (by decide) ?_
      refine n_icmp_eq (a := f) (b := 5) (tgt := 79) hx hb dX1_goes_70 (by decide) (by omega) (by omega) (fun c_70 => ?_) (fun c_70 => ?_)
      · refine lv_iconst (v := 1) hx hb dX1_goes_79 (by decide) ?_
        refine lv_goto (tgt := 84) hx hb dX1_goes_80 (by decide) ?_
        exact sc_zret hx hb hr hlk (by first | rfl | (simp [bI, goesN, *])) dX1_goes_84
      · refine lv_iload_n hx hb dX1_goes_73 rfl (lv_at hl 1 rfl) ?_
        refine lv_bipush (v := 13) hx hb dX1_goes_74 (by decide) ?_
        refine n_icmp_ne (a := f) (b := 13) (tgt := 83) hx hb dX1_goes_76 (by decide) (by omega) (by omega) (fun c_76 => ?_) (fun c_76 => ?_)
        · refine lv_iconst (v := 0) hx hb dX1_goes_83 (by decide) ?_
          exact sc_zret hx hb hr hlk (by first | rfl | (simp [bI, goesN, *])) dX1_goes_84
        · refine lv_iconst (v := 1) hx hb dX1_goes_79 (by decide) ?_
          refine lv_goto (tgt := 84) hx hb dX1_goes_80 (by decide) ?_
          exact sc_zret hx hb hr hlk (by first | rfl | (simp [bI, goesN, *])) dX1_goes_84
    · refine lv_iconst (v := 1) hx hb dX1_goes_5 (by decide) ?_
      exact sc_zret hx hb hr hlk (by first | rfl | (simp [bI, goesN, *])) dX1_goes_6
  · refine lv_iload_n hx hb dX1_goes_0 rfl (lv_at hl 0 rfl) ?_
    refine lv_iload_n hx hb dX1_goes_1 rfl (lv_at hl 1 rfl) ?_
    refine n_icmp_ne (a := 7) (b := f) (tgt := 7) hx hb dX1_goes_2 (by decide) (by omega) (by omega) (fun c_2 => ?_) (fun c_2 => ?_)
    · refine lv_iload_n hx hb dX1_goes_7 rfl (lv_at hl 0 rfl) ?_
      refine lv_tableIn (off := 48) (tgt := 56) hx hb dX1_goes_8 (by decide) (by decide) rfl (by decide) ?_
      refine lv_iload_n hx hb dX1_goes_56 rfl (lv_at hl 1 rfl) ?_
      refine lv_bipush (v := 13) hx hb dX1_goes_57 (by decide) ?_
      refine n_icmp_ne (a := f) (b := 13) (tgt := 66) hx hb dX1_goes_59 (by decide) (by omega) (by omega) (fun c_59 => ?_) (fun c_59 => ?_)
      · refine lv_iconst (v := 0) hx hb dX1_goes_66 (by decide) ?_
        exact sc_zret hx hb hr hlk (by first | rfl | (simp [bI, goesN, *])) dX1_goes_67
      · refine lv_iconst (v := 1) hx hb dX1_goes_62 (by decide) ?_
        refine lv_goto (tgt := 67) hx hb dX1_goes_63 (by decide) ?_
        exact sc_zret hx hb hr hlk (by first | rfl | (simp [bI, goesN, *])) dX1_goes_67
    · refine lv_iconst (v := 1) hx hb dX1_goes_5 (by decide) ?_
      exact sc_zret hx hb hr hlk (by first | rfl | (simp [bI, goesN, *])) dX1_goes_6
  · refine lv_iload_n hx hb dX1_goes_0 rfl (lv_at hl 0 rfl) ?_
    refine lv_iload_n hx hb dX1_goes_1 rfl (lv_at hl 1 rfl) ?_
    refine n_icmp_ne (a := 8) (b := f) (tgt := 7) hx hb dX1_goes_2 (by decide) (by omega) (by omega) (fun c_2 => ?_) (fun c_2 => ?_)
    · refine lv_iload_n hx hb dX1_goes_7 rfl (lv_at hl 0 rfl) ?_
      refine lv_tableIn (off := 77) (tgt := 85) hx hb dX1_goes_8 (by decide) (by decide) rfl (by decide) ?_
      refine lv_iload_n hx hb dX1_goes_85 rfl (lv_at hl 1 rfl) ?_
      refine lv_bipush (v := 10) hx hb dX1_goes_86 (by decide) ?_
      refine n_icmp_ne (a := f) (b := 10) (tgt := 95) hx hb dX1_goes_88 (by decide) (by omega) (by omega) (fun c_88 => ?_) (fun c_88 => ?_)
      · refine lv_iconst (v := 0) hx hb dX1_goes_95 (by decide) ?_
        exact sc_zret hx hb hr hlk (by first | rfl | (simp [bI, goesN, *])) dX1_goes_96
      · refine lv_iconst (v := 1) hx hb dX1_goes_91 (by decide) ?_
        refine lv_goto (tgt := 96) hx hb dX1_goes_92 (by decide) ?_
        exact sc_zret hx hb hr hlk (by first | rfl | (simp [bI, goesN, *])) dX1_goes_96
    · refine lv_iconst (v := 1) hx hb dX1_goes_5 (by decide) ?_
      exact sc_zret hx hb hr hlk (by first | rfl | (simp [bI, goesN, *])) dX1_goes_6
  · refine lv_iload_n hx hb dX1_goes_0 rfl (lv_at hl 0 rfl) ?_
    refine lv_iload_n hx hb dX1_goes_1 rfl (lv_at hl 1 rfl) ?_
    refine n_icmp_ne (a := 9) (b := f) (tgt := 7) hx hb dX1_goes_2 (by decide) (by omega) (by omega) (fun c_2 => ?_) (fun c_2 => ?_)
    · refine lv_iload_n hx hb dX1_goes_7 rfl (lv_at hl 0 rfl) ?_
      refine lv_tableIn (off := 89) (tgt := 97) hx hb dX1_goes_8 (by decide) (by decide) rfl (by decide) ?_
      refine lv_iload_n hx hb dX1_goes_97 rfl (lv_at hl 1 rfl) ?_
      refine lv_bipush (v := 8) hx hb dX1_goes_98 (by decide) ?_
      refine n_icmp_eq (a := f) (b := 8) (tgt := 109) hx hb dX1_goes_100 (by decide) (by omega) (by omega) (fun c_100 => ?_) (fun c_100 => ?_)
      · refine lv_iconst (v := 1) hx hb dX1_goes_109 (by decide) ?_
        refine lv_goto (tgt := 114) hx hb dX1_goes_110 (by decide) ?_
        exact sc_zret hx hb hr hlk (by first | rfl | (simp [bI, goesN, *])) dX1_goes_114
      · refine lv_iload_n hx hb dX1_goes_103 rfl (lv_at hl 1 rfl) ?_
        refine lv_bipush (v := 10) hx hb dX1_goes_104 (by decide) ?_
        refine n_icmp_ne (a := f) (b := 10) (tgt := 113) hx hb dX1_goes_106 (by decide) (by omega) (by omega) (fun c_106 => ?_) (fun c_106 => ?_)
        · refine lv_iconst (v := 0) hx hb dX1_goes_113 (by decide) ?_
          exact sc_zret hx hb hr hlk (by first | rfl | (simp [bI, goesN, *])) dX1_goes_114
        · refine lv_iconst (v := 1) hx hb dX1_goes_109 (by decide) ?_
          refine lv_goto (tgt := 114) hx hb dX1_goes_110 (by decide) ?_
          exact sc_zret hx hb hr hlk (by first | rfl | (simp [bI, goesN, *])) dX1_goes_114
    · refine lv_iconst (v := 1) hx hb dX1_goes_5 (by decide) ?_
      exact sc_zret hx hb hr hlk (by first | rfl | (simp [bI, goesN, *])) dX1_goes_6
  · refine lv_iload_n hx hb dX1_goes_0 rfl (lv_at hl 0 rfl) ?_
    refine lv_iload_n hx hb dX1_goes_1 rfl (lv_at hl 1 rfl) ?_
    refine n_icmp_ne (a := 10) (b := f) (tgt := 7) hx hb dX1_goes_2 (by decide) (by omega) (by omega) (fun c_2 => ?_) (fun c_2 => ?_)
    · refine lv_iload_n hx hb dX1_goes_7 rfl (lv_at hl 0 rfl) ?_
      refine lv_tableIn (off := 119) (tgt := 127) hx hb dX1_goes_8 (by decide) (by decide) rfl (by decide) ?_
      refine lv_iconst (v := 0) hx hb dX1_goes_127 (by decide) ?_
      exact sc_zret hx hb hr hlk (by first | rfl | (simp [bI, goesN, *])) dX1_goes_128
    · refine lv_iconst (v := 1) hx hb dX1_goes_5 (by decide) ?_
      exact sc_zret hx hb hr hlk (by first | rfl | (simp [bI, goesN, *])) dX1_goes_6
  · refine lv_iload_n hx hb dX1_goes_0 rfl (lv_at hl 0 rfl) ?_
    refine lv_iload_n hx hb dX1_goes_1 rfl (lv_at hl 1 rfl) ?_
    refine n_icmp_ne (a := 11) (b := f) (tgt := 7) hx hb dX1_goes_2 (by decide) (by omega) (by omega) (fun c_2 => ?_) (fun c_2 => ?_)
    · refine lv_iload_n hx hb dX1_goes_7 rfl (lv_at hl 0 rfl) ?_
      refine lv_tableIn (off := 119) (tgt := 127) hx hb dX1_goes_8 (by decide) (by decide) rfl (by decide) ?_
      refine lv_iconst (v := 0) hx hb dX1_goes_127 (by decide) ?_
      exact sc_zret hx hb hr hlk (by first | rfl | (simp [bI, goesN, *])) dX1_goes_128
    · refine lv_iconst (v := 1) hx hb dX1_goes_5 (by decide) ?_
      exact sc_zret hx hb hr hlk (by first | rfl | (simp [bI, goesN, *])) dX1_goes_6
  · refine lv_iload_n hx hb dX1_goes_0 rfl (lv_at hl 0 rfl) ?_
    refine lv_iload_n hx hb dX1_goes_1 rfl (lv_at hl 1 rfl) ?_
    refine n_icmp_ne (a := 12) (b := f) (tgt := 7) hx hb dX1_goes_2 (by decide) (by omega) (by omega) (fun c_2 => ?_) (fun c_2 => ?_)
    · refine lv_iload_n hx hb dX1_goes_7 rfl (lv_at hl 0 rfl) ?_
      refine lv_tableIn (off := 107) (tgt := 115) hx hb dX1_goes_8 (by decide) (by decide) rfl (by decide) ?_
      refine lv_iload_n hx hb dX1_goes_115 rfl (lv_at hl 1 rfl) ?_
      refine lv_bipush (v := 11) hx hb dX1_goes_116 (by decide) ?_
      refine n_icmp_ne (a := f) (b := 11) (tgt := 125) hx hb dX1_goes_118 (by decide) (by omega) (by omega) (fun c_118 => ?_) (fun c_118 => ?_)
      · refine lv_iconst (v := 0) hx hb dX1_goes_125 (by decide) ?_
        exact sc_zret hx hb hr hlk (by first | rfl | (simp [bI, goesN, *])) dX1_goes_126
      · refine lv_iconst (v := 1) hx hb dX1_goes_121 (by decide) ?_
        refine lv_goto (tgt := 126) hx hb dX1_goes_122 (by decide) ?_
        exact sc_zret hx hb hr hlk (by first | rfl | (simp [bI, goesN, *])) dX1_goes_126
    · refine lv_iconst (v := 1) hx hb dX1_goes_5 (by decide) ?_
      exact sc_zret hx hb hr hlk (by first | rfl | (simp [bI, goesN, *])) dX1_goes_6
theorem k_X1_isItem (l : Launch) (D : va_G) (tc : Nat → ClassId) (mo : Nat) (μ : MS) (t : Int32) : MC l yX1_isItem cX1_isItem 2 (some .boolean) 1 22 D tc mo [.int t] μ μ (some (.int (bI (isItem μ t)))) := by
  refine MC.of (by decide) rfl (Nat.le_of_ble_eq_true rfl) ?_
  intro p e s m below meth c hC hr hlk hml hM hS ls hl
  have hx := hC.1
  have hb := hC.2.1
  have hts := hC.2.2.1
  have hown := hC.2.2.2.1
  have hl : lv_has ls 2 [(0, .ref mo), (1, .int t)] := hl
  refine lv_iload_n hx hb dX1_isItem_0 rfl (lv_at hl 1 rfl) ?_
  refine lv_iconst (v := 0) hx hb dX1_isItem_1 (by decide) ?_
  refine lv_aload_n hx hb dX1_isItem_2 rfl (lv_at hl 0 rfl) ?_
  refine md_get (v := .int (sS μ 0)) hC hM 0 (by decide) rfl q473 rfl dX1_isItem_3 ?_
  refine lv_iconst (v := 1) hx hb dX1_isItem_6 (by decide) ?_
  refine lv_isub hx hb dX1_isItem_7 ?_
  refine w_SC (As := [.int t, .int 0, .int ((sS μ 0) - 1)]) hx hb hts hown hml hl.1 (k_X1_isIn l t 0 ((sS μ 0) - 1)) q560 q561 q24 q562 rfl ⟨by decide, by decide, rfl⟩ (Nat.le_of_ble_eq_true rfl) (Nat.le_of_ble_eq_true rfl) ⟨Nat.zero_le _, Nat.zero_le _⟩ rfl (Nat.le_of_ble_eq_true rfl) dX1_isItem_8 ?_
  exact md_zret hC hr hlk hM hS rfl rfl dX1_isItem_11
theorem k_X1_refuse (l : Launch) (D : va_G) (tc : Nat → ClassId) (mo : Nat) (μ : MS) (t : Int32) : MC l yX1_refuse cX1_refuse 2 (some .int) 0 0 D tc mo [.int t] μ (p_no μ t) (some (.int t)) := by
  refine MC.of (by decide) rfl (Nat.le_of_ble_eq_true rfl) ?_
  intro p e s m below meth c hC hr hlk hml hM hS ls hl
  have hx := hC.1
  have hb := hC.2.1
  have hts := hC.2.2.1
  have hown := hC.2.2.2.1
  have hl : lv_has ls 2 [(0, .ref mo), (1, .int t)] := hl
  refine lv_aload_n hx hb dX1_refuse_0 rfl (lv_at hl 0 rfl) ?_
  refine lv_iload_n hx hb dX1_refuse_1 rfl (lv_at hl 1 rfl) ?_
  refine md_put hC hM hS 1 (by decide) q488 dX1_refuse_2 (fun H locs hM hS => ?_)
  refine lv_aload_n hx hb dX1_refuse_5 rfl (lv_at hl 0 rfl) ?_
  refine lv_dup hx hb dX1_refuse_6 rfl ?_
  refine md_get (v := .int (sS (setS μ 1 t) 2)) hC hM 16 (by decide) rfl q489 rfl dX1_refuse_7 ?_
  refine lv_iload_n hx hb dX1_refuse_10 rfl (lv_at hl 1 rfl) ?_
  refine lv_bipush (v := (-4)) hx hb dX1_refuse_11 (by decide) ?_
  refine w_tern (P := t = (-4)) (x := 1) (y := 0) (pcT := 16) (pcF := 20) (pcE := 21) (fun a b => lv_icmp_ne (tgt := 20) hx hb dX1_refuse_13 (by decide) b a) (fun k => lv_iconst (v := 1) hx hb dX1_refuse_16 (by decide) (lv_goto (tgt := 21) hx hb dX1_refuse_17 (by decide) k)) (fun k => lv_iconst (v := 0) hx hb dX1_refuse_20 (by decide) k) ?_
  refine lv_iadd hx hb dX1_refuse_21 ?_
  refine md_put hC hM hS 2 (by decide) q489 dX1_refuse_22 (fun H locs hM hS => ?_)
  refine lv_aload_n hx hb dX1_refuse_25 rfl (lv_at hl 0 rfl) ?_
  refine lv_dup hx hb dX1_refuse_26 rfl ?_
  refine md_get (v := .int (sS (setS (setS μ 1 t) 2 ((sS (setS μ 1 t) 2) + (if t = (-4) then 1 else 0))) 3)) hC hM 17 (by decide) rfl q490 rfl dX1_refuse_27 ?_
  refine lv_iload_n hx hb dX1_refuse_30 rfl (lv_at hl 1 rfl) ?_
  refine lv_bipush (v := (-5)) hx hb dX1_refuse_31 (by decide) ?_
  refine w_tern (P := t = (-5)) (x := 1) (y := 0) (pcT := 36) (pcF := 40) (pcE := 41) (fun a b => lv_icmp_ne (tgt := 40) hx hb dX1_refuse_33 (by decide) b a) (fun k => lv_iconst (v := 1) hx hb dX1_refuse_36 (by decide) (lv_goto (tgt := 41) hx hb dX1_refuse_37 (by decide) k)) (fun k => lv_iconst (v := 0) hx hb dX1_refuse_40 (by decide) k) ?_
  refine lv_iadd hx hb dX1_refuse_41 ?_
  refine md_put hC hM hS 3 (by decide) q490 dX1_refuse_42 (fun H locs hM hS => ?_)
  refine lv_aload_n hx hb dX1_refuse_45 rfl (lv_at hl 0 rfl) ?_
  refine lv_dup hx hb dX1_refuse_46 rfl ?_
  refine md_get (v := .int (sS (setS (setS (setS μ 1 t) 2 ((sS (setS μ 1 t) 2) + (if t = (-4) then 1 else 0))) 3 ((sS (setS (setS μ 1 t) 2 ((sS (setS μ 1 t) 2) + (if t = (-4) then 1 else 0))) 3) + (if t = (-5) then 1 else 0))) 4)) hC hM 18 (by decide) rfl q491 rfl dX1_refuse_47 ?_
  refine lv_iload_n hx hb dX1_refuse_50 rfl (lv_at hl 1 rfl) ?_
  refine lv_bipush (v := (-6)) hx hb dX1_refuse_51 (by decide) ?_
  refine w_tern (P := t = (-6)) (x := 1) (y := 0) (pcT := 56) (pcF := 60) (pcE := 61) (fun a b => lv_icmp_ne (tgt := 60) hx hb dX1_refuse_53 (by decide) b a) (fun k => lv_iconst (v := 1) hx hb dX1_refuse_56 (by decide) (lv_goto (tgt := 61) hx hb dX1_refuse_57 (by decide) k)) (fun k => lv_iconst (v := 0) hx hb dX1_refuse_60 (by decide) k) ?_
  refine lv_iadd hx hb dX1_refuse_61 ?_
  refine md_put hC hM hS 4 (by decide) q491 dX1_refuse_62 (fun H locs hM hS => ?_)
  refine lv_iload_n hx hb dX1_refuse_65 rfl (lv_at hl 1 rfl) ?_
  exact md_iret hC hr hlk hM hS rfl rfl dX1_refuse_66
theorem k_X1_wrongPlace (l : Launch) (D : va_G) (tc : Nat → ClassId) (mo : Nat) (μ : MS) (t : Nat) (i : Int32) (r : Bool) (ht : t < 60) : MC l yX1_wrongPlace cX1_wrongPlace 4 (some .int) 1 22 D tc mo [.int (nI t), .int i, .int (bI r)] μ μ (some (.int (wpl (sA μ 1 t) i r))) := by
  refine MC.of (by decide) rfl (Nat.le_of_ble_eq_true rfl) ?_
  intro p e s m below meth c hC hr hlk hml hM hS ls hl
  have hx := hC.1
  have hb := hC.2.1
  have hts := hC.2.2.1
  have hown := hC.2.2.2.1
  have hl : lv_has ls 4 [(0, .ref mo), (1, .int (nI t)), (2, .int i), (3, .int (bI r))] := hl
  refine lv_iload_n hx hb dX1_wrongPlace_0 rfl (lv_at hl 3 rfl) ?_
  refine b_ifne (w := r) (tgt := 9) hx hb dX1_wrongPlace_1 (by decide) (fun c_1 => ?_) (fun c_1 => ?_)
  · refine lv_iload_n hx hb dX1_wrongPlace_9 rfl (lv_at hl 2 rfl) ?_
    refine lv_iconst (v := 0) hx hb dX1_wrongPlace_10 (by decide) ?_
    refine lv_aload_n hx hb dX1_wrongPlace_11 rfl (lv_at hl 0 rfl) ?_
    refine md_get (v := .ref (mo + 2)) hC hM 2 (by decide) rfl q475 rfl dX1_wrongPlace_12 ?_
    refine lv_iload_n hx hb dX1_wrongPlace_15 rfl (lv_at hl 1 rfl) ?_
    refine md_ald (v := (sA μ 1 t)) hC hM 1 (N := 60) rfl (by decide) rfl rfl t rfl (by omega) rfl dX1_wrongPlace_16 ?_
    refine lv_iconst (v := 1) hx hb dX1_wrongPlace_17 (by decide) ?_
    refine lv_isub hx hb dX1_wrongPlace_18 ?_
    refine w_SC (As := [.int i, .int 0, .int ((sA μ 1 t) - 1)]) hx hb hts hown hml hl.1 (k_X1_isIn l i 0 ((sA μ 1 t) - 1)) q560 q561 q24 q562 rfl ⟨by decide, by decide, rfl⟩ (Nat.le_of_ble_eq_true rfl) (Nat.le_of_ble_eq_true rfl) ⟨Nat.zero_le _, Nat.zero_le _⟩ rfl (Nat.le_of_ble_eq_true rfl) dX1_wrongPlace_19 ?_
    refine b_ifne (w := (isIn i 0 ((sA μ 1 t) - 1))) (tgt := 30) hx hb dX1_wrongPlace_22 (by decide) (fun c_22 => ?_) (fun c_22 => ?_)
    · refine lv_iconst (v := 0) hx hb dX1_wrongPlace_30 (by decide) ?_
      exact md_iret hC hr hlk hM hS rfl (by first | rfl | (simp [wpl, *])) dX1_wrongPlace_31
    · refine lv_bipush (v := (-5)) hx hb dX1_wrongPlace_25 (by decide) ?_
      refine lv_goto (tgt := 31) hx hb dX1_wrongPlace_27 (by decide) ?_
      exact md_iret hC hr hlk hM hS rfl (by first | rfl | (simp [wpl, *])) dX1_wrongPlace_31
  · refine lv_bipush (v := (-4)) hx hb dX1_wrongPlace_4 (by decide) ?_
    refine lv_goto (tgt := 31) hx hb dX1_wrongPlace_6 (by decide) ?_
    exact md_iret hC hr hlk hM hS rfl (by first | rfl | (simp [wpl, *])) dX1_wrongPlace_31

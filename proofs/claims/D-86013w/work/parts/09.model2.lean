/-! THE MODEL: its plain operations -/
set_option maxRecDepth 100000
set_option maxHeartbeats 4000000
theorem k_X1_put (l : Launch) (D : va_G) (tc : Nat → ClassId) (mo : Nat) (μ : MS) (hW : WF μ) (t i v : Int32) : MC l yX1_put cX1_put 5 (some .int) 2 45 D tc mo [.int t, .int i, .int v] μ ((p_put μ t i v).1) (some (.int ((p_put μ t i v).2))) := by
  refine MC.of (by decide) rfl (Nat.le_of_ble_eq_true rfl) ?_
  intro p e s m below meth c hC hr hlk hml hM hS ls hl
  have hx := hC.1
  have hb := hC.2.1
  have hts := hC.2.2.1
  have hown := hC.2.2.2.1
  have hl : lv_has ls 5 [(0, .ref mo), (1, .int t), (2, .int i), (3, .int v)] := hl
  refine lv_aload_n hx hb dX1_put_0 rfl (lv_at hl 0 rfl) ?_
  refine lv_iconst (v := 0) hx hb dX1_put_1 (by decide) ?_
  refine md_put hC hM hS 1 (by decide) q488 dX1_put_2 (fun H locs hM hS => ?_)
  refine lv_aload_n hx hb dX1_put_5 rfl (lv_at hl 0 rfl) ?_
  refine lv_iload_n hx hb dX1_put_6 rfl (lv_at hl 1 rfl) ?_
  refine w_MC (As := [.int t]) hC hM hS (fun _ h => h) hml hl.1 (k_X1_isItem l D tc mo (setS μ 1 0) t) q578 q580 qs10 q24 q581 rfl ⟨rfl, by decide, by decide, rfl⟩ (Nat.le_of_ble_eq_true rfl) (Nat.le_of_ble_eq_true rfl) ⟨Nat.zero_le _, Nat.zero_le _⟩ rfl (Nat.le_of_ble_eq_true rfl) dX1_put_7 (fun H locs hM hS _ _ => ?_)
  refine b_ifne (w := (isItem (setS μ 1 0) t)) (tgt := 20) hx hb dX1_put_10 (by decide) (fun c_10 => ?_) (fun c_10 => ?_)
  · obtain ⟨j, hj, hn, rfl⟩ := item_of (μ := μ) hW c_10
    have hk_j := (hW.2.1 j (by omega)).2.1
    have hz_j := (hW.2.1 j (by omega)).2.2.2
    have hi_j : isItem μ (nI j) = true := isItem_of hW hj
    refine lv_aload_n hx hb dX1_put_20 rfl (lv_at hl 0 rfl) ?_
    refine lv_iload_n hx hb dX1_put_21 rfl (lv_at hl 1 rfl) ?_
    refine lv_iload_n hx hb dX1_put_22 rfl (lv_at hl 2 rfl) ?_
    refine lv_aload_n hx hb dX1_put_23 rfl (lv_at hl 0 rfl) ?_
    refine md_get (v := .ref (mo + 1)) hC hM 1 (by decide) rfl q474 rfl dX1_put_24 ?_
    refine lv_iload_n hx hb dX1_put_27 rfl (lv_at hl 1 rfl) ?_
    refine md_ald (v := (nI (kd μ j))) hC hM 0 (N := 60) rfl (by decide) rfl rfl j rfl (by omega) ((hW.2.1 j (by omega)).1) dX1_put_28 ?_
    refine w_SC (As := [.int (nI (kd μ j))]) hx hb hts hown hml hl.1 (k_X1_isOfNumbers l (kd μ j) (by omega)) q582 q583 q24 q584 rfl ⟨by decide, by decide, rfl⟩ (Nat.le_of_ble_eq_true rfl) (Nat.le_of_ble_eq_true rfl) ⟨Nat.zero_le _, Nat.zero_le _⟩ rfl (Nat.le_of_ble_eq_true rfl) dX1_put_29 ?_
    refine w_MC (As := [.int (nI j), .int i, .int (bI (numN (kd μ j)))]) hC hM hS (fun _ h => h) hml hl.1 (k_X1_wrongPlace l D tc mo (setS μ 1 0) j i (numN (kd μ j)) (by omega)) q585 q587 qs11 q24 q588 rfl ⟨rfl, by decide, by decide, rfl⟩ (Nat.le_of_ble_eq_true rfl) (Nat.le_of_ble_eq_true rfl) ⟨Nat.zero_le _, Nat.zero_le _⟩ rfl (Nat.le_of_ble_eq_true rfl) dX1_put_32 (fun H locs hM hS _ _ => ?_)
    refine lv_istore (lv' := [(4, .int (wpl (sA (setS μ 1 0) 1 j) i (numN (kd μ j)))), (0, .ref mo), (1, .int (nI j)), (2, .int i), (3, .int v)]) hx hb dX1_put_35 hl (by decide) rfl (fun ls hl => ?_)
    refine lv_iload hx hb dX1_put_37 (lv_at hl 0 rfl) ?_
    refine lv_if_eq (tgt := 49) hx hb dX1_put_39 (by decide) (fun c_39 => ?_) (fun c_39 => ?_)
    · have c_ok : wpl (nI (sz μ j)) i (numN (kd μ j)) = 0 := by rw [← (hW.2.1 j (by omega)).2.2.1]; exact c_39
      obtain ⟨hr_ok, a, ha, rfl⟩ := wpl_0 (by omega) c_ok
      refine lv_aload_n hx hb dX1_put_49 rfl (lv_at hl 1 rfl) ?_
      refine md_get (v := .ref (mo + 4)) hC hM 4 (by decide) rfl q477 rfl dX1_put_50 ?_
      refine lv_iconst (v := 3) hx hb dX1_put_53 (by decide) ?_
      refine lv_iload_n hx hb dX1_put_54 rfl (lv_at hl 2 rfl) ?_
      refine lv_imul hx hb dX1_put_55 ?_
      refine w_top (congrArg Value.int (pk_mul 3 j)) ?_
      refine lv_iload_n hx hb dX1_put_56 rfl (lv_at hl 3 rfl) ?_
      refine lv_iadd hx hb dX1_put_57 ?_
      refine w_top (congrArg Value.int (nI_add (3 * j) a)) ?_
      refine lv_aload_n hx hb dX1_put_58 rfl (lv_at hl 1 rfl) ?_
      refine md_get (v := .ref (mo + 1)) hC hM 1 (by decide) rfl q474 rfl dX1_put_59 ?_
      refine lv_iload_n hx hb dX1_put_62 rfl (lv_at hl 2 rfl) ?_
      refine md_ald (v := (nI (kd μ j))) hC hM 0 (N := 60) rfl (by decide) rfl rfl j rfl (by omega) ((hW.2.1 j (by omega)).1) dX1_put_63 ?_
      refine lv_iload_n hx hb dX1_put_64 rfl (lv_at hl 4 rfl) ?_
      refine lv_i2l hx hb dX1_put_65 rfl ?_
      refine w_SC (As := [.int (nI (kd μ j)), .long v.toInt64]) hx hb hts hown hml hl.1 (k_X1_kept l (kd μ j) v.toInt64 (by omega)) q589 q590 q24 q591 rfl ⟨by decide, by decide, rfl⟩ (Nat.le_of_ble_eq_true rfl) (Nat.le_of_ble_eq_true rfl) ⟨Nat.zero_le _, Nat.zero_le _⟩ rfl (Nat.le_of_ble_eq_true rfl) dX1_put_66 ?_
      refine md_last hC hM hS rfl ((3 * j) + a) rfl (by omega) dX1_put_69 (fun H locs hM hS => ?_)
      refine lv_iconst (v := 1) hx hb dX1_put_70 (by decide) ?_
      exact md_iret hC hr hlk hM hS (by rw [p_put_ok (μ := μ) (by omega) (by omega) hi_j c_39]) (by rw [p_put_ok (μ := μ) (by omega) (by omega) hi_j c_39]) dX1_put_71
    · refine lv_aload_n hx hb dX1_put_42 rfl (lv_at hl 1 rfl) ?_
      refine lv_iload hx hb dX1_put_43 (lv_at hl 0 rfl) ?_
      refine w_MC (As := [.int (wpl (sA (setS μ 1 0) 1 j) i (numN (kd μ j)))]) hC hM hS (fun _ h => h) hml hl.1 (k_X1_refuse l D tc mo (setS μ 1 0) (wpl (sA (setS μ 1 0) 1 j) i (numN (kd μ j)))) q566 q568 qs9 q24 q569 rfl ⟨rfl, by decide, by decide, rfl⟩ (Nat.le_of_ble_eq_true rfl) (Nat.le_of_ble_eq_true rfl) ⟨Nat.zero_le _, Nat.zero_le _⟩ rfl (Nat.le_of_ble_eq_true rfl) dX1_put_45 (fun H locs hM hS _ _ => ?_)
      exact md_iret hC hr hlk hM hS (by rw [p_put_why (μ := μ) (by omega) hi_j c_39]; first | done | rfl) (by rw [p_put_why (μ := μ) (by omega) hi_j c_39]; first | done | rfl) dX1_put_48
  · refine lv_aload_n hx hb dX1_put_13 rfl (lv_at hl 0 rfl) ?_
    refine lv_bipush (v := (-2)) hx hb dX1_put_14 (by decide) ?_
    refine w_MC (As := [.int (-2)]) hC hM hS (fun _ h => h) hml hl.1 (k_X1_refuse l D tc mo (setS μ 1 0) (-2)) q566 q568 qs9 q24 q569 rfl ⟨rfl, by decide, by decide, rfl⟩ (Nat.le_of_ble_eq_true rfl) (Nat.le_of_ble_eq_true rfl) ⟨Nat.zero_le _, Nat.zero_le _⟩ rfl (Nat.le_of_ble_eq_true rfl) dX1_put_16 (fun H locs hM hS _ _ => ?_)
    exact md_iret hC hr hlk hM hS (by rw [p_put_bad (μ := μ) c_10]) (by rw [p_put_bad (μ := μ) c_10]) dX1_put_19
theorem k_X1_get (l : Launch) (D : va_G) (tc : Nat → ClassId) (mo : Nat) (μ : MS) (hW : WF μ) (t i : Int32) : MC l yX1_get cX1_get 6 (some .int) 2 45 D tc mo [.int t, .int i] μ ((p_get μ t i).1) (some (.int ((p_get μ t i).2))) := by
  refine MC.of (by decide) rfl (Nat.le_of_ble_eq_true rfl) ?_
  intro p e s m below meth c hC hr hlk hml hM hS ls hl
  have hx := hC.1
  have hb := hC.2.1
  have hts := hC.2.2.1
  have hown := hC.2.2.2.1
  have hl : lv_has ls 6 [(0, .ref mo), (1, .int t), (2, .int i)] := hl
  refine lv_aload_n hx hb dX1_get_0 rfl (lv_at hl 0 rfl) ?_
  refine lv_iconst (v := 0) hx hb dX1_get_1 (by decide) ?_
  refine md_put hC hM hS 1 (by decide) q488 dX1_get_2 (fun H locs hM hS => ?_)
  refine lv_aload_n hx hb dX1_get_5 rfl (lv_at hl 0 rfl) ?_
  refine lv_iload_n hx hb dX1_get_6 rfl (lv_at hl 1 rfl) ?_
  refine w_MC (As := [.int t]) hC hM hS (fun _ h => h) hml hl.1 (k_X1_isItem l D tc mo (setS μ 1 0) t) q578 q580 qs10 q24 q581 rfl ⟨rfl, by decide, by decide, rfl⟩ (Nat.le_of_ble_eq_true rfl) (Nat.le_of_ble_eq_true rfl) ⟨Nat.zero_le _, Nat.zero_le _⟩ rfl (Nat.le_of_ble_eq_true rfl) dX1_get_7 (fun H locs hM hS _ _ => ?_)
  refine b_ifne (w := (isItem (setS μ 1 0) t)) (tgt := 18) hx hb dX1_get_10 (by decide) (fun c_10 => ?_) (fun c_10 => ?_)
  · obtain ⟨j, hj, hn, rfl⟩ := item_of (μ := μ) hW c_10
    have hk_j := (hW.2.1 j (by omega)).2.1
    have hz_j := (hW.2.1 j (by omega)).2.2.2
    have hi_j : isItem μ (nI j) = true := isItem_of hW hj
    refine lv_aload_n hx hb dX1_get_18 rfl (lv_at hl 0 rfl) ?_
    refine lv_iload_n hx hb dX1_get_19 rfl (lv_at hl 1 rfl) ?_
    refine lv_iload_n hx hb dX1_get_20 rfl (lv_at hl 2 rfl) ?_
    refine lv_aload_n hx hb dX1_get_21 rfl (lv_at hl 0 rfl) ?_
    refine md_get (v := .ref (mo + 1)) hC hM 1 (by decide) rfl q474 rfl dX1_get_22 ?_
    refine lv_iload_n hx hb dX1_get_25 rfl (lv_at hl 1 rfl) ?_
    refine md_ald (v := (nI (kd μ j))) hC hM 0 (N := 60) rfl (by decide) rfl rfl j rfl (by omega) ((hW.2.1 j (by omega)).1) dX1_get_26 ?_
    refine w_SC (As := [.int (nI (kd μ j))]) hx hb hts hown hml hl.1 (k_X1_isOfNumbers l (kd μ j) (by omega)) q582 q583 q24 q584 rfl ⟨by decide, by decide, rfl⟩ (Nat.le_of_ble_eq_true rfl) (Nat.le_of_ble_eq_true rfl) ⟨Nat.zero_le _, Nat.zero_le _⟩ rfl (Nat.le_of_ble_eq_true rfl) dX1_get_27 ?_
    refine w_MC (As := [.int (nI j), .int i, .int (bI (numN (kd μ j)))]) hC hM hS (fun _ h => h) hml hl.1 (k_X1_wrongPlace l D tc mo (setS μ 1 0) j i (numN (kd μ j)) (by omega)) q585 q587 qs11 q24 q588 rfl ⟨rfl, by decide, by decide, rfl⟩ (Nat.le_of_ble_eq_true rfl) (Nat.le_of_ble_eq_true rfl) ⟨Nat.zero_le _, Nat.zero_le _⟩ rfl (Nat.le_of_ble_eq_true rfl) dX1_get_30 (fun H locs hM hS _ _ => ?_)
    refine lv_istore_n (lv' := [(3, .int (wpl (sA (setS μ 1 0) 1 j) i (numN (kd μ j)))), (0, .ref mo), (1, .int (nI j)), (2, .int i)]) hx hb dX1_get_33 rfl hl (by decide) rfl (fun ls hl => ?_)
    refine lv_iload_n hx hb dX1_get_34 rfl (lv_at hl 0 rfl) ?_
    refine lv_if_eq (tgt := 46) hx hb dX1_get_35 (by decide) (fun c_35 => ?_) (fun c_35 => ?_)
    · have c_ok : wpl (nI (sz μ j)) i (numN (kd μ j)) = 0 := by rw [← (hW.2.1 j (by omega)).2.2.1]; exact c_35
      obtain ⟨hr_ok, a, ha, rfl⟩ := wpl_0 (by omega) c_ok
      refine lv_aload_n hx hb dX1_get_46 rfl (lv_at hl 1 rfl) ?_
      refine md_get (v := .ref (mo + 4)) hC hM 4 (by decide) rfl q477 rfl dX1_get_47 ?_
      refine lv_iconst (v := 3) hx hb dX1_get_50 (by decide) ?_
      refine lv_iload_n hx hb dX1_get_51 rfl (lv_at hl 2 rfl) ?_
      refine lv_imul hx hb dX1_get_52 ?_
      refine w_top (congrArg Value.int (pk_mul 3 j)) ?_
      refine lv_iload_n hx hb dX1_get_53 rfl (lv_at hl 3 rfl) ?_
      refine lv_iadd hx hb dX1_get_54 ?_
      refine w_top (congrArg Value.int (nI_add (3 * j) a)) ?_
      refine md_lald (v := (sC (setS μ 1 0) ((3 * j) + a))) hC hM rfl ((3 * j) + a) rfl (by omega) rfl dX1_get_55 ?_
      refine lv_lstore (lv' := [(4, .long (sC (setS μ 1 0) ((3 * j) + a))), (3, .int (wpl (sA (setS μ 1 0) 1 j) (nI a) (numN (kd μ j)))), (0, .ref mo), (1, .int (nI j)), (2, .int (nI a))]) hx hb dX1_get_56 hl (by decide) rfl (fun ls hl => ?_)
      refine lv_lload hx hb dX1_get_58 (lv_at hl 0 rfl) ?_
      refine lv_ldc2 (v := (2147483647)) hx hb hown (hts _ q597) dX1_get_60 ?_
      refine W.lcmp hx hb dX1_get_63 ?_
      refine l_if_le (x := (sC (setS μ 1 0) ((3 * j) + a))) (y := (2147483647)) (tgt := 72) hx hb dX1_get_64 (by decide) (fun c_64 => ?_) (fun c_64 => ?_)
      · refine lv_lload hx hb dX1_get_72 (lv_at hl 0 rfl) ?_
        refine lv_l2i hx hb dX1_get_74 rfl ?_
        exact md_iret hC hr hlk hM hS (by rw [p_get_ok (μ := μ) (by omega) (by omega) hi_j c_35]) (by rw [p_get_ok (μ := μ) (by omega) (by omega) hi_j c_35]; first | exact (satI_le c_64).symm | exact (satI_gt c_64).symm) dX1_get_75
      · refine lv_ldc (v := 2147483647) hx hb hown (hts _ q598) dX1_get_67 ?_
        refine lv_goto (tgt := 75) hx hb dX1_get_69 (by decide) ?_
        exact md_iret hC hr hlk hM hS (by rw [p_get_ok (μ := μ) (by omega) (by omega) hi_j c_35]) (by rw [p_get_ok (μ := μ) (by omega) (by omega) hi_j c_35]; first | exact (satI_le c_64).symm | exact (satI_gt c_64).symm) dX1_get_75
    · refine lv_aload_n hx hb dX1_get_38 rfl (lv_at hl 1 rfl) ?_
      refine lv_iload_n hx hb dX1_get_39 rfl (lv_at hl 0 rfl) ?_
      refine w_MC (As := [.int (wpl (sA (setS μ 1 0) 1 j) i (numN (kd μ j)))]) hC hM hS (fun _ h => h) hml hl.1 (k_X1_refuse l D tc mo (setS μ 1 0) (wpl (sA (setS μ 1 0) 1 j) i (numN (kd μ j)))) q566 q568 qs9 q24 q569 rfl ⟨rfl, by decide, by decide, rfl⟩ (Nat.le_of_ble_eq_true rfl) (Nat.le_of_ble_eq_true rfl) ⟨Nat.zero_le _, Nat.zero_le _⟩ rfl (Nat.le_of_ble_eq_true rfl) dX1_get_40 (fun H locs hM hS _ _ => ?_)
      refine lv_istore_n (lv' := [(3, .int (wpl (sA (setS μ 1 0) 1 j) i (numN (kd μ j)))), (0, .ref mo), (1, .int (nI j)), (2, .int i)]) hx hb dX1_get_43 rfl hl (by decide) rfl (fun ls hl => ?_)
      refine lv_iconst (v := 0) hx hb dX1_get_44 (by decide) ?_
      exact md_iret hC hr hlk hM hS (by rw [p_get_why (μ := μ) (by omega) hi_j c_35]; first | done | rfl) (by rw [p_get_why (μ := μ) (by omega) hi_j c_35]) dX1_get_45
  · refine lv_bipush (v := (-2)) hx hb dX1_get_13 (by decide) ?_
    refine lv_goto (tgt := 33) hx hb dX1_get_15 (by decide) ?_
    refine lv_istore_n (lv' := [(3, .int (-2)), (0, .ref mo), (1, .int t), (2, .int i)]) hx hb dX1_get_33 rfl hl (by decide) rfl (fun ls hl => ?_)
    refine lv_iload_n hx hb dX1_get_34 rfl (lv_at hl 0 rfl) ?_
    refine lv_if_eq (tgt := 46) hx hb dX1_get_35 (by decide) (fun h => absurd h (by decide)) (fun _ => ?_)
    refine lv_aload_n hx hb dX1_get_38 rfl (lv_at hl 1 rfl) ?_
    refine lv_iload_n hx hb dX1_get_39 rfl (lv_at hl 0 rfl) ?_
    refine w_MC (As := [.int (-2)]) hC hM hS (fun _ h => h) hml hl.1 (k_X1_refuse l D tc mo (setS μ 1 0) (-2)) q566 q568 qs9 q24 q569 rfl ⟨rfl, by decide, by decide, rfl⟩ (Nat.le_of_ble_eq_true rfl) (Nat.le_of_ble_eq_true rfl) ⟨Nat.zero_le _, Nat.zero_le _⟩ rfl (Nat.le_of_ble_eq_true rfl) dX1_get_40 (fun H locs hM hS _ _ => ?_)
    refine lv_istore_n (lv' := [(3, .int (-2)), (0, .ref mo), (1, .int t), (2, .int i)]) hx hb dX1_get_43 rfl hl (by decide) rfl (fun ls hl => ?_)
    refine lv_iconst (v := 0) hx hb dX1_get_44 (by decide) ?_
    exact md_iret hC hr hlk hM hS (by rw [p_get_bad (μ := μ) c_10]) (by rw [p_get_bad (μ := μ) c_10]) dX1_get_45
theorem k_X1_at (l : Launch) (D : va_G) (tc : Nat → ClassId) (mo : Nat) (μ : MS) (hW : WF μ) (t i : Int32) : MC l yX1_at cX1_at 4 (some .int) 2 45 D tc mo [.int t, .int i] μ ((p_at μ t i).1) (some (.int ((p_at μ t i).2))) := by
  refine MC.of (by decide) rfl (Nat.le_of_ble_eq_true rfl) ?_
  intro p e s m below meth c hC hr hlk hml hM hS ls hl
  have hx := hC.1
  have hb := hC.2.1
  have hts := hC.2.2.1
  have hown := hC.2.2.2.1
  have hl : lv_has ls 4 [(0, .ref mo), (1, .int t), (2, .int i)] := hl
  refine lv_aload_n hx hb dX1_at_0 rfl (lv_at hl 0 rfl) ?_
  refine lv_iconst (v := 0) hx hb dX1_at_1 (by decide) ?_
  refine md_put hC hM hS 1 (by decide) q488 dX1_at_2 (fun H locs hM hS => ?_)
  refine lv_aload_n hx hb dX1_at_5 rfl (lv_at hl 0 rfl) ?_
  refine lv_iload_n hx hb dX1_at_6 rfl (lv_at hl 1 rfl) ?_
  refine w_MC (As := [.int t]) hC hM hS (fun _ h => h) hml hl.1 (k_X1_isItem l D tc mo (setS μ 1 0) t) q578 q580 qs10 q24 q581 rfl ⟨rfl, by decide, by decide, rfl⟩ (Nat.le_of_ble_eq_true rfl) (Nat.le_of_ble_eq_true rfl) ⟨Nat.zero_le _, Nat.zero_le _⟩ rfl (Nat.le_of_ble_eq_true rfl) dX1_at_7 (fun H locs hM hS _ _ => ?_)
  refine b_ifne (w := (isItem (setS μ 1 0) t)) (tgt := 18) hx hb dX1_at_10 (by decide) (fun c_10 => ?_) (fun c_10 => ?_)
  · obtain ⟨j, hj, hn, rfl⟩ := item_of (μ := μ) hW c_10
    have hk_j := (hW.2.1 j (by omega)).2.1
    have hz_j := (hW.2.1 j (by omega)).2.2.2
    have hi_j : isItem μ (nI j) = true := isItem_of hW hj
    refine lv_aload_n hx hb dX1_at_18 rfl (lv_at hl 0 rfl) ?_
    refine lv_iload_n hx hb dX1_at_19 rfl (lv_at hl 1 rfl) ?_
    refine lv_iload_n hx hb dX1_at_20 rfl (lv_at hl 2 rfl) ?_
    refine lv_aload_n hx hb dX1_at_21 rfl (lv_at hl 0 rfl) ?_
    refine md_get (v := .ref (mo + 1)) hC hM 1 (by decide) rfl q474 rfl dX1_at_22 ?_
    refine lv_iload_n hx hb dX1_at_25 rfl (lv_at hl 1 rfl) ?_
    refine md_ald (v := (nI (kd μ j))) hC hM 0 (N := 60) rfl (by decide) rfl rfl j rfl (by omega) ((hW.2.1 j (by omega)).1) dX1_at_26 ?_
    refine w_SC (As := [.int (nI (kd μ j))]) hx hb hts hown hml hl.1 (k_X1_isOfThings l (kd μ j) (by omega)) q570 q571 q24 q572 rfl ⟨by decide, by decide, rfl⟩ (Nat.le_of_ble_eq_true rfl) (Nat.le_of_ble_eq_true rfl) ⟨Nat.zero_le _, Nat.zero_le _⟩ rfl (Nat.le_of_ble_eq_true rfl) dX1_at_27 ?_
    refine w_MC (As := [.int (nI j), .int i, .int (bI (thgN (kd μ j)))]) hC hM hS (fun _ h => h) hml hl.1 (k_X1_wrongPlace l D tc mo (setS μ 1 0) j i (thgN (kd μ j)) (by omega)) q585 q587 qs11 q24 q588 rfl ⟨rfl, by decide, by decide, rfl⟩ (Nat.le_of_ble_eq_true rfl) (Nat.le_of_ble_eq_true rfl) ⟨Nat.zero_le _, Nat.zero_le _⟩ rfl (Nat.le_of_ble_eq_true rfl) dX1_at_30 (fun H locs hM hS _ _ => ?_)
    refine lv_istore_n (lv' := [(3, .int (wpl (sA (setS μ 1 0) 1 j) i (thgN (kd μ j)))), (0, .ref mo), (1, .int (nI j)), (2, .int i)]) hx hb dX1_at_33 rfl hl (by decide) rfl (fun ls hl => ?_)
    refine lv_iload_n hx hb dX1_at_34 rfl (lv_at hl 0 rfl) ?_
    refine lv_if_eq (tgt := 46) hx hb dX1_at_35 (by decide) (fun c_35 => ?_) (fun c_35 => ?_)
    · have c_ok : wpl (nI (sz μ j)) i (thgN (kd μ j)) = 0 := by rw [← (hW.2.1 j (by omega)).2.2.1]; exact c_35
      obtain ⟨hr_ok, a, ha, rfl⟩ := wpl_0 (by omega) c_ok
      refine lv_aload_n hx hb dX1_at_46 rfl (lv_at hl 1 rfl) ?_
      refine md_get (v := .ref (mo + 4)) hC hM 4 (by decide) rfl q477 rfl dX1_at_47 ?_
      refine lv_iconst (v := 3) hx hb dX1_at_50 (by decide) ?_
      refine lv_iload_n hx hb dX1_at_51 rfl (lv_at hl 2 rfl) ?_
      refine lv_imul hx hb dX1_at_52 ?_
      refine w_top (congrArg Value.int (pk_mul 3 j)) ?_
      refine lv_iload_n hx hb dX1_at_53 rfl (lv_at hl 3 rfl) ?_
      refine lv_iadd hx hb dX1_at_54 ?_
      refine w_top (congrArg Value.int (nI_add (3 * j) a)) ?_
      refine md_lald (v := (sC (setS μ 1 0) ((3 * j) + a))) hC hM rfl ((3 * j) + a) rfl (by omega) rfl dX1_at_55 ?_
      refine lv_l2i hx hb dX1_at_56 rfl ?_
      exact md_iret hC hr hlk hM hS (by rw [p_at_ok (μ := μ) (by omega) (by omega) hi_j c_35]; first | done | rfl) (by rw [p_at_ok (μ := μ) (by omega) (by omega) hi_j c_35]; first | done | rfl) dX1_at_57
    · refine lv_aload_n hx hb dX1_at_38 rfl (lv_at hl 1 rfl) ?_
      refine lv_iload_n hx hb dX1_at_39 rfl (lv_at hl 0 rfl) ?_
      refine w_MC (As := [.int (wpl (sA (setS μ 1 0) 1 j) i (thgN (kd μ j)))]) hC hM hS (fun _ h => h) hml hl.1 (k_X1_refuse l D tc mo (setS μ 1 0) (wpl (sA (setS μ 1 0) 1 j) i (thgN (kd μ j)))) q566 q568 qs9 q24 q569 rfl ⟨rfl, by decide, by decide, rfl⟩ (Nat.le_of_ble_eq_true rfl) (Nat.le_of_ble_eq_true rfl) ⟨Nat.zero_le _, Nat.zero_le _⟩ rfl (Nat.le_of_ble_eq_true rfl) dX1_at_40 (fun H locs hM hS _ _ => ?_)
      refine lv_goto (tgt := 57) hx hb dX1_at_43 (by decide) ?_
      exact md_iret hC hr hlk hM hS (by rw [p_at_why (μ := μ) (by omega) hi_j c_35]; first | done | rfl) (by rw [p_at_why (μ := μ) (by omega) hi_j c_35]; first | done | rfl) dX1_at_57
  · refine lv_bipush (v := (-2)) hx hb dX1_at_13 (by decide) ?_
    refine lv_goto (tgt := 33) hx hb dX1_at_15 (by decide) ?_
    refine lv_istore_n (lv' := [(3, .int (-2)), (0, .ref mo), (1, .int t), (2, .int i)]) hx hb dX1_at_33 rfl hl (by decide) rfl (fun ls hl => ?_)
    refine lv_iload_n hx hb dX1_at_34 rfl (lv_at hl 0 rfl) ?_
    refine lv_if_eq (tgt := 46) hx hb dX1_at_35 (by decide) (fun h => absurd h (by decide)) (fun _ => ?_)
    refine lv_aload_n hx hb dX1_at_38 rfl (lv_at hl 1 rfl) ?_
    refine lv_iload_n hx hb dX1_at_39 rfl (lv_at hl 0 rfl) ?_
    refine w_MC (As := [.int (-2)]) hC hM hS (fun _ h => h) hml hl.1 (k_X1_refuse l D tc mo (setS μ 1 0) (-2)) q566 q568 qs9 q24 q569 rfl ⟨rfl, by decide, by decide, rfl⟩ (Nat.le_of_ble_eq_true rfl) (Nat.le_of_ble_eq_true rfl) ⟨Nat.zero_le _, Nat.zero_le _⟩ rfl (Nat.le_of_ble_eq_true rfl) dX1_at_40 (fun H locs hM hS _ _ => ?_)
    refine lv_goto (tgt := 57) hx hb dX1_at_43 (by decide) ?_
    exact md_iret hC hr hlk hM hS (by rw [p_at_bad (μ := μ) c_10]) (by rw [p_at_bad (μ := μ) c_10]) dX1_at_57
theorem k_X1_is (l : Launch) (D : va_G) (tc : Nat → ClassId) (mo : Nat) (μ : MS) (hW : WF μ) (t f : Int32) : MC l yX1_is cX1_is 3 (some .int) 2 43 D tc mo [.int t, .int f] μ ((p_is μ t f).1) (some (.int ((p_is μ t f).2))) := by
  refine MC.of (by decide) rfl (Nat.le_of_ble_eq_true rfl) ?_
  intro p e s m below meth c hC hr hlk hml hM hS ls hl
  have hx := hC.1
  have hb := hC.2.1
  have hts := hC.2.2.1
  have hown := hC.2.2.2.1
  have hl : lv_has ls 3 [(0, .ref mo), (1, .int t), (2, .int f)] := hl
  refine lv_aload_n hx hb dX1_is_0 rfl (lv_at hl 0 rfl) ?_
  refine lv_iconst (v := 0) hx hb dX1_is_1 (by decide) ?_
  refine md_put hC hM hS 1 (by decide) q488 dX1_is_2 (fun H locs hM hS => ?_)
  refine lv_aload_n hx hb dX1_is_5 rfl (lv_at hl 0 rfl) ?_
  refine lv_iload_n hx hb dX1_is_6 rfl (lv_at hl 1 rfl) ?_
  refine w_MC (As := [.int t]) hC hM hS (fun _ h => h) hml hl.1 (k_X1_isItem l D tc mo (setS μ 1 0) t) q578 q580 qs10 q24 q581 rfl ⟨rfl, by decide, by decide, rfl⟩ (Nat.le_of_ble_eq_true rfl) (Nat.le_of_ble_eq_true rfl) ⟨Nat.zero_le _, Nat.zero_le _⟩ rfl (Nat.le_of_ble_eq_true rfl) dX1_is_7 (fun H locs hM hS _ _ => ?_)
  refine b_ifeq (w := (isItem (setS μ 1 0) t)) (tgt := 23) hx hb dX1_is_10 (by decide) (fun c_10 => ?_) (fun c_10 => ?_)
  · refine lv_aload_n hx hb dX1_is_23 rfl (lv_at hl 0 rfl) ?_
    refine lv_bipush (v := (-2)) hx hb dX1_is_24 (by decide) ?_
    refine w_MC (As := [.int (-2)]) hC hM hS (fun _ h => h) hml hl.1 (k_X1_refuse l D tc mo (setS μ 1 0) (-2)) q566 q568 qs9 q24 q569 rfl ⟨rfl, by decide, by decide, rfl⟩ (Nat.le_of_ble_eq_true rfl) (Nat.le_of_ble_eq_true rfl) ⟨Nat.zero_le _, Nat.zero_le _⟩ rfl (Nat.le_of_ble_eq_true rfl) dX1_is_26 (fun H locs hM hS _ _ => ?_)
    refine lv_goto (tgt := 50) hx hb dX1_is_29 (by decide) ?_
    exact md_iret hC hr hlk hM hS (by rw [p_is_bad (μ := μ) (by first | (rw [show isItem μ t = false from c_10]; rfl) | (rw [show isIn f 0 13 = false from c_20, Bool.and_false]))]) (by rw [p_is_bad (μ := μ) (by first | (rw [show isItem μ t = false from c_10]; rfl) | (rw [show isIn f 0 13 = false from c_20, Bool.and_false]))]) dX1_is_50
  · refine lv_iload_n hx hb dX1_is_13 rfl (lv_at hl 2 rfl) ?_
    refine lv_iconst (v := 0) hx hb dX1_is_14 (by decide) ?_
    refine lv_bipush (v := 13) hx hb dX1_is_15 (by decide) ?_
    refine w_SC (As := [.int f, .int 0, .int 13]) hx hb hts hown hml hl.1 (k_X1_isIn l f 0 13) q560 q561 q24 q562 rfl ⟨by decide, by decide, rfl⟩ (Nat.le_of_ble_eq_true rfl) (Nat.le_of_ble_eq_true rfl) ⟨Nat.zero_le _, Nat.zero_le _⟩ rfl (Nat.le_of_ble_eq_true rfl) dX1_is_17 ?_
    refine b_ifne (w := (isIn f 0 13)) (tgt := 32) hx hb dX1_is_20 (by decide) (fun c_20 => ?_) (fun c_20 => ?_)
    · obtain ⟨j, hj, hn, rfl⟩ := item_of (μ := μ) hW c_10
      have hk_j := (hW.2.1 j (by omega)).2.1
      have hi_j : isItem μ (nI j) = true := isItem_of hW hj
      obtain ⟨g, hg, rfl⟩ := isIn_nat (n := 13) (by decide) c_20
      refine lv_aload_n hx hb dX1_is_32 rfl (lv_at hl 0 rfl) ?_
      refine md_get (v := .ref (mo + 1)) hC hM 1 (by decide) rfl q474 rfl dX1_is_33 ?_
      refine lv_iload_n hx hb dX1_is_36 rfl (lv_at hl 1 rfl) ?_
      refine md_ald (v := (nI (kd μ j))) hC hM 0 (N := 60) rfl (by decide) rfl rfl j rfl (by omega) ((hW.2.1 j (by omega)).1) dX1_is_37 ?_
      refine lv_iload_n hx hb dX1_is_38 rfl (lv_at hl 2 rfl) ?_
      refine w_SC (As := [.int (nI (kd μ j)), .int (nI g)]) hx hb hts hown hml hl.1 (k_X1_goes l (kd μ j) g (by omega) (by first | omega | exact wantN_lt _ | exact holdN_lt _)) q606 q607 q24 q608 rfl ⟨by decide, by decide, rfl⟩ (Nat.le_of_ble_eq_true rfl) (Nat.le_of_ble_eq_true rfl) ⟨Nat.zero_le _, Nat.zero_le _⟩ rfl (Nat.le_of_ble_eq_true rfl) dX1_is_39 ?_
      refine b_ifeq (w := (goesN (kd μ j) g)) (tgt := 49) hx hb dX1_is_42 (by decide) (fun c_42 => ?_) (fun c_42 => ?_)
      · refine lv_iconst (v := 0) hx hb dX1_is_49 (by decide) ?_
        exact md_iret hC hr hlk hM hS (by rw [p_is_ok (μ := μ) (by omega) (by omega) (by rw [hi_j, show isIn (nI g) 0 13 = true from c_20]; rfl)]; first | done | rfl | (simp [bI, *])) (by rw [p_is_ok (μ := μ) (by omega) (by omega) (by rw [hi_j, show isIn (nI g) 0 13 = true from c_20]; rfl)]; first | done | rfl | (simp [bI, *])) dX1_is_50
      · refine lv_iconst (v := 1) hx hb dX1_is_45 (by decide) ?_
        refine lv_goto (tgt := 50) hx hb dX1_is_46 (by decide) ?_
        exact md_iret hC hr hlk hM hS (by rw [p_is_ok (μ := μ) (by omega) (by omega) (by rw [hi_j, show isIn (nI g) 0 13 = true from c_20]; rfl)]; first | done | rfl | (simp [bI, *])) (by rw [p_is_ok (μ := μ) (by omega) (by omega) (by rw [hi_j, show isIn (nI g) 0 13 = true from c_20]; rfl)]; first | done | rfl | (simp [bI, *])) dX1_is_50
    · refine lv_aload_n hx hb dX1_is_23 rfl (lv_at hl 0 rfl) ?_
      refine lv_bipush (v := (-2)) hx hb dX1_is_24 (by decide) ?_
      refine w_MC (As := [.int (-2)]) hC hM hS (fun _ h => h) hml hl.1 (k_X1_refuse l D tc mo (setS μ 1 0) (-2)) q566 q568 qs9 q24 q569 rfl ⟨rfl, by decide, by decide, rfl⟩ (Nat.le_of_ble_eq_true rfl) (Nat.le_of_ble_eq_true rfl) ⟨Nat.zero_le _, Nat.zero_le _⟩ rfl (Nat.le_of_ble_eq_true rfl) dX1_is_26 (fun H locs hM hS _ _ => ?_)
      refine lv_goto (tgt := 50) hx hb dX1_is_29 (by decide) ?_
      exact md_iret hC hr hlk hM hS (by rw [p_is_bad (μ := μ) (by first | (rw [show isItem μ t = false from c_10]; rfl) | (rw [show isIn f 0 13 = false from c_20, Bool.and_false]))]) (by rw [p_is_bad (μ := μ) (by first | (rw [show isItem μ t = false from c_10]; rfl) | (rw [show isIn f 0 13 = false from c_20, Bool.and_false]))]) dX1_is_50
theorem k_X1_stamps (l : Launch) (D : va_G) (tc : Nat → ClassId) (mo : Nat) (μ : MS) (hW : WF μ) (t : Int32) : MC l yX1_stamps cX1_stamps 3 (some .int) 2 43 D tc mo [.int t] μ ((p_stamps μ t).1) (some (.int ((p_stamps μ t).2))) := by
  refine MC.of (by decide) rfl (Nat.le_of_ble_eq_true rfl) ?_
  intro p e s m below meth c hC hr hlk hml hM hS ls hl
  have hx := hC.1
  have hb := hC.2.1
  have hts := hC.2.2.1
  have hown := hC.2.2.2.1
  have hl : lv_has ls 3 [(0, .ref mo), (1, .int t)] := hl
  refine lv_aload_n hx hb dX1_stamps_0 rfl (lv_at hl 0 rfl) ?_
  refine lv_iconst (v := 0) hx hb dX1_stamps_1 (by decide) ?_
  refine md_put hC hM hS 1 (by decide) q488 dX1_stamps_2 (fun H locs hM hS => ?_)
  refine lv_aload_n hx hb dX1_stamps_5 rfl (lv_at hl 0 rfl) ?_
  refine lv_iload_n hx hb dX1_stamps_6 rfl (lv_at hl 1 rfl) ?_
  refine w_MC (As := [.int t]) hC hM hS (fun _ h => h) hml hl.1 (k_X1_isItem l D tc mo (setS μ 1 0) t) q578 q580 qs10 q24 q581 rfl ⟨rfl, by decide, by decide, rfl⟩ (Nat.le_of_ble_eq_true rfl) (Nat.le_of_ble_eq_true rfl) ⟨Nat.zero_le _, Nat.zero_le _⟩ rfl (Nat.le_of_ble_eq_true rfl) dX1_stamps_7 (fun H locs hM hS _ _ => ?_)
  refine b_ifne (w := (isItem (setS μ 1 0) t)) (tgt := 18) hx hb dX1_stamps_10 (by decide) (fun c_10 => ?_) (fun c_10 => ?_)
  · obtain ⟨j, hj, hn, rfl⟩ := item_of (μ := μ) hW c_10
    have hk_j := (hW.2.1 j (by omega)).2.1
    have hz_j := (hW.2.1 j (by omega)).2.2.2
    have hi_j : isItem μ (nI j) = true := isItem_of hW hj
    refine lv_aload_n hx hb dX1_stamps_18 rfl (lv_at hl 0 rfl) ?_
    refine md_get (v := .ref (mo + 1)) hC hM 1 (by decide) rfl q474 rfl dX1_stamps_19 ?_
    refine lv_iload_n hx hb dX1_stamps_22 rfl (lv_at hl 1 rfl) ?_
    refine md_ald (v := (nI (kd μ j))) hC hM 0 (N := 60) rfl (by decide) rfl rfl j rfl (by omega) ((hW.2.1 j (by omega)).1) dX1_stamps_23 ?_
    refine w_SC (As := [.int (nI (kd μ j))]) hx hb hts hown hml hl.1 (k_X1_isOne l (kd μ j) (by omega)) q563 q564 q24 q565 rfl ⟨by decide, by decide, rfl⟩ (Nat.le_of_ble_eq_true rfl) (Nat.le_of_ble_eq_true rfl) ⟨Nat.zero_le _, Nat.zero_le _⟩ rfl (Nat.le_of_ble_eq_true rfl) dX1_stamps_24 ?_
    refine b_ifne (w := (oneN (kd μ j))) (tgt := 35) hx hb dX1_stamps_27 (by decide) (fun c_27 => ?_) (fun c_27 => ?_)
    · refine lv_iconst (v := 0) hx hb dX1_stamps_35 (by decide) ?_
      refine lv_istore_n (lv' := [(2, .int 0), (0, .ref mo), (1, .int (nI j))]) hx hb dX1_stamps_36 rfl hl (by decide) rfl (fun ls hl => ?_)
      refine lv_iload_n hx hb dX1_stamps_37 rfl (lv_at hl 0 rfl) ?_
      refine lv_if_eq (tgt := 49) hx hb dX1_stamps_38 (by decide) (fun _ => ?_) (fun h => absurd h (by decide))
      refine lv_aload_n hx hb dX1_stamps_49 rfl (lv_at hl 1 rfl) ?_
      refine md_get (v := .ref (mo + 3)) hC hM 3 (by decide) rfl q476 rfl dX1_stamps_50 ?_
      refine lv_iload_n hx hb dX1_stamps_53 rfl (lv_at hl 2 rfl) ?_
      refine md_ald (v := (sA (setS μ 1 0) 2 j)) hC hM 2 (N := 60) rfl (by decide) rfl rfl j rfl (by omega) rfl dX1_stamps_54 ?_
      exact md_iret hC hr hlk hM hS (by first | (rw [p_stamps_why (μ := μ) (by omega) hi_j c_27]; done) | (rw [p_stamps_ok (μ := μ) (by omega) hi_j c_27]; first | done | rfl)) (by first | (rw [p_stamps_why (μ := μ) (by omega) hi_j c_27]; done) | (rw [p_stamps_ok (μ := μ) (by omega) hi_j c_27]; first | done | rfl)) dX1_stamps_55
    · refine lv_bipush (v := (-4)) hx hb dX1_stamps_30 (by decide) ?_
      refine lv_goto (tgt := 36) hx hb dX1_stamps_32 (by decide) ?_
      refine lv_istore_n (lv' := [(2, .int (-4)), (0, .ref mo), (1, .int (nI j))]) hx hb dX1_stamps_36 rfl hl (by decide) rfl (fun ls hl => ?_)
      refine lv_iload_n hx hb dX1_stamps_37 rfl (lv_at hl 0 rfl) ?_
      refine lv_if_eq (tgt := 49) hx hb dX1_stamps_38 (by decide) (fun h => absurd h (by decide)) (fun _ => ?_)
      refine lv_aload_n hx hb dX1_stamps_41 rfl (lv_at hl 1 rfl) ?_
      refine lv_iload_n hx hb dX1_stamps_42 rfl (lv_at hl 0 rfl) ?_
      refine w_MC (As := [.int (-4)]) hC hM hS (fun _ h => h) hml hl.1 (k_X1_refuse l D tc mo (setS μ 1 0) (-4)) q566 q568 qs9 q24 q569 rfl ⟨rfl, by decide, by decide, rfl⟩ (Nat.le_of_ble_eq_true rfl) (Nat.le_of_ble_eq_true rfl) ⟨Nat.zero_le _, Nat.zero_le _⟩ rfl (Nat.le_of_ble_eq_true rfl) dX1_stamps_43 (fun H locs hM hS _ _ => ?_)
      refine lv_istore_n (lv' := [(2, .int (-4)), (0, .ref mo), (1, .int (nI j))]) hx hb dX1_stamps_46 rfl hl (by decide) rfl (fun ls hl => ?_)
      refine lv_iconst (v := 0) hx hb dX1_stamps_47 (by decide) ?_
      exact md_iret hC hr hlk hM hS (by first | (rw [p_stamps_why (μ := μ) (by omega) hi_j c_27]; done) | (rw [p_stamps_ok (μ := μ) (by omega) hi_j c_27]; first | done | rfl)) (by first | (rw [p_stamps_why (μ := μ) (by omega) hi_j c_27]; done) | (rw [p_stamps_ok (μ := μ) (by omega) hi_j c_27]; first | done | rfl)) dX1_stamps_48
  · refine lv_bipush (v := (-2)) hx hb dX1_stamps_13 (by decide) ?_
    refine lv_goto (tgt := 36) hx hb dX1_stamps_15 (by decide) ?_
    refine lv_istore_n (lv' := [(2, .int (-2)), (0, .ref mo), (1, .int t)]) hx hb dX1_stamps_36 rfl hl (by decide) rfl (fun ls hl => ?_)
    refine lv_iload_n hx hb dX1_stamps_37 rfl (lv_at hl 0 rfl) ?_
    refine lv_if_eq (tgt := 49) hx hb dX1_stamps_38 (by decide) (fun h => absurd h (by decide)) (fun _ => ?_)
    refine lv_aload_n hx hb dX1_stamps_41 rfl (lv_at hl 1 rfl) ?_
    refine lv_iload_n hx hb dX1_stamps_42 rfl (lv_at hl 0 rfl) ?_
    refine w_MC (As := [.int (-2)]) hC hM hS (fun _ h => h) hml hl.1 (k_X1_refuse l D tc mo (setS μ 1 0) (-2)) q566 q568 qs9 q24 q569 rfl ⟨rfl, by decide, by decide, rfl⟩ (Nat.le_of_ble_eq_true rfl) (Nat.le_of_ble_eq_true rfl) ⟨Nat.zero_le _, Nat.zero_le _⟩ rfl (Nat.le_of_ble_eq_true rfl) dX1_stamps_43 (fun H locs hM hS _ _ => ?_)
    refine lv_istore_n (lv' := [(2, .int (-2)), (0, .ref mo), (1, .int t)]) hx hb dX1_stamps_46 rfl hl (by decide) rfl (fun ls hl => ?_)
    refine lv_iconst (v := 0) hx hb dX1_stamps_47 (by decide) ?_
    exact md_iret hC hr hlk hM hS (by rw [p_stamps_bad (μ := μ) c_10]) (by rw [p_stamps_bad (μ := μ) c_10]) dX1_stamps_48
theorem k_X1_lay (l : Launch) (D : va_G) (tc : Nat → ClassId) (mo : Nat) (μ : MS) (hW : WF μ) (t i x : Int32) : MC l yX1_lay cX1_lay 5 (some .int) 2 45 D tc mo [.int t, .int i, .int x] μ ((p_lay μ t i x).1) (some (.int ((p_lay μ t i x).2))) := by
  refine MC.of (by decide) rfl (Nat.le_of_ble_eq_true rfl) ?_
  intro p e s m below meth c hC hr hlk hml hM hS ls hl
  have hx := hC.1
  have hb := hC.2.1
  have hts := hC.2.2.1
  have hown := hC.2.2.2.1
  have hl : lv_has ls 5 [(0, .ref mo), (1, .int t), (2, .int i), (3, .int x)] := hl
  refine lv_aload_n hx hb dX1_lay_0 rfl (lv_at hl 0 rfl) ?_
  refine lv_iconst (v := 0) hx hb dX1_lay_1 (by decide) ?_
  refine md_put hC hM hS 1 (by decide) q488 dX1_lay_2 (fun H locs hM hS => ?_)
  refine lv_aload_n hx hb dX1_lay_5 rfl (lv_at hl 0 rfl) ?_
  refine lv_iload_n hx hb dX1_lay_6 rfl (lv_at hl 1 rfl) ?_
  refine w_MC (As := [.int t]) hC hM hS (fun _ h => h) hml hl.1 (k_X1_isItem l D tc mo (setS μ 1 0) t) q578 q580 qs10 q24 q581 rfl ⟨rfl, by decide, by decide, rfl⟩ (Nat.le_of_ble_eq_true rfl) (Nat.le_of_ble_eq_true rfl) ⟨Nat.zero_le _, Nat.zero_le _⟩ rfl (Nat.le_of_ble_eq_true rfl) dX1_lay_7 (fun H locs hM hS _ _ => ?_)
  refine b_ifeq (w := (isItem (setS μ 1 0) t)) (tgt := 26) hx hb dX1_lay_10 (by decide) (fun c_10 => ?_) (fun c_10 => ?_)
  · refine lv_aload_n hx hb dX1_lay_26 rfl (lv_at hl 0 rfl) ?_
    refine lv_bipush (v := (-2)) hx hb dX1_lay_27 (by decide) ?_
    refine w_MC (As := [.int (-2)]) hC hM hS (fun _ h => h) hml hl.1 (k_X1_refuse l D tc mo (setS μ 1 0) (-2)) q566 q568 qs9 q24 q569 rfl ⟨rfl, by decide, by decide, rfl⟩ (Nat.le_of_ble_eq_true rfl) (Nat.le_of_ble_eq_true rfl) ⟨Nat.zero_le _, Nat.zero_le _⟩ rfl (Nat.le_of_ble_eq_true rfl) dX1_lay_29 (fun H locs hM hS _ _ => ?_)
    exact md_iret hC hr hlk hM hS (by rw [p_lay_bad (μ := μ) (by first | (rw [show isItem μ t = false from c_10]; rfl) | (rw [show isItem μ x = false from c_23, show decide (x = -1) = false from decide_eq_false c_15, Bool.or_false, Bool.and_false]))]) (by rw [p_lay_bad (μ := μ) (by first | (rw [show isItem μ t = false from c_10]; rfl) | (rw [show isItem μ x = false from c_23, show decide (x = -1) = false from decide_eq_false c_15, Bool.or_false, Bool.and_false]))]) dX1_lay_32
  · refine lv_iload_n hx hb dX1_lay_13 rfl (lv_at hl 3 rfl) ?_
    refine lv_iconst (v := (-1)) hx hb dX1_lay_14 (by decide) ?_
    refine lv_icmp_eq (tgt := 33) hx hb dX1_lay_15 (by decide) (fun c_15 => ?_) (fun c_15 => ?_)
    · obtain ⟨j, hj, hn, rfl⟩ := item_of (μ := μ) hW c_10
      have hk_j := (hW.2.1 j (by omega)).2.1
      have hz_j := (hW.2.1 j (by omega)).2.2.2
      have hi_j : isItem μ (nI j) = true := isItem_of hW hj
      subst c_15
      have hall : (isItem μ (nI j) && (decide ((-1 : Int32) = -1) || isItem μ (-1))) = true := by rw [hi_j]; first | done | rfl
      refine lv_aload_n hx hb dX1_lay_33 rfl (lv_at hl 0 rfl) ?_
      refine lv_iload_n hx hb dX1_lay_34 rfl (lv_at hl 1 rfl) ?_
      refine lv_iload_n hx hb dX1_lay_35 rfl (lv_at hl 2 rfl) ?_
      refine lv_aload_n hx hb dX1_lay_36 rfl (lv_at hl 0 rfl) ?_
      refine md_get (v := .ref (mo + 1)) hC hM 1 (by decide) rfl q474 rfl dX1_lay_37 ?_
      refine lv_iload_n hx hb dX1_lay_40 rfl (lv_at hl 1 rfl) ?_
      refine md_ald (v := (nI (kd μ j))) hC hM 0 (N := 60) rfl (by decide) rfl rfl j rfl (by omega) ((hW.2.1 j (by omega)).1) dX1_lay_41 ?_
      refine w_SC (As := [.int (nI (kd μ j))]) hx hb hts hown hml hl.1 (k_X1_isOfThings l (kd μ j) (by omega)) q570 q571 q24 q572 rfl ⟨by decide, by decide, rfl⟩ (Nat.le_of_ble_eq_true rfl) (Nat.le_of_ble_eq_true rfl) ⟨Nat.zero_le _, Nat.zero_le _⟩ rfl (Nat.le_of_ble_eq_true rfl) dX1_lay_42 ?_
      refine b_ifeq (w := (thgN (kd μ j))) (tgt := 78) hx hb dX1_lay_45 (by decide) (fun c_45 => ?_) (fun c_45 => ?_)
      · refine lv_iconst (v := 0) hx hb dX1_lay_78 (by decide) ?_
        have hok : layOk μ j (-1) = false := by simp [layOk, *]
        refine w_top (y := .int (bI false)) rfl ?_
        refine w_MC (As := [.int (nI j), .int i, .int (bI false)]) hC hM hS (fun _ h => h) hml hl.1 (k_X1_wrongPlace l D tc mo (setS μ 1 0) j i false (by omega)) q585 q587 qs11 q24 q588 rfl ⟨rfl, by decide, by decide, rfl⟩ (Nat.le_of_ble_eq_true rfl) (Nat.le_of_ble_eq_true rfl) ⟨Nat.zero_le _, Nat.zero_le _⟩ rfl (Nat.le_of_ble_eq_true rfl) dX1_lay_79 (fun H locs hM hS _ _ => ?_)
        refine lv_istore (lv' := [(4, .int (wpl (sA (setS μ 1 0) 1 j) i false)), (0, .ref mo), (1, .int (nI j)), (2, .int i), (3, .int (-1))]) hx hb dX1_lay_82 hl (by decide) rfl (fun ls hl => ?_)
        refine lv_iload hx hb dX1_lay_84 (lv_at hl 0 rfl) ?_
        refine lv_if_eq (tgt := 96) hx hb dX1_lay_86 (by decide) (fun c_86 => ?_) (fun c_86 => ?_)
        · have c_ok : wpl (nI (sz μ j)) i false = 0 := by rw [← (hW.2.1 j (by omega)).2.2.1]; exact c_86
          exact absurd c_ok (by rw [wpl_f]; decide)
        · refine lv_aload_n hx hb dX1_lay_89 rfl (lv_at hl 1 rfl) ?_
          refine lv_iload hx hb dX1_lay_90 (lv_at hl 0 rfl) ?_
          refine w_MC (As := [.int (wpl (sA (setS μ 1 0) 1 j) i false)]) hC hM hS (fun _ h => h) hml hl.1 (k_X1_refuse l D tc mo (setS μ 1 0) (wpl (sA (setS μ 1 0) 1 j) i false)) q566 q568 qs9 q24 q569 rfl ⟨rfl, by decide, by decide, rfl⟩ (Nat.le_of_ble_eq_true rfl) (Nat.le_of_ble_eq_true rfl) ⟨Nat.zero_le _, Nat.zero_le _⟩ rfl (Nat.le_of_ble_eq_true rfl) dX1_lay_92 (fun H locs hM hS _ _ => ?_)
          exact md_iret hC hr hlk hM hS (by rw [p_lay_why (μ := μ) (by omega) hall (by rw [hok]; exact c_86), hok]; first | done | rfl) (by rw [p_lay_why (μ := μ) (by omega) hall (by rw [hok]; exact c_86), hok]; first | done | rfl) dX1_lay_95
      · refine lv_iload_n hx hb dX1_lay_48 rfl (lv_at hl 3 rfl) ?_
        refine lv_iconst (v := (-1)) hx hb dX1_lay_49 (by decide) ?_
        refine lv_icmp_eq (tgt := 74) hx hb dX1_lay_50 (by decide) (fun _ => ?_) (fun h => absurd h (by decide))
        refine lv_iconst (v := 1) hx hb dX1_lay_74 (by decide) ?_
        refine lv_goto (tgt := 79) hx hb dX1_lay_75 (by decide) ?_
        have hok : layOk μ j (-1) = true := by simp [layOk, *]
        refine w_top (y := .int (bI true)) rfl ?_
        refine w_MC (As := [.int (nI j), .int i, .int (bI true)]) hC hM hS (fun _ h => h) hml hl.1 (k_X1_wrongPlace l D tc mo (setS μ 1 0) j i true (by omega)) q585 q587 qs11 q24 q588 rfl ⟨rfl, by decide, by decide, rfl⟩ (Nat.le_of_ble_eq_true rfl) (Nat.le_of_ble_eq_true rfl) ⟨Nat.zero_le _, Nat.zero_le _⟩ rfl (Nat.le_of_ble_eq_true rfl) dX1_lay_79 (fun H locs hM hS _ _ => ?_)
        refine lv_istore (lv' := [(4, .int (wpl (sA (setS μ 1 0) 1 j) i true)), (0, .ref mo), (1, .int (nI j)), (2, .int i), (3, .int (-1))]) hx hb dX1_lay_82 hl (by decide) rfl (fun ls hl => ?_)
        refine lv_iload hx hb dX1_lay_84 (lv_at hl 0 rfl) ?_
        refine lv_if_eq (tgt := 96) hx hb dX1_lay_86 (by decide) (fun c_86 => ?_) (fun c_86 => ?_)
        · have c_ok : wpl (nI (sz μ j)) i true = 0 := by rw [← (hW.2.1 j (by omega)).2.2.1]; exact c_86
          obtain ⟨-, a, ha, rfl⟩ := wpl_0 (by omega) c_ok
          refine lv_iload_n hx hb dX1_lay_96 rfl (lv_at hl 4 rfl) ?_
          refine lv_iconst (v := (-1)) hx hb dX1_lay_97 (by decide) ?_
          refine lv_icmp_eq (tgt := 129) hx hb dX1_lay_98 (by decide) (fun _ => ?_) (fun h => absurd h (by decide))
          refine lv_aload_n hx hb dX1_lay_129 rfl (lv_at hl 1 rfl) ?_
          refine md_get (v := .ref (mo + 4)) hC hM 4 (by decide) rfl q477 rfl dX1_lay_130 ?_
          refine lv_iconst (v := 3) hx hb dX1_lay_133 (by decide) ?_
          refine lv_iload_n hx hb dX1_lay_134 rfl (lv_at hl 2 rfl) ?_
          refine lv_imul hx hb dX1_lay_135 ?_
          refine w_top (congrArg Value.int (pk_mul 3 j)) ?_
          refine lv_iload_n hx hb dX1_lay_136 rfl (lv_at hl 3 rfl) ?_
          refine lv_iadd hx hb dX1_lay_137 ?_
          refine w_top (congrArg Value.int (nI_add (3 * j) a)) ?_
          refine lv_iload_n hx hb dX1_lay_138 rfl (lv_at hl 4 rfl) ?_
          refine lv_i2l hx hb dX1_lay_139 rfl ?_
          refine md_last hC hM hS rfl ((3 * j) + a) rfl (by omega) dX1_lay_140 (fun H locs hM hS => ?_)
          refine lv_iconst (v := 1) hx hb dX1_lay_141 (by decide) ?_
          exact md_iret hC hr hlk hM hS (by rw [p_lay_ok (μ := μ) (by omega) (by omega) hall (by rw [hok]; exact c_86) rfl]; first | done | rfl) (by rw [p_lay_ok (μ := μ) (by omega) (by omega) hall (by rw [hok]; exact c_86) rfl]; first | done | rfl) dX1_lay_142
        · refine lv_aload_n hx hb dX1_lay_89 rfl (lv_at hl 1 rfl) ?_
          refine lv_iload hx hb dX1_lay_90 (lv_at hl 0 rfl) ?_
          refine w_MC (As := [.int (wpl (sA (setS μ 1 0) 1 j) i true)]) hC hM hS (fun _ h => h) hml hl.1 (k_X1_refuse l D tc mo (setS μ 1 0) (wpl (sA (setS μ 1 0) 1 j) i true)) q566 q568 qs9 q24 q569 rfl ⟨rfl, by decide, by decide, rfl⟩ (Nat.le_of_ble_eq_true rfl) (Nat.le_of_ble_eq_true rfl) ⟨Nat.zero_le _, Nat.zero_le _⟩ rfl (Nat.le_of_ble_eq_true rfl) dX1_lay_92 (fun H locs hM hS _ _ => ?_)
          exact md_iret hC hr hlk hM hS (by rw [p_lay_why (μ := μ) (by omega) hall (by rw [hok]; exact c_86), hok]; first | done | rfl) (by rw [p_lay_why (μ := μ) (by omega) hall (by rw [hok]; exact c_86), hok]; first | done | rfl) dX1_lay_95
    · refine lv_aload_n hx hb dX1_lay_18 rfl (lv_at hl 0 rfl) ?_
      refine lv_iload_n hx hb dX1_lay_19 rfl (lv_at hl 3 rfl) ?_
      refine w_MC (As := [.int x]) hC hM hS (fun _ h => h) hml hl.1 (k_X1_isItem l D tc mo (setS μ 1 0) x) q578 q580 qs10 q24 q581 rfl ⟨rfl, by decide, by decide, rfl⟩ (Nat.le_of_ble_eq_true rfl) (Nat.le_of_ble_eq_true rfl) ⟨Nat.zero_le _, Nat.zero_le _⟩ rfl (Nat.le_of_ble_eq_true rfl) dX1_lay_20 (fun H locs hM hS _ _ => ?_)
      refine b_ifne (w := (isItem (setS μ 1 0) x)) (tgt := 33) hx hb dX1_lay_23 (by decide) (fun c_23 => ?_) (fun c_23 => ?_)
      · obtain ⟨j, hj, hn, rfl⟩ := item_of (μ := μ) hW c_10
        have hk_j := (hW.2.1 j (by omega)).2.1
        have hz_j := (hW.2.1 j (by omega)).2.2.2
        have hi_j : isItem μ (nI j) = true := isItem_of hW hj
        obtain ⟨y, hy, -, rfl⟩ := item_of (μ := μ) hW c_23
        have hk_y := (hW.2.1 y (by omega)).2.1
        have hall : (isItem μ (nI j) && (decide (nI y = -1) || isItem μ (nI y))) = true := by rw [hi_j, isItem_of hW hy, Bool.or_true]; first | done | rfl
        have hne : decide (nI y = -1) = false := decide_eq_false c_15
        refine lv_aload_n hx hb dX1_lay_33 rfl (lv_at hl 0 rfl) ?_
        refine lv_iload_n hx hb dX1_lay_34 rfl (lv_at hl 1 rfl) ?_
        refine lv_iload_n hx hb dX1_lay_35 rfl (lv_at hl 2 rfl) ?_
        refine lv_aload_n hx hb dX1_lay_36 rfl (lv_at hl 0 rfl) ?_
        refine md_get (v := .ref (mo + 1)) hC hM 1 (by decide) rfl q474 rfl dX1_lay_37 ?_
        refine lv_iload_n hx hb dX1_lay_40 rfl (lv_at hl 1 rfl) ?_
        refine md_ald (v := (nI (kd μ j))) hC hM 0 (N := 60) rfl (by decide) rfl rfl j rfl (by omega) ((hW.2.1 j (by omega)).1) dX1_lay_41 ?_
        refine w_SC (As := [.int (nI (kd μ j))]) hx hb hts hown hml hl.1 (k_X1_isOfThings l (kd μ j) (by omega)) q570 q571 q24 q572 rfl ⟨by decide, by decide, rfl⟩ (Nat.le_of_ble_eq_true rfl) (Nat.le_of_ble_eq_true rfl) ⟨Nat.zero_le _, Nat.zero_le _⟩ rfl (Nat.le_of_ble_eq_true rfl) dX1_lay_42 ?_
        refine b_ifeq (w := (thgN (kd μ j))) (tgt := 78) hx hb dX1_lay_45 (by decide) (fun c_45 => ?_) (fun c_45 => ?_)
        · refine lv_iconst (v := 0) hx hb dX1_lay_78 (by decide) ?_
          have hok : layOk μ j (nI y) = false := by simp [layOk, cl_nI (show y < 2147483648 by omega), *]
          refine w_top (y := .int (bI false)) rfl ?_
          refine w_MC (As := [.int (nI j), .int i, .int (bI false)]) hC hM hS (fun _ h => h) hml hl.1 (k_X1_wrongPlace l D tc mo (setS μ 1 0) j i false (by omega)) q585 q587 qs11 q24 q588 rfl ⟨rfl, by decide, by decide, rfl⟩ (Nat.le_of_ble_eq_true rfl) (Nat.le_of_ble_eq_true rfl) ⟨Nat.zero_le _, Nat.zero_le _⟩ rfl (Nat.le_of_ble_eq_true rfl) dX1_lay_79 (fun H locs hM hS _ _ => ?_)
          refine lv_istore (lv' := [(4, .int (wpl (sA (setS μ 1 0) 1 j) i false)), (0, .ref mo), (1, .int (nI j)), (2, .int i), (3, .int (nI y))]) hx hb dX1_lay_82 hl (by decide) rfl (fun ls hl => ?_)
          refine lv_iload hx hb dX1_lay_84 (lv_at hl 0 rfl) ?_
          refine lv_if_eq (tgt := 96) hx hb dX1_lay_86 (by decide) (fun c_86 => ?_) (fun c_86 => ?_)
          · have c_ok : wpl (nI (sz μ j)) i false = 0 := by rw [← (hW.2.1 j (by omega)).2.2.1]; exact c_86
            exact absurd c_ok (by rw [wpl_f]; decide)
          · refine lv_aload_n hx hb dX1_lay_89 rfl (lv_at hl 1 rfl) ?_
            refine lv_iload hx hb dX1_lay_90 (lv_at hl 0 rfl) ?_
            refine w_MC (As := [.int (wpl (sA (setS μ 1 0) 1 j) i false)]) hC hM hS (fun _ h => h) hml hl.1 (k_X1_refuse l D tc mo (setS μ 1 0) (wpl (sA (setS μ 1 0) 1 j) i false)) q566 q568 qs9 q24 q569 rfl ⟨rfl, by decide, by decide, rfl⟩ (Nat.le_of_ble_eq_true rfl) (Nat.le_of_ble_eq_true rfl) ⟨Nat.zero_le _, Nat.zero_le _⟩ rfl (Nat.le_of_ble_eq_true rfl) dX1_lay_92 (fun H locs hM hS _ _ => ?_)
            exact md_iret hC hr hlk hM hS (by rw [p_lay_why (μ := μ) (by omega) hall (by rw [hok]; exact c_86), hok]; first | done | rfl) (by rw [p_lay_why (μ := μ) (by omega) hall (by rw [hok]; exact c_86), hok]; first | done | rfl) dX1_lay_95
        · refine lv_iload_n hx hb dX1_lay_48 rfl (lv_at hl 3 rfl) ?_
          refine lv_iconst (v := (-1)) hx hb dX1_lay_49 (by decide) ?_
          refine lv_icmp_eq (tgt := 74) hx hb dX1_lay_50 (by decide) (fun h => absurd h c_15) (fun _ => ?_)
          refine lv_aload_n hx hb dX1_lay_53 rfl (lv_at hl 0 rfl) ?_
          refine md_get (v := .ref (mo + 1)) hC hM 1 (by decide) rfl q474 rfl dX1_lay_54 ?_
          refine lv_iload_n hx hb dX1_lay_57 rfl (lv_at hl 3 rfl) ?_
          refine md_ald (v := (nI (kd μ y))) hC hM 0 (N := 60) rfl (by decide) rfl rfl y rfl (by omega) ((hW.2.1 y (by omega)).1) dX1_lay_58 ?_
          refine lv_aload_n hx hb dX1_lay_59 rfl (lv_at hl 0 rfl) ?_
          refine md_get (v := .ref (mo + 1)) hC hM 1 (by decide) rfl q474 rfl dX1_lay_60 ?_
          refine lv_iload_n hx hb dX1_lay_63 rfl (lv_at hl 1 rfl) ?_
          refine md_ald (v := (nI (kd μ j))) hC hM 0 (N := 60) rfl (by decide) rfl rfl j rfl (by omega) ((hW.2.1 j (by omega)).1) dX1_lay_64 ?_
          refine w_SC (As := [.int (nI (kd μ j))]) hx hb hts hown hml hl.1 (k_X1_wanted l (kd μ j) (by omega)) q603 q604 q24 q605 rfl ⟨by decide, by decide, rfl⟩ (Nat.le_of_ble_eq_true rfl) (Nat.le_of_ble_eq_true rfl) ⟨Nat.zero_le _, Nat.zero_le _⟩ rfl (Nat.le_of_ble_eq_true rfl) dX1_lay_65 ?_
          refine w_SC (As := [.int (nI (kd μ y)), .int (nI (wantN (kd μ j)))]) hx hb hts hown hml hl.1 (k_X1_goes l (kd μ y) (wantN (kd μ j)) (by omega) (by first | omega | exact wantN_lt _ | exact holdN_lt _)) q606 q607 q24 q608 rfl ⟨by decide, by decide, rfl⟩ (Nat.le_of_ble_eq_true rfl) (Nat.le_of_ble_eq_true rfl) ⟨Nat.zero_le _, Nat.zero_le _⟩ rfl (Nat.le_of_ble_eq_true rfl) dX1_lay_68 ?_
          refine b_ifeq (w := (goesN (kd μ y) (wantN (kd μ j)))) (tgt := 78) hx hb dX1_lay_71 (by decide) (fun c_71 => ?_) (fun c_71 => ?_)
          · refine lv_iconst (v := 0) hx hb dX1_lay_78 (by decide) ?_
            have hok : layOk μ j (nI y) = false := by simp [layOk, cl_nI (show y < 2147483648 by omega), *]
            refine w_top (y := .int (bI false)) rfl ?_
            refine w_MC (As := [.int (nI j), .int i, .int (bI false)]) hC hM hS (fun _ h => h) hml hl.1 (k_X1_wrongPlace l D tc mo (setS μ 1 0) j i false (by omega)) q585 q587 qs11 q24 q588 rfl ⟨rfl, by decide, by decide, rfl⟩ (Nat.le_of_ble_eq_true rfl) (Nat.le_of_ble_eq_true rfl) ⟨Nat.zero_le _, Nat.zero_le _⟩ rfl (Nat.le_of_ble_eq_true rfl) dX1_lay_79 (fun H locs hM hS _ _ => ?_)
            refine lv_istore (lv' := [(4, .int (wpl (sA (setS μ 1 0) 1 j) i false)), (0, .ref mo), (1, .int (nI j)), (2, .int i), (3, .int (nI y))]) hx hb dX1_lay_82 hl (by decide) rfl (fun ls hl => ?_)
            refine lv_iload hx hb dX1_lay_84 (lv_at hl 0 rfl) ?_
            refine lv_if_eq (tgt := 96) hx hb dX1_lay_86 (by decide) (fun c_86 => ?_) (fun c_86 => ?_)
            · have c_ok : wpl (nI (sz μ j)) i false = 0 := by rw [← (hW.2.1 j (by omega)).2.2.1]; exact c_86
              exact absurd c_ok (by rw [wpl_f]; decide)
            · refine lv_aload_n hx hb dX1_lay_89 rfl (lv_at hl 1 rfl) ?_
              refine lv_iload hx hb dX1_lay_90 (lv_at hl 0 rfl) ?_
              refine w_MC (As := [.int (wpl (sA (setS μ 1 0) 1 j) i false)]) hC hM hS (fun _ h => h) hml hl.1 (k_X1_refuse l D tc mo (setS μ 1 0) (wpl (sA (setS μ 1 0) 1 j) i false)) q566 q568 qs9 q24 q569 rfl ⟨rfl, by decide, by decide, rfl⟩ (Nat.le_of_ble_eq_true rfl) (Nat.le_of_ble_eq_true rfl) ⟨Nat.zero_le _, Nat.zero_le _⟩ rfl (Nat.le_of_ble_eq_true rfl) dX1_lay_92 (fun H locs hM hS _ _ => ?_)
              exact md_iret hC hr hlk hM hS (by rw [p_lay_why (μ := μ) (by omega) hall (by rw [hok]; exact c_86), hok]; first | done | rfl) (by rw [p_lay_why (μ := μ) (by omega) hall (by rw [hok]; exact c_86), hok]; first | done | rfl) dX1_lay_95
          · refine lv_iconst (v := 1) hx hb dX1_lay_74 (by decide) ?_
            refine lv_goto (tgt := 79) hx hb dX1_lay_75 (by decide) ?_
            have hok : layOk μ j (nI y) = true := by simp [layOk, cl_nI (show y < 2147483648 by omega), *]
            refine w_top (y := .int (bI true)) rfl ?_
            refine w_MC (As := [.int (nI j), .int i, .int (bI true)]) hC hM hS (fun _ h => h) hml hl.1 (k_X1_wrongPlace l D tc mo (setS μ 1 0) j i true (by omega)) q585 q587 qs11 q24 q588 rfl ⟨rfl, by decide, by decide, rfl⟩ (Nat.le_of_ble_eq_true rfl) (Nat.le_of_ble_eq_true rfl) ⟨Nat.zero_le _, Nat.zero_le _⟩ rfl (Nat.le_of_ble_eq_true rfl) dX1_lay_79 (fun H locs hM hS _ _ => ?_)
            refine lv_istore (lv' := [(4, .int (wpl (sA (setS μ 1 0) 1 j) i true)), (0, .ref mo), (1, .int (nI j)), (2, .int i), (3, .int (nI y))]) hx hb dX1_lay_82 hl (by decide) rfl (fun ls hl => ?_)
            refine lv_iload hx hb dX1_lay_84 (lv_at hl 0 rfl) ?_
            refine lv_if_eq (tgt := 96) hx hb dX1_lay_86 (by decide) (fun c_86 => ?_) (fun c_86 => ?_)
            · have c_ok : wpl (nI (sz μ j)) i true = 0 := by rw [← (hW.2.1 j (by omega)).2.2.1]; exact c_86
              obtain ⟨-, a, ha, rfl⟩ := wpl_0 (by omega) c_ok
              refine lv_iload_n hx hb dX1_lay_96 rfl (lv_at hl 4 rfl) ?_
              refine lv_iconst (v := (-1)) hx hb dX1_lay_97 (by decide) ?_
              refine lv_icmp_eq (tgt := 129) hx hb dX1_lay_98 (by decide) (fun h => absurd h c_15) (fun _ => ?_)
              refine lv_aload_n hx hb dX1_lay_101 rfl (lv_at hl 1 rfl) ?_
              refine md_get (v := .ref (mo + 1)) hC hM 1 (by decide) rfl q474 rfl dX1_lay_102 ?_
              refine lv_iload_n hx hb dX1_lay_105 rfl (lv_at hl 4 rfl) ?_
              refine md_ald (v := (nI (kd μ y))) hC hM 0 (N := 60) rfl (by decide) rfl rfl y rfl (by omega) ((hW.2.1 y (by omega)).1) dX1_lay_106 ?_
              refine lv_aload_n hx hb dX1_lay_107 rfl (lv_at hl 1 rfl) ?_
              refine md_get (v := .ref (mo + 1)) hC hM 1 (by decide) rfl q474 rfl dX1_lay_108 ?_
              refine lv_iload_n hx hb dX1_lay_111 rfl (lv_at hl 2 rfl) ?_
              refine md_ald (v := (nI (kd μ j))) hC hM 0 (N := 60) rfl (by decide) rfl rfl j rfl (by omega) ((hW.2.1 j (by omega)).1) dX1_lay_112 ?_
              refine w_SC (As := [.int (nI (kd μ j))]) hx hb hts hown hml hl.1 (k_X1_holds l (kd μ j) (by omega)) q609 q610 q24 q611 rfl ⟨by decide, by decide, rfl⟩ (Nat.le_of_ble_eq_true rfl) (Nat.le_of_ble_eq_true rfl) ⟨Nat.zero_le _, Nat.zero_le _⟩ rfl (Nat.le_of_ble_eq_true rfl) dX1_lay_113 ?_
              refine w_SC (As := [.int (nI (kd μ y)), .int (nI (holdN (kd μ j)))]) hx hb hts hown hml hl.1 (k_X1_goes l (kd μ y) (holdN (kd μ j)) (by omega) (by first | omega | exact wantN_lt _ | exact holdN_lt _)) q606 q607 q24 q608 rfl ⟨by decide, by decide, rfl⟩ (Nat.le_of_ble_eq_true rfl) (Nat.le_of_ble_eq_true rfl) ⟨Nat.zero_le _, Nat.zero_le _⟩ rfl (Nat.le_of_ble_eq_true rfl) dX1_lay_116 ?_
              refine b_ifne (w := (goesN (kd μ y) (holdN (kd μ j)))) (tgt := 129) hx hb dX1_lay_119 (by decide) (fun c_119 => ?_) (fun c_119 => ?_)
              · refine lv_aload_n hx hb dX1_lay_129 rfl (lv_at hl 1 rfl) ?_
                refine md_get (v := .ref (mo + 4)) hC hM 4 (by decide) rfl q477 rfl dX1_lay_130 ?_
                refine lv_iconst (v := 3) hx hb dX1_lay_133 (by decide) ?_
                refine lv_iload_n hx hb dX1_lay_134 rfl (lv_at hl 2 rfl) ?_
                refine lv_imul hx hb dX1_lay_135 ?_
                refine w_top (congrArg Value.int (pk_mul 3 j)) ?_
                refine lv_iload_n hx hb dX1_lay_136 rfl (lv_at hl 3 rfl) ?_
                refine lv_iadd hx hb dX1_lay_137 ?_
                refine w_top (congrArg Value.int (nI_add (3 * j) a)) ?_
                refine lv_iload_n hx hb dX1_lay_138 rfl (lv_at hl 4 rfl) ?_
                refine lv_i2l hx hb dX1_lay_139 rfl ?_
                refine md_last hC hM hS rfl ((3 * j) + a) rfl (by omega) dX1_lay_140 (fun H locs hM hS => ?_)
                refine lv_iconst (v := 1) hx hb dX1_lay_141 (by decide) ?_
                exact md_iret hC hr hlk hM hS (by rw [p_lay_ok (μ := μ) (by omega) (by omega) hall (by rw [hok]; exact c_86) (by rw [cl_nI (show y < 2147483648 by omega), c_119, Bool.or_true])]; first | done | rfl) (by rw [p_lay_ok (μ := μ) (by omega) (by omega) hall (by rw [hok]; exact c_86) (by rw [cl_nI (show y < 2147483648 by omega), c_119, Bool.or_true])]; first | done | rfl) dX1_lay_142
              · refine lv_aload_n hx hb dX1_lay_122 rfl (lv_at hl 1 rfl) ?_
                refine lv_bipush (v := (-6)) hx hb dX1_lay_123 (by decide) ?_
                refine w_MC (As := [.int (-6)]) hC hM hS (fun _ h => h) hml hl.1 (k_X1_refuse l D tc mo (setS μ 1 0) (-6)) q566 q568 qs9 q24 q569 rfl ⟨rfl, by decide, by decide, rfl⟩ (Nat.le_of_ble_eq_true rfl) (Nat.le_of_ble_eq_true rfl) ⟨Nat.zero_le _, Nat.zero_le _⟩ rfl (Nat.le_of_ble_eq_true rfl) dX1_lay_125 (fun H locs hM hS _ _ => ?_)
                exact md_iret hC hr hlk hM hS (by rw [p_lay_st (μ := μ) (by omega) hall (by rw [hok]; exact c_86) (by rw [hne, cl_nI (show y < 2147483648 by omega), c_119]; rfl)]) (by rw [p_lay_st (μ := μ) (by omega) hall (by rw [hok]; exact c_86) (by rw [hne, cl_nI (show y < 2147483648 by omega), c_119]; rfl)]) dX1_lay_128
            · refine lv_aload_n hx hb dX1_lay_89 rfl (lv_at hl 1 rfl) ?_
              refine lv_iload hx hb dX1_lay_90 (lv_at hl 0 rfl) ?_
              refine w_MC (As := [.int (wpl (sA (setS μ 1 0) 1 j) i true)]) hC hM hS (fun _ h => h) hml hl.1 (k_X1_refuse l D tc mo (setS μ 1 0) (wpl (sA (setS μ 1 0) 1 j) i true)) q566 q568 qs9 q24 q569 rfl ⟨rfl, by decide, by decide, rfl⟩ (Nat.le_of_ble_eq_true rfl) (Nat.le_of_ble_eq_true rfl) ⟨Nat.zero_le _, Nat.zero_le _⟩ rfl (Nat.le_of_ble_eq_true rfl) dX1_lay_92 (fun H locs hM hS _ _ => ?_)
              exact md_iret hC hr hlk hM hS (by rw [p_lay_why (μ := μ) (by omega) hall (by rw [hok]; exact c_86), hok]; first | done | rfl) (by rw [p_lay_why (μ := μ) (by omega) hall (by rw [hok]; exact c_86), hok]; first | done | rfl) dX1_lay_95
      · refine lv_aload_n hx hb dX1_lay_26 rfl (lv_at hl 0 rfl) ?_
        refine lv_bipush (v := (-2)) hx hb dX1_lay_27 (by decide) ?_
        refine w_MC (As := [.int (-2)]) hC hM hS (fun _ h => h) hml hl.1 (k_X1_refuse l D tc mo (setS μ 1 0) (-2)) q566 q568 qs9 q24 q569 rfl ⟨rfl, by decide, by decide, rfl⟩ (Nat.le_of_ble_eq_true rfl) (Nat.le_of_ble_eq_true rfl) ⟨Nat.zero_le _, Nat.zero_le _⟩ rfl (Nat.le_of_ble_eq_true rfl) dX1_lay_29 (fun H locs hM hS _ _ => ?_)
        exact md_iret hC hr hlk hM hS (by rw [p_lay_bad (μ := μ) (by first | (rw [show isItem μ t = false from c_10]; rfl) | (rw [show isItem μ x = false from c_23, show decide (x = -1) = false from decide_eq_false c_15, Bool.or_false, Bool.and_false]))]) (by rw [p_lay_bad (μ := μ) (by first | (rw [show isItem μ t = false from c_10]; rfl) | (rw [show isItem μ x = false from c_23, show decide (x = -1) = false from decide_eq_false c_15, Bool.or_false, Bool.and_false]))]) dX1_lay_32

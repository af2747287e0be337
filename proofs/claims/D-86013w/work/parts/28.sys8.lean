/-! SYSTEM 8: lay, stamps -/
set_option maxRecDepth 100000
set_option maxHeartbeats 4000000
theorem lay_m1 {μ : MS} {j : Nat} : layOk μ j (-1) = thgN (kd μ j) := by
  unfold layOk
  simp
theorem lay_N {μ : MS} {j t : Nat} (h : t < 2147483648) : layOk μ j (nI t) = (thgN (kd μ j) && goesN (kd μ t) (wantN (kd μ j))) := by
  unfold layOk
  rw [decide_eq_false (nI_m1 h), cl_nI h, Bool.false_or]
theorem want_lt14 : ∀ k : Nat, k < 13 → wantN k < 14 := by decide
theorem card3 : ∀ k : Nat, k < 13 → oneN k = true → k = 5 ∨ k = 6 ∨ k = 7 := by decide
theorem k_X0_lay (l : Launch) (hst : l.stackTraces = false) (D : va_G) (tc : Nat → ClassId) (x mo : Nat) (β : Nat → Nat) (μ : MS) (hI : IX μ) (t i z : Int32) : YW l yX0_lay cX0_lay 6 (some .int) [(53, 69, 70, 93), (53, 69, 79, 95), (53, 69, 88, 111)] 9 10322 3 1000 D tc x mo β [.ref (β 0), .int t, .int i, .int z] μ ((p_lay μ t i z).1) (some (.int ((p_lay μ t i z).2))) := by
  refine YW.of (by decide) rfl (Nat.le_of_ble_eq_true rfl) ?_
  intro p e s m below meth c hC hX hZ hr hlk hml htab hM hS ls hl
  have hx := hC.1
  have hb := hC.2.1
  have hts := hC.2.2.1
  have hown := hC.2.2.2.1
  have hl : lv_has ls 6 [(0, .ref (β 0)), (1, .int t), (2, .int i), (3, .int z)] := hl
  have hn := hI.1.1.1.2
  have hW := hI.1.1
  have hn0 : sS μ 0 = nI (nn μ) := hI.1.1.1.1
  refine lv_aload_n hx hb dX0_lay_0 rfl (lv_at hl 0 rfl) ?_
  refine lv_iconst (v := 0) hx hb dX0_lay_1 (by decide) ?_
  refine sy_mput hC hM hS 1 2 (by decide) (by decide) (w := 0) rfl rfl q52 rfl rfl rfl rfl dX0_lay_2 (fun H locs hM hS => ?_)
  refine lv_aload_n hx hb dX0_lay_5 rfl (lv_at hl 0 rfl) ?_
  refine lv_iload_n hx hb dX0_lay_6 rfl (lv_at hl 1 rfl) ?_
  refine w_YV (As := [.int t]) hC hX hZ hM hS hml hl.1 (sy_mainR hC.2.2.2.2 hM) (k_X0_isItem l hst D tc x mo β (setS μ 1 0) t) q245 q247 qs2 q23 q248 rfl ⟨by decide, by decide, rfl⟩ (Nat.le_of_ble_eq_true rfl) (Nat.le_of_ble_eq_true rfl) ⟨(Nat.le_of_ble_eq_true rfl), (Nat.le_of_ble_eq_true rfl)⟩ rfl (Nat.le_of_ble_eq_true rfl) dX0_lay_7 (fun H locs hM hS => ?_)
  refine b_ifeq (w := (isItem (setS μ 1 0) t)) (tgt := 26) hx hb dX0_lay_10 (by decide) (fun c_10 => ?_) (fun c_10 => ?_)
  · refine lv_aload_n hx hb dX0_lay_26 rfl (lv_at hl 0 rfl) ?_
    refine lv_bipush (v := (-2)) hx hb dX0_lay_27 (by decide) ?_
    refine w_YV (As := [.int (-2)]) hC hX hZ hM hS hml hl.1 (sy_mainR hC.2.2.2.2 hM) (k_X0_no l hst D tc x mo β (setS μ 1 0) (-2)) q92 q94 qs0 q23 q95 rfl ⟨by decide, by decide, rfl⟩ (Nat.le_of_ble_eq_true rfl) (Nat.le_of_ble_eq_true rfl) ⟨(Nat.le_of_ble_eq_true rfl), (Nat.le_of_ble_eq_true rfl)⟩ rfl (Nat.le_of_ble_eq_true rfl) dX0_lay_29 (fun H locs hM hS => ?_)
    exact sy_iret hC hr hlk hM hS (by rw [p_lay_bad (μ := μ) (by first | (rw [show isItem μ t = false from c_10]; rfl) | (rw [show isItem μ z = false from c_23, decide_eq_false c_15]; simp))]) (by rw [p_lay_bad (μ := μ) (by first | (rw [show isItem μ t = false from c_10]; rfl) | (rw [show isItem μ z = false from c_23, decide_eq_false c_15]; simp))]) (Nat.le_of_ble_eq_true rfl) (Nat.le_of_ble_eq_true rfl) dX0_lay_32
  · obtain ⟨j, hj, hn8, rfl⟩ := item_of (μ := μ) hW c_10
    have h12_j := (hW.2.1 j (by omega)).2.1
    have h3 := (hW.2.1 j (by omega)).2.2.2
    have hi_j : isItem μ (nI j) = true := isItem_of hW hj
    refine lv_iload_n hx hb dX0_lay_13 rfl (lv_at hl 3 rfl) ?_
    refine lv_iconst (v := (-1)) hx hb dX0_lay_14 (by decide) ?_
    refine lv_icmp_eq (tgt := 33) hx hb dX0_lay_15 (by decide) (fun c_15 => ?_) (fun c_15 => ?_)
    · subst c_15
      have hall : (isItem μ (nI j) && (decide ((-1 : Int32) = -1) || isItem μ (-1))) = true := by rw [hi_j]; rfl
      refine lv_iload_n hx hb dX0_lay_33 rfl (lv_at hl 3 rfl) ?_
      refine lv_iconst (v := (-1)) hx hb dX0_lay_34 (by decide) ?_
      refine lv_icmp_ne (tgt := 42) hx hb dX0_lay_35 (by decide) (fun h => absurd rfl h) (fun _ => ?_)
      refine lv_null hx hb dX0_lay_38 ?_
      refine lv_goto (tgt := 51) hx hb dX0_lay_39 (by decide) ?_
      refine lv_astoreN (lv' := [(4, .null), (0, .ref (β 0)), (1, .int (nI j)), (2, .int i), (3, .int (-1))]) hx hb dX0_lay_51 hl (by decide) rfl (fun ls hl => ?_)
      refine lv_aload_n hx hb dX0_lay_53 rfl (lv_at hl 1 rfl) ?_
      refine sy_mget (v := .ref (β 1)) hC hM 0 (by decide) rfl rfl q50 rfl dX0_lay_54 ?_
      refine lv_iload_n hx hb dX0_lay_57 rfl (lv_at hl 2 rfl) ?_
      refine sy_itald hC hM j rfl hj hn dX0_lay_58 ?_
      refine sy_iget hC hM hj hn q147 dX0_lay_59 ?_
      refine lv_iload_n hx hb dX0_lay_62 rfl (lv_at hl 3 rfl) ?_
      refine lv_aloadN hx hb dX0_lay_63 (lv_at hl 0 rfl) ?_
      cases hthg : thgN (kd μ j)
      · refine w_YX (As := [.ref (β (64 + j)), .int i, .null]) hC hX hZ hM hS hml hl.1 (k_X0_laid_cce l hst D tc x mo β (setS μ 1 0) j hj hn hthg h12_j i (none)) q281 q282 q23 q283 rfl ⟨by decide, by decide, rfl⟩ (Nat.le_of_ble_eq_true rfl) (Nat.le_of_ble_eq_true rfl) ⟨(Nat.le_of_ble_eq_true rfl), (Nat.le_of_ble_eq_true rfl)⟩ rfl (Nat.le_of_ble_eq_true rfl) dX0_lay_65 (fun H locs q9 ce hM hS hce hcv hcl => ?_)
        refine w_catch (i := 0) hC hX htab (pre := []) (z := ⟨53, 69, 70, 93⟩) (suf := [⟨53, 69, 79, 95⟩, ⟨53, 69, 88, 111⟩]) rfl (fun z hz => by cases hz) rfl (by decide) q155 (by decide) hce hcv hcl ?_
        refine lv_astore (lv' := [(5, .ref q9), (4, .null), (0, .ref (β 0)), (1, .int (nI j)), (2, .int i), (3, .int (-1))]) hx hb dX0_lay_70 hl (by decide) rfl (fun ls hl => ?_)
        refine lv_aload_n hx hb dX0_lay_72 rfl (lv_at hl 2 rfl) ?_
        refine lv_bipush (v := (-4)) hx hb dX0_lay_73 (by decide) ?_
        refine w_YV (As := [.int (-4)]) hC hX hZ hM hS hml hl.1 (sy_mainR hC.2.2.2.2 hM) (k_X0_no l hst D tc x mo β (setS μ 1 0) (-4)) q92 q94 qs0 q23 q95 rfl ⟨by decide, by decide, rfl⟩ (Nat.le_of_ble_eq_true rfl) (Nat.le_of_ble_eq_true rfl) ⟨(Nat.le_of_ble_eq_true rfl), (Nat.le_of_ble_eq_true rfl)⟩ rfl (Nat.le_of_ble_eq_true rfl) dX0_lay_75 (fun H locs hM hS => ?_)
        exact sy_iret hC hr hlk hM hS (by rw [p_lay_why (μ := μ) (by omega) hall (by rw [lay_m1, hthg, wpl_f]; decide), lay_m1, hthg, wpl_f]; first | done | rfl) (by rw [p_lay_why (μ := μ) (by omega) hall (by rw [lay_m1, hthg, wpl_f]; decide), lay_m1, hthg, wpl_f]; first | done | rfl) (Nat.le_of_ble_eq_true rfl) (Nat.le_of_ble_eq_true rfl) dX0_lay_78
      · cases hin : isIn i 0 (nI (sz μ j) - 1)
        · have hout : ¬ vp_in i (sz μ j) := vx_in_no hin (by omega)
          refine w_YX (As := [.ref (β (64 + j)), .int i, .null]) hC hX hZ hM hS hml hl.1 (k_X0_laid_noob l hst D tc x mo β (setS μ 1 0) j hj hn hthg h12_j h3 i hout) q281 q282 q23 q283 rfl ⟨by decide, by decide, rfl⟩ (Nat.le_of_ble_eq_true rfl) (Nat.le_of_ble_eq_true rfl) ⟨(Nat.le_of_ble_eq_true rfl), (Nat.le_of_ble_eq_true rfl)⟩ rfl (Nat.le_of_ble_eq_true rfl) dX0_lay_65 (fun H locs q9 ce hM hS hce hcv hcl => ?_)
          refine w_catch (i := 1) hC hX htab (pre := [⟨53, 69, 70, 93⟩]) (z := ⟨53, 69, 79, 95⟩) (suf := [⟨53, 69, 88, 111⟩]) rfl (fun z hz => by rw [List.mem_singleton.mp hz]; exact ⟨by decide, 0, by decide, by decide, q155⟩) rfl (by decide) q226 (by decide) hce hcv hcl ?_
          refine lv_astore (lv' := [(5, .ref q9), (4, .null), (0, .ref (β 0)), (1, .int (nI j)), (2, .int i), (3, .int (-1))]) hx hb dX0_lay_79 hl (by decide) rfl (fun ls hl => ?_)
          refine lv_aload_n hx hb dX0_lay_81 rfl (lv_at hl 2 rfl) ?_
          refine lv_bipush (v := (-5)) hx hb dX0_lay_82 (by decide) ?_
          refine w_YV (As := [.int (-5)]) hC hX hZ hM hS hml hl.1 (sy_mainR hC.2.2.2.2 hM) (k_X0_no l hst D tc x mo β (setS μ 1 0) (-5)) q92 q94 qs0 q23 q95 rfl ⟨by decide, by decide, rfl⟩ (Nat.le_of_ble_eq_true rfl) (Nat.le_of_ble_eq_true rfl) ⟨(Nat.le_of_ble_eq_true rfl), (Nat.le_of_ble_eq_true rfl)⟩ rfl (Nat.le_of_ble_eq_true rfl) dX0_lay_84 (fun H locs hM hS => ?_)
          exact sy_iret hC hr hlk hM hS (by rw [p_lay_why (μ := μ) (by omega) hall (by rw [lay_m1, hthg, (hW.2.1 j (by omega)).2.2.1, wpl_i hin]; decide), lay_m1, hthg, (hW.2.1 j (by omega)).2.2.1, wpl_i hin]; first | done | rfl) (by rw [p_lay_why (μ := μ) (by omega) hall (by rw [lay_m1, hthg, (hW.2.1 j (by omega)).2.2.1, wpl_i hin]; decide), lay_m1, hthg, (hW.2.1 j (by omega)).2.2.1, wpl_i hin]; first | done | rfl) (Nat.le_of_ble_eq_true rfl) (Nat.le_of_ble_eq_true rfl) dX0_lay_87
        · obtain ⟨a, ha, rfl⟩ := isIn_pred (by omega) hin
          refine w_YS (As := [.ref (β (64 + j)), .int (nI a), .null]) hC hX hZ hM hS hml hl.1 (k_X0_laid_n l hst D tc x mo β (setS μ 1 0) j hj hn hthg h12_j h3 a ha) q281 q282 q23 q283 rfl ⟨by decide, by decide, rfl⟩ (Nat.le_of_ble_eq_true rfl) (Nat.le_of_ble_eq_true rfl) ⟨(Nat.le_of_ble_eq_true rfl), (Nat.le_of_ble_eq_true rfl)⟩ rfl (Nat.le_of_ble_eq_true rfl) dX0_lay_65 (fun H locs hM hS => ?_)
          refine lv_iconst (v := 1) hx hb dX0_lay_68 (by decide) ?_
          exact sy_iret hC hr hlk hM hS (by rw [p_lay_ok (μ := μ) (by omega) (by omega) hall (by rw [lay_m1, hthg, (hW.2.1 j (by omega)).2.2.1]; exact wpl_t hin) (by rfl)]; first | done | rfl | (rw [nI_lN (by omega)]) | (rw [m1_64])) (by rw [p_lay_ok (μ := μ) (by omega) (by omega) hall (by rw [lay_m1, hthg, (hW.2.1 j (by omega)).2.2.1]; exact wpl_t hin) (by rfl)]; first | done | rfl | (rw [nI_lN (by omega)]) | (rw [m1_64])) (Nat.le_of_ble_eq_true rfl) (Nat.le_of_ble_eq_true rfl) dX0_lay_69
    · refine lv_aload_n hx hb dX0_lay_18 rfl (lv_at hl 0 rfl) ?_
      refine lv_iload_n hx hb dX0_lay_19 rfl (lv_at hl 3 rfl) ?_
      refine w_YV (As := [.int z]) hC hX hZ hM hS hml hl.1 (sy_mainR hC.2.2.2.2 hM) (k_X0_isItem l hst D tc x mo β (setS μ 1 0) z) q245 q247 qs2 q23 q248 rfl ⟨by decide, by decide, rfl⟩ (Nat.le_of_ble_eq_true rfl) (Nat.le_of_ble_eq_true rfl) ⟨(Nat.le_of_ble_eq_true rfl), (Nat.le_of_ble_eq_true rfl)⟩ rfl (Nat.le_of_ble_eq_true rfl) dX0_lay_20 (fun H locs hM hS => ?_)
      refine b_ifne (w := (isItem (setS μ 1 0) z)) (tgt := 33) hx hb dX0_lay_23 (by decide) (fun c_23 => ?_) (fun c_23 => ?_)
      · obtain ⟨y, hy, hn7, rfl⟩ := item_of (μ := μ) hW c_23
        have h12_y := (hW.2.1 y (by omega)).2.1
        have hall : (isItem μ (nI j) && (decide (nI y = -1) || isItem μ (nI y))) = true := by rw [hi_j, show isItem μ (nI y) = true from c_23, Bool.or_true]; rfl
        refine lv_iload_n hx hb dX0_lay_33 rfl (lv_at hl 3 rfl) ?_
        refine lv_iconst (v := (-1)) hx hb dX0_lay_34 (by decide) ?_
        refine lv_icmp_ne (tgt := 42) hx hb dX0_lay_35 (by decide) (fun _ => ?_) (fun h => absurd h (nI_m1 (by omega)))
        refine lv_aload_n hx hb dX0_lay_42 rfl (lv_at hl 0 rfl) ?_
        refine sy_mget (v := .ref (β 1)) hC hM 0 (by decide) rfl rfl q50 rfl dX0_lay_43 ?_
        refine lv_iload_n hx hb dX0_lay_46 rfl (lv_at hl 3 rfl) ?_
        refine sy_itald hC hM y rfl hy hn dX0_lay_47 ?_
        refine sy_iget hC hM hy hn q147 dX0_lay_48 ?_
        refine lv_astore (lv' := [(4, .ref (β (64 + y))), (0, .ref (β 0)), (1, .int (nI j)), (2, .int i), (3, .int (nI y))]) hx hb dX0_lay_51 hl (by decide) rfl (fun ls hl => ?_)
        refine lv_aload_n hx hb dX0_lay_53 rfl (lv_at hl 1 rfl) ?_
        refine sy_mget (v := .ref (β 1)) hC hM 0 (by decide) rfl rfl q50 rfl dX0_lay_54 ?_
        refine lv_iload_n hx hb dX0_lay_57 rfl (lv_at hl 2 rfl) ?_
        refine sy_itald hC hM j rfl hj hn dX0_lay_58 ?_
        refine sy_iget hC hM hj hn q147 dX0_lay_59 ?_
        refine lv_iload_n hx hb dX0_lay_62 rfl (lv_at hl 3 rfl) ?_
        refine lv_aload hx hb dX0_lay_63 (lv_at hl 0 rfl) ?_
        cases hthg : thgN (kd μ j)
        · refine w_YX (As := [.ref (β (64 + j)), .int i, .ref (β (64 + y))]) hC hX hZ hM hS hml hl.1 (k_X0_laid_cce l hst D tc x mo β (setS μ 1 0) j hj hn hthg h12_j i (some (β (64 + y)))) q281 q282 q23 q283 rfl ⟨by decide, by decide, rfl⟩ (Nat.le_of_ble_eq_true rfl) (Nat.le_of_ble_eq_true rfl) ⟨(Nat.le_of_ble_eq_true rfl), (Nat.le_of_ble_eq_true rfl)⟩ rfl (Nat.le_of_ble_eq_true rfl) dX0_lay_65 (fun H locs q9 ce hM hS hce hcv hcl => ?_)
          refine w_catch (i := 0) hC hX htab (pre := []) (z := ⟨53, 69, 70, 93⟩) (suf := [⟨53, 69, 79, 95⟩, ⟨53, 69, 88, 111⟩]) rfl (fun z hz => by cases hz) rfl (by decide) q155 (by decide) hce hcv hcl ?_
          refine lv_astore (lv' := [(5, .ref q9), (4, .ref (β (64 + y))), (0, .ref (β 0)), (1, .int (nI j)), (2, .int i), (3, .int (nI y))]) hx hb dX0_lay_70 hl (by decide) rfl (fun ls hl => ?_)
          refine lv_aload_n hx hb dX0_lay_72 rfl (lv_at hl 2 rfl) ?_
          refine lv_bipush (v := (-4)) hx hb dX0_lay_73 (by decide) ?_
          refine w_YV (As := [.int (-4)]) hC hX hZ hM hS hml hl.1 (sy_mainR hC.2.2.2.2 hM) (k_X0_no l hst D tc x mo β (setS μ 1 0) (-4)) q92 q94 qs0 q23 q95 rfl ⟨by decide, by decide, rfl⟩ (Nat.le_of_ble_eq_true rfl) (Nat.le_of_ble_eq_true rfl) ⟨(Nat.le_of_ble_eq_true rfl), (Nat.le_of_ble_eq_true rfl)⟩ rfl (Nat.le_of_ble_eq_true rfl) dX0_lay_75 (fun H locs hM hS => ?_)
          exact sy_iret hC hr hlk hM hS (by rw [p_lay_why (μ := μ) (by omega) hall (by rw [lay_N (by omega), hthg, Bool.false_and, wpl_f]; decide), lay_N (by omega), hthg, Bool.false_and, wpl_f]; first | done | rfl) (by rw [p_lay_why (μ := μ) (by omega) hall (by rw [lay_N (by omega), hthg, Bool.false_and, wpl_f]; decide), lay_N (by omega), hthg, Bool.false_and, wpl_f]; first | done | rfl) (Nat.le_of_ble_eq_true rfl) (Nat.le_of_ble_eq_true rfl) dX0_lay_78
        · cases hgo : goesN (kd μ y) (wantN (kd μ j))
          · refine w_YX (As := [.ref (β (64 + j)), .int i, .ref (β (64 + y))]) hC hX hZ hM hS hml hl.1 (k_X0_laid_ccet l hst D tc x mo β (setS μ 1 0) j hj hn hthg h12_j y hy h12_y hgo i) q281 q282 q23 q283 rfl ⟨by decide, by decide, rfl⟩ (Nat.le_of_ble_eq_true rfl) (Nat.le_of_ble_eq_true rfl) ⟨(Nat.le_of_ble_eq_true rfl), (Nat.le_of_ble_eq_true rfl)⟩ rfl (Nat.le_of_ble_eq_true rfl) dX0_lay_65 (fun H locs q9 ce hM hS hce hcv hcl => ?_)
            refine w_catch (i := 0) hC hX htab (pre := []) (z := ⟨53, 69, 70, 93⟩) (suf := [⟨53, 69, 79, 95⟩, ⟨53, 69, 88, 111⟩]) rfl (fun z hz => by cases hz) rfl (by decide) q155 (by decide) hce hcv hcl ?_
            refine lv_astore (lv' := [(5, .ref q9), (4, .ref (β (64 + y))), (0, .ref (β 0)), (1, .int (nI j)), (2, .int i), (3, .int (nI y))]) hx hb dX0_lay_70 hl (by decide) rfl (fun ls hl => ?_)
            refine lv_aload_n hx hb dX0_lay_72 rfl (lv_at hl 2 rfl) ?_
            refine lv_bipush (v := (-4)) hx hb dX0_lay_73 (by decide) ?_
            refine w_YV (As := [.int (-4)]) hC hX hZ hM hS hml hl.1 (sy_mainR hC.2.2.2.2 hM) (k_X0_no l hst D tc x mo β (setS μ 1 0) (-4)) q92 q94 qs0 q23 q95 rfl ⟨by decide, by decide, rfl⟩ (Nat.le_of_ble_eq_true rfl) (Nat.le_of_ble_eq_true rfl) ⟨(Nat.le_of_ble_eq_true rfl), (Nat.le_of_ble_eq_true rfl)⟩ rfl (Nat.le_of_ble_eq_true rfl) dX0_lay_75 (fun H locs hM hS => ?_)
            exact sy_iret hC hr hlk hM hS (by rw [p_lay_why (μ := μ) (by omega) hall (by rw [lay_N (by omega), hthg, hgo, Bool.true_and, wpl_f]; decide), lay_N (by omega), hthg, hgo, Bool.true_and, wpl_f]; first | done | rfl) (by rw [p_lay_why (μ := μ) (by omega) hall (by rw [lay_N (by omega), hthg, hgo, Bool.true_and, wpl_f]; decide), lay_N (by omega), hthg, hgo, Bool.true_and, wpl_f]; first | done | rfl) (Nat.le_of_ble_eq_true rfl) (Nat.le_of_ble_eq_true rfl) dX0_lay_78
          · cases hin : isIn i 0 (nI (sz μ j) - 1)
            · have hout : ¬ vp_in i (sz μ j) := vx_in_no hin (by omega)
              refine w_YX (As := [.ref (β (64 + j)), .int i, .ref (β (64 + y))]) hC hX hZ hM hS hml hl.1 (k_X0_laid_toob l hst D tc x mo β (setS μ 1 0) j hj hn hthg h12_j h3 y hy h12_y hgo i hout) q281 q282 q23 q283 rfl ⟨by decide, by decide, rfl⟩ (Nat.le_of_ble_eq_true rfl) (Nat.le_of_ble_eq_true rfl) ⟨(Nat.le_of_ble_eq_true rfl), (Nat.le_of_ble_eq_true rfl)⟩ rfl (Nat.le_of_ble_eq_true rfl) dX0_lay_65 (fun H locs q9 ce hM hS hce hcv hcl => ?_)
              refine w_catch (i := 1) hC hX htab (pre := [⟨53, 69, 70, 93⟩]) (z := ⟨53, 69, 79, 95⟩) (suf := [⟨53, 69, 88, 111⟩]) rfl (fun z hz => by rw [List.mem_singleton.mp hz]; exact ⟨by decide, 0, by decide, by decide, q155⟩) rfl (by decide) q226 (by decide) hce hcv hcl ?_
              refine lv_astore (lv' := [(5, .ref q9), (4, .ref (β (64 + y))), (0, .ref (β 0)), (1, .int (nI j)), (2, .int i), (3, .int (nI y))]) hx hb dX0_lay_79 hl (by decide) rfl (fun ls hl => ?_)
              refine lv_aload_n hx hb dX0_lay_81 rfl (lv_at hl 2 rfl) ?_
              refine lv_bipush (v := (-5)) hx hb dX0_lay_82 (by decide) ?_
              refine w_YV (As := [.int (-5)]) hC hX hZ hM hS hml hl.1 (sy_mainR hC.2.2.2.2 hM) (k_X0_no l hst D tc x mo β (setS μ 1 0) (-5)) q92 q94 qs0 q23 q95 rfl ⟨by decide, by decide, rfl⟩ (Nat.le_of_ble_eq_true rfl) (Nat.le_of_ble_eq_true rfl) ⟨(Nat.le_of_ble_eq_true rfl), (Nat.le_of_ble_eq_true rfl)⟩ rfl (Nat.le_of_ble_eq_true rfl) dX0_lay_84 (fun H locs hM hS => ?_)
              exact sy_iret hC hr hlk hM hS (by rw [p_lay_why (μ := μ) (by omega) hall (by rw [lay_N (by omega), hthg, hgo, Bool.true_and, (hW.2.1 j (by omega)).2.2.1, wpl_i hin]; decide), lay_N (by omega), hthg, hgo, Bool.true_and, (hW.2.1 j (by omega)).2.2.1, wpl_i hin]; first | done | rfl) (by rw [p_lay_why (μ := μ) (by omega) hall (by rw [lay_N (by omega), hthg, hgo, Bool.true_and, (hW.2.1 j (by omega)).2.2.1, wpl_i hin]; decide), lay_N (by omega), hthg, hgo, Bool.true_and, (hW.2.1 j (by omega)).2.2.1, wpl_i hin]; first | done | rfl) (Nat.le_of_ble_eq_true rfl) (Nat.le_of_ble_eq_true rfl) dX0_lay_87
            · obtain ⟨a, ha, rfl⟩ := isIn_pred (by omega) hin
              cases hho : goesN (kd μ y) (holdN (kd μ j))
              · refine w_YX (As := [.ref (β (64 + j)), .int (nI a), .ref (β (64 + y))]) hC hX hZ hM hS hml hl.1 (k_X0_laid_ase l hst D tc x mo β (setS μ 1 0) j hj hn hthg h12_j h3 y hy h12_y hgo hho a ha) q281 q282 q23 q283 rfl ⟨by decide, by decide, rfl⟩ (Nat.le_of_ble_eq_true rfl) (Nat.le_of_ble_eq_true rfl) ⟨(Nat.le_of_ble_eq_true rfl), (Nat.le_of_ble_eq_true rfl)⟩ rfl (Nat.le_of_ble_eq_true rfl) dX0_lay_65 (fun H locs q9 ce hM hS hce hcv hcl => ?_)
                refine w_catch (i := 2) hC hX htab (pre := [⟨53, 69, 70, 93⟩, ⟨53, 69, 79, 95⟩]) (z := ⟨53, 69, 88, 111⟩) (suf := []) rfl (fun z hz => by rcases List.mem_cons.mp hz with hz | hz; { rw [hz]; exact ⟨by decide, 0, by decide, by decide, q155⟩ }; { rw [List.mem_singleton.mp hz]; exact ⟨by decide, 1, by decide, by decide, q226⟩ }) rfl (by decide) q267 (by decide) hce hcv hcl ?_
                refine lv_astore (lv' := [(5, .ref q9), (4, .ref (β (64 + y))), (0, .ref (β 0)), (1, .int (nI j)), (2, .int (nI a)), (3, .int (nI y))]) hx hb dX0_lay_88 hl (by decide) rfl (fun ls hl => ?_)
                refine lv_aload_n hx hb dX0_lay_90 rfl (lv_at hl 2 rfl) ?_
                refine lv_bipush (v := (-6)) hx hb dX0_lay_91 (by decide) ?_
                refine w_YV (As := [.int (-6)]) hC hX hZ hM hS hml hl.1 (sy_mainR hC.2.2.2.2 hM) (k_X0_no l hst D tc x mo β (setS μ 1 0) (-6)) q92 q94 qs0 q23 q95 rfl ⟨by decide, by decide, rfl⟩ (Nat.le_of_ble_eq_true rfl) (Nat.le_of_ble_eq_true rfl) ⟨(Nat.le_of_ble_eq_true rfl), (Nat.le_of_ble_eq_true rfl)⟩ rfl (Nat.le_of_ble_eq_true rfl) dX0_lay_93 (fun H locs hM hS => ?_)
                exact sy_iret hC hr hlk hM hS (by rw [p_lay_st (μ := μ) (by omega) hall (by rw [lay_N (by omega), hthg, hgo, Bool.true_and, (hW.2.1 j (by omega)).2.2.1]; exact wpl_t hin) (by rw [decide_eq_false (nI_m1 (by omega)), cl_nI (by omega), hho]; rfl)]; first | done | rfl) (by rw [p_lay_st (μ := μ) (by omega) hall (by rw [lay_N (by omega), hthg, hgo, Bool.true_and, (hW.2.1 j (by omega)).2.2.1]; exact wpl_t hin) (by rw [decide_eq_false (nI_m1 (by omega)), cl_nI (by omega), hho]; rfl)]; first | done | rfl) (Nat.le_of_ble_eq_true rfl) (Nat.le_of_ble_eq_true rfl) dX0_lay_96
              · refine w_YS (As := [.ref (β (64 + j)), .int (nI a), .ref (β (64 + y))]) hC hX hZ hM hS hml hl.1 (k_X0_laid_t l hst D tc x mo β (setS μ 1 0) j hj hn hthg h12_j h3 y hy h12_y hgo hho a ha) q281 q282 q23 q283 rfl ⟨by decide, by decide, rfl⟩ (Nat.le_of_ble_eq_true rfl) (Nat.le_of_ble_eq_true rfl) ⟨(Nat.le_of_ble_eq_true rfl), (Nat.le_of_ble_eq_true rfl)⟩ rfl (Nat.le_of_ble_eq_true rfl) dX0_lay_65 (fun H locs hM hS => ?_)
                refine lv_iconst (v := 1) hx hb dX0_lay_68 (by decide) ?_
                exact sy_iret hC hr hlk hM hS (by rw [p_lay_ok (μ := μ) (by omega) (by omega) hall (by rw [lay_N (by omega), hthg, hgo, Bool.true_and, (hW.2.1 j (by omega)).2.2.1]; exact wpl_t hin) (by first | rfl | (rw [cl_nI (by omega), hho, Bool.or_true]))]; first | done | rfl | (rw [nI_lN (by omega)]) | (rw [m1_64])) (by rw [p_lay_ok (μ := μ) (by omega) (by omega) hall (by rw [lay_N (by omega), hthg, hgo, Bool.true_and, (hW.2.1 j (by omega)).2.2.1]; exact wpl_t hin) (by first | rfl | (rw [cl_nI (by omega), hho, Bool.or_true]))]; first | done | rfl | (rw [nI_lN (by omega)]) | (rw [m1_64])) (Nat.le_of_ble_eq_true rfl) (Nat.le_of_ble_eq_true rfl) dX0_lay_69
      · refine lv_aload_n hx hb dX0_lay_26 rfl (lv_at hl 0 rfl) ?_
        refine lv_bipush (v := (-2)) hx hb dX0_lay_27 (by decide) ?_
        refine w_YV (As := [.int (-2)]) hC hX hZ hM hS hml hl.1 (sy_mainR hC.2.2.2.2 hM) (k_X0_no l hst D tc x mo β (setS μ 1 0) (-2)) q92 q94 qs0 q23 q95 rfl ⟨by decide, by decide, rfl⟩ (Nat.le_of_ble_eq_true rfl) (Nat.le_of_ble_eq_true rfl) ⟨(Nat.le_of_ble_eq_true rfl), (Nat.le_of_ble_eq_true rfl)⟩ rfl (Nat.le_of_ble_eq_true rfl) dX0_lay_29 (fun H locs hM hS => ?_)
        exact sy_iret hC hr hlk hM hS (by rw [p_lay_bad (μ := μ) (by first | (rw [show isItem μ t = false from c_10]; rfl) | (rw [show isItem μ z = false from c_23, decide_eq_false c_15]; simp))]) (by rw [p_lay_bad (μ := μ) (by first | (rw [show isItem μ t = false from c_10]; rfl) | (rw [show isItem μ z = false from c_23, decide_eq_false c_15]; simp))]) (Nat.le_of_ble_eq_true rfl) (Nat.le_of_ble_eq_true rfl) dX0_lay_32
theorem k_X0_stamps (l : Launch) (hst : l.stackTraces = false) (D : va_G) (tc : Nat → ClassId) (x mo : Nat) (β : Nat → Nat) (μ : MS) (hI : IX μ) (t : Int32) : YW l yX0_stamps cX0_stamps 4 (some .int) [(24, 41, 42, 93)] 8 10320 3 1000 D tc x mo β [.ref (β 0), .int t] μ ((p_stamps μ t).1) (some (.int ((p_stamps μ t).2))) := by
  refine YW.of (by decide) rfl (Nat.le_of_ble_eq_true rfl) ?_
  intro p e s m below meth c hC hX hZ hr hlk hml htab hM hS ls hl
  have hx := hC.1
  have hb := hC.2.1
  have hts := hC.2.2.1
  have hown := hC.2.2.2.1
  have hl : lv_has ls 4 [(0, .ref (β 0)), (1, .int t)] := hl
  have hn := hI.1.1.1.2
  have hW := hI.1.1
  have hn0 : sS μ 0 = nI (nn μ) := hI.1.1.1.1
  refine lv_aload_n hx hb dX0_stamps_0 rfl (lv_at hl 0 rfl) ?_
  refine lv_iconst (v := 0) hx hb dX0_stamps_1 (by decide) ?_
  refine sy_mput hC hM hS 1 2 (by decide) (by decide) (w := 0) rfl rfl q52 rfl rfl rfl rfl dX0_stamps_2 (fun H locs hM hS => ?_)
  refine lv_aload_n hx hb dX0_stamps_5 rfl (lv_at hl 0 rfl) ?_
  refine lv_iload_n hx hb dX0_stamps_6 rfl (lv_at hl 1 rfl) ?_
  refine w_YV (As := [.int t]) hC hX hZ hM hS hml hl.1 (sy_mainR hC.2.2.2.2 hM) (k_X0_isItem l hst D tc x mo β (setS μ 1 0) t) q245 q247 qs2 q23 q248 rfl ⟨by decide, by decide, rfl⟩ (Nat.le_of_ble_eq_true rfl) (Nat.le_of_ble_eq_true rfl) ⟨(Nat.le_of_ble_eq_true rfl), (Nat.le_of_ble_eq_true rfl)⟩ rfl (Nat.le_of_ble_eq_true rfl) dX0_stamps_7 (fun H locs hM hS => ?_)
  refine b_ifne (w := (isItem (setS μ 1 0) t)) (tgt := 21) hx hb dX0_stamps_10 (by decide) (fun c_10 => ?_) (fun c_10 => ?_)
  · obtain ⟨j, hj, hn8, rfl⟩ := item_of (μ := μ) hW c_10
    have h12_j := (hW.2.1 j (by omega)).2.1
    have h3 := (hW.2.1 j (by omega)).2.2.2
    have hi_j : isItem μ (nI j) = true := isItem_of hW hj
    refine lv_bipush (v := (-4)) hx hb dX0_stamps_21 (by decide) ?_
    refine lv_istore_n (lv' := [(2, .int (-4)), (0, .ref (β 0)), (1, .int (nI j))]) hx hb dX0_stamps_23 rfl hl (by decide) rfl (fun ls hl => ?_)
    refine lv_aload_n hx hb dX0_stamps_24 rfl (lv_at hl 1 rfl) ?_
    refine sy_mget (v := .ref (β 1)) hC hM 0 (by decide) rfl rfl q50 rfl dX0_stamps_25 ?_
    refine lv_iload_n hx hb dX0_stamps_28 rfl (lv_at hl 2 rfl) ?_
    refine sy_itald hC hM j rfl hj hn dX0_stamps_29 ?_
    refine sy_iget hC hM hj hn q147 dX0_stamps_30 ?_
    cases ho : oneN (kd μ j)
    · refine w_castNo hC hX (k := kd μ j) (f := 13) (by omega) (by decide) (sy_thR hC.2.2.2.2 hM hj hn h12_j) q136 rfl (by rw [goes13 _ (by omega)]; exact ho) dX0_stamps_33 (fun tx b1 b2 => w_note hC hX hst hZ hS (hl.1.trans hml.symm) hlk 0 (by decide) b1 b2 (Nat.le_of_ble_eq_true rfl) (Nat.le_of_ble_eq_true rfl) (Nat.le_of_ble_eq_true rfl) (Nat.le_of_ble_eq_true rfl) (fun H1 q9 ce z1 k1 S1 hce hcv hcl => ?_))
      have hM := hM.kept (H1 := H1) (fun q h1 _ => k1 q h1)
      have hS := S1
      refine w_catch (i := 0) hC hX htab (pre := []) (z := ⟨24, 41, 42, 93⟩) (suf := []) rfl (fun z hz => by cases hz) rfl (by decide) q155 (by decide) hce hcv hcl ?_
      refine lv_astore_n (lv' := [(3, .ref q9), (2, .int (-4)), (0, .ref (β 0)), (1, .int (nI j))]) hx hb dX0_stamps_42 rfl hl (by decide) rfl (fun ls hl => ?_)
      refine lv_aload_n hx hb dX0_stamps_43 rfl (lv_at hl 2 rfl) ?_
      refine lv_bipush (v := (-4)) hx hb dX0_stamps_44 (by decide) ?_
      refine w_YV (As := [.int (-4)]) hC hX hZ hM hS hml hl.1 (sy_mainR hC.2.2.2.2 hM) (k_X0_no l hst D tc x mo β (setS μ 1 0) (-4)) q92 q94 qs0 q23 q95 rfl ⟨by decide, by decide, rfl⟩ (Nat.le_of_ble_eq_true rfl) (Nat.le_of_ble_eq_true rfl) ⟨(Nat.le_of_ble_eq_true rfl), (Nat.le_of_ble_eq_true rfl)⟩ rfl (Nat.le_of_ble_eq_true rfl) dX0_stamps_46 (fun H locs hM hS => ?_)
      refine lv_istore_n (lv' := [(2, .int (-4)), (3, .ref q9), (0, .ref (β 0)), (1, .int (nI j))]) hx hb dX0_stamps_49 rfl hl (by decide) rfl (fun ls hl => ?_)
      refine lv_iconst (v := 0) hx hb dX0_stamps_50 (by decide) ?_
      exact sy_iret hC hr hlk hM hS (by rw [p_stamps_why (μ := μ) (by omega) hi_j ho]) (by rw [p_stamps_why (μ := μ) (by omega) hi_j ho]) (Nat.le_of_ble_eq_true rfl) (Nat.le_of_ble_eq_true rfl) dX0_stamps_51
    · refine w_cast hC hX (k := kd μ j) (f := 13) (by omega) (by decide) (sy_thR hC.2.2.2.2 hM hj hn h12_j) q136 rfl (by rw [goes13 _ (by omega)]; exact ho) dX0_stamps_33 ?_
      rcases card3 _ (by omega) ho with hk_j | hk_j | hk_j
      · refine w_YF (As := []) (C := "MailRooms$Card") (y0 := ⟨"MailRooms$Stamped", "stamps", "()I"⟩) hC hX hZ hM hS hml hl.1 (sy_thRk hC.2.2.2.2 hM hj hn hk_j (by omega)) (hC.2.2.2.2.1 3 _ rfl).2 (List.mem_of_getElem? (i := 0) rfl) (k_X3_stamps_5 l hst D tc x mo β (setS μ 1 0) j hj hn hk_j) q311 q317 q315 q26 q319 rfl ⟨by decide, by decide, rfl⟩ (Nat.le_of_ble_eq_true rfl) (Nat.le_of_ble_eq_true rfl) ⟨(Nat.le_of_ble_eq_true rfl), (Nat.le_of_ble_eq_true rfl)⟩ rfl (Nat.le_of_ble_eq_true rfl) dX0_stamps_36 (fun H locs hM hS => ?_)
        exact sy_iret hC hr hlk hM hS (by rw [p_stamps_ok (μ := μ) (by omega) hi_j ho]) (by rw [p_stamps_ok (μ := μ) (by omega) hi_j ho]; first | done | rfl) (Nat.le_of_ble_eq_true rfl) (Nat.le_of_ble_eq_true rfl) dX0_stamps_41
      · refine w_YF (As := []) (C := "MailRooms$GoldCard") (y0 := ⟨"MailRooms$Stamped", "stamps", "()I"⟩) hC hX hZ hM hS hml hl.1 (sy_thRk hC.2.2.2.2 hM hj hn hk_j (by omega)) (hC.2.2.2.2.1 4 _ rfl).2 (List.mem_of_getElem? (i := 1) rfl) (k_X3_stamps_6 l hst D tc x mo β (setS μ 1 0) j hj hn hk_j) q311 q317 q321 q26 q319 rfl ⟨by decide, by decide, rfl⟩ (Nat.le_of_ble_eq_true rfl) (Nat.le_of_ble_eq_true rfl) ⟨(Nat.le_of_ble_eq_true rfl), (Nat.le_of_ble_eq_true rfl)⟩ rfl (Nat.le_of_ble_eq_true rfl) dX0_stamps_36 (fun H locs hM hS => ?_)
        exact sy_iret hC hr hlk hM hS (by rw [p_stamps_ok (μ := μ) (by omega) hi_j ho]) (by rw [p_stamps_ok (μ := μ) (by omega) hi_j ho]; first | done | rfl) (Nat.le_of_ble_eq_true rfl) (Nat.le_of_ble_eq_true rfl) dX0_stamps_41
      · refine w_YF (As := []) (C := "MailRooms$Token") (y0 := ⟨"MailRooms$Stamped", "stamps", "()I"⟩) hC hX hZ hM hS hml hl.1 (sy_thRk hC.2.2.2.2 hM hj hn hk_j (by omega)) (hC.2.2.2.2.1 5 _ rfl).2 (List.mem_of_getElem? (i := 2) rfl) (k_X5_stamps l hst D tc x mo β (setS μ 1 0) j hj hn hk_j) q311 q326 q324 q28 q328 rfl ⟨by decide, by decide, rfl⟩ (Nat.le_of_ble_eq_true rfl) (Nat.le_of_ble_eq_true rfl) ⟨(Nat.le_of_ble_eq_true rfl), (Nat.le_of_ble_eq_true rfl)⟩ rfl (Nat.le_of_ble_eq_true rfl) dX0_stamps_36 (fun H locs hM hS => ?_)
        exact sy_iret hC hr hlk hM hS (by rw [p_stamps_ok (μ := μ) (by omega) hi_j ho]) (by rw [p_stamps_ok (μ := μ) (by omega) hi_j ho]; first | done | rfl) (Nat.le_of_ble_eq_true rfl) (Nat.le_of_ble_eq_true rfl) dX0_stamps_41
  · refine lv_aload_n hx hb dX0_stamps_13 rfl (lv_at hl 0 rfl) ?_
    refine lv_bipush (v := (-2)) hx hb dX0_stamps_14 (by decide) ?_
    refine sy_mput hC hM hS 1 2 (by decide) (by decide) (w := (-2)) rfl rfl q52 rfl rfl rfl rfl dX0_stamps_16 (fun H locs hM hS => ?_)
    refine lv_iconst (v := 0) hx hb dX0_stamps_19 (by decide) ?_
    exact sy_iret hC hr hlk hM hS (by rw [p_stamps_bad (μ := μ) c_10, p_no2]) (by rw [p_stamps_bad (μ := μ) c_10]) (Nat.le_of_ble_eq_true rfl) (Nat.le_of_ble_eq_true rfl) dX0_stamps_20

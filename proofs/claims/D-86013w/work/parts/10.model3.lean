/-! THE MODEL: make, desks, what is told -/
set_option maxRecDepth 100000
set_option maxHeartbeats 4000000
theorem k_X1_settle (l : Launch) (D : va_G) (tc : Nat → ClassId) (mo : Nat) (μ : MS) (q : Nat) (f a : Int32) (z : Bool) (hq : q < 32) : MC l yX1_settle cX1_settle 5 none 0 0 D tc mo [.int (nI q), .int f, .int a, .int (bI z)] μ (p_settle μ q f a (bI z)) none := by
  refine MC.of (by decide) rfl (Nat.le_of_ble_eq_true rfl) ?_
  intro p e s m below meth c hC hr hlk hml hM hS ls hl
  have hx := hC.1
  have hb := hC.2.1
  have hts := hC.2.2.1
  have hown := hC.2.2.2.1
  have hl : lv_has ls 5 [(0, .ref mo), (1, .int (nI q)), (2, .int f), (3, .int a), (4, .int (bI z))] := hl
  refine lv_aload_n hx hb dX1_settle_0 rfl (lv_at hl 0 rfl) ?_
  refine md_get (v := .ref (mo + 6)) hC hM 6 (by decide) rfl q479 rfl dX1_settle_1 ?_
  refine lv_iload_n hx hb dX1_settle_4 rfl (lv_at hl 1 rfl) ?_
  refine lv_iload_n hx hb dX1_settle_5 rfl (lv_at hl 2 rfl) ?_
  refine md_ast hC hM hS 4 (N := 32) rfl (by decide) rfl rfl q rfl (by omega) dX1_settle_6 (fun H locs hM hS => ?_)
  refine lv_aload_n hx hb dX1_settle_7 rfl (lv_at hl 0 rfl) ?_
  refine md_get (v := .ref (mo + 7)) hC hM 7 (by decide) rfl q480 rfl dX1_settle_8 ?_
  refine lv_iload_n hx hb dX1_settle_11 rfl (lv_at hl 1 rfl) ?_
  refine lv_iload_n hx hb dX1_settle_12 rfl (lv_at hl 3 rfl) ?_
  refine md_ast hC hM hS 5 (N := 32) rfl (by decide) rfl rfl q rfl (by omega) dX1_settle_13 (fun H locs hM hS => ?_)
  refine lv_aload_n hx hb dX1_settle_14 rfl (lv_at hl 0 rfl) ?_
  refine md_get (v := .ref (mo + 8)) hC hM 8 (by decide) rfl q481 rfl dX1_settle_15 ?_
  refine lv_iload_n hx hb dX1_settle_18 rfl (lv_at hl 1 rfl) ?_
  refine lv_iload hx hb dX1_settle_19 (lv_at hl 4 rfl) ?_
  refine md_zast hC hM hS 6 (N := 32) rfl (by decide) rfl rfl q rfl (by omega) (bI_01 _) dX1_settle_21 (fun H locs hM hS => ?_)
  exact md_vret hC hr hlk hM hS rfl dX1_settle_22
theorem k_X1_out (l : Launch) (D : va_G) (tc : Nat → ClassId) (mo : Nat) (μ : MS)  : MC l yX1_out cX1_out 1 (some .int) 0 0 D tc mo [] μ μ (some (.int (sS μ 6))) := by
  refine MC.of (by decide) rfl (Nat.le_of_ble_eq_true rfl) ?_
  intro p e s m below meth c hC hr hlk hml hM hS ls hl
  have hx := hC.1
  have hb := hC.2.1
  have hts := hC.2.2.1
  have hown := hC.2.2.2.1
  have hl : lv_has ls 1 [(0, .ref mo)] := hl
  refine lv_aload_n hx hb dX1_out_0 rfl (lv_at hl 0 rfl) ?_
  refine md_get (v := .int (sS μ 6)) hC hM 20 (by decide) rfl q493 rfl dX1_out_1 ?_
  exact md_iret hC hr hlk hM hS rfl rfl dX1_out_4
theorem k_X1_refused (l : Launch) (D : va_G) (tc : Nat → ClassId) (mo : Nat) (μ : MS)  : MC l yX1_refused cX1_refused 1 (some .int) 0 0 D tc mo [] μ μ (some (.int (sS μ 1))) := by
  refine MC.of (by decide) rfl (Nat.le_of_ble_eq_true rfl) ?_
  intro p e s m below meth c hC hr hlk hml hM hS ls hl
  have hx := hC.1
  have hb := hC.2.1
  have hts := hC.2.2.1
  have hown := hC.2.2.2.1
  have hl : lv_has ls 1 [(0, .ref mo)] := hl
  refine lv_aload_n hx hb dX1_refused_0 rfl (lv_at hl 0 rfl) ?_
  refine md_get (v := .int (sS μ 1)) hC hM 15 (by decide) rfl q488 rfl dX1_refused_1 ?_
  exact md_iret hC hr hlk hM hS rfl rfl dX1_refused_4
theorem k_X1_count (l : Launch) (D : va_G) (tc : Nat → ClassId) (mo : Nat) (μ : MS) (w : Int32) : MC l yX1_count cX1_count 2 (some .int) 0 0 D tc mo [.int w] μ μ (some (.int (p_count μ w))) := by
  refine MC.of (by decide) rfl (Nat.le_of_ble_eq_true rfl) ?_
  intro p e s m below meth c hC hr hlk hml hM hS ls hl
  have hx := hC.1
  have hb := hC.2.1
  have hts := hC.2.2.1
  have hown := hC.2.2.2.1
  have hl : lv_has ls 2 [(0, .ref mo), (1, .int w)] := hl
  refine lv_iload_n hx hb dX1_count_0 rfl (lv_at hl 1 rfl) ?_
  rcases sw5 w with rfl | rfl | rfl | rfl | rfl | ⟨hout, n0, n1, n2, n3, n4⟩
  · refine lv_tableIn (off := 35) (tgt := 36) hx hb dX1_count_1 (by decide) (by decide) rfl (by decide) ?_
    refine lv_aload_n hx hb dX1_count_36 rfl (lv_at hl 0 rfl) ?_
    refine md_get (v := .int (sS μ 0)) hC hM 0 (by decide) rfl q473 rfl dX1_count_37 ?_
    exact md_iret hC hr hlk hM hS rfl (by first | rfl | (simp [p_count, *])) dX1_count_40
  · refine lv_tableIn (off := 40) (tgt := 41) hx hb dX1_count_1 (by decide) (by decide) rfl (by decide) ?_
    refine lv_aload_n hx hb dX1_count_41 rfl (lv_at hl 0 rfl) ?_
    refine md_get (v := .int (sS μ 2)) hC hM 16 (by decide) rfl q489 rfl dX1_count_42 ?_
    exact md_iret hC hr hlk hM hS rfl (by first | rfl | (simp [p_count, *])) dX1_count_45
  · refine lv_tableIn (off := 45) (tgt := 46) hx hb dX1_count_1 (by decide) (by decide) rfl (by decide) ?_
    refine lv_aload_n hx hb dX1_count_46 rfl (lv_at hl 0 rfl) ?_
    refine md_get (v := .int (sS μ 3)) hC hM 17 (by decide) rfl q490 rfl dX1_count_47 ?_
    exact md_iret hC hr hlk hM hS rfl (by first | rfl | (simp [p_count, *])) dX1_count_50
  · refine lv_tableIn (off := 50) (tgt := 51) hx hb dX1_count_1 (by decide) (by decide) rfl (by decide) ?_
    refine lv_aload_n hx hb dX1_count_51 rfl (lv_at hl 0 rfl) ?_
    refine md_get (v := .int (sS μ 4)) hC hM 18 (by decide) rfl q491 rfl dX1_count_52 ?_
    exact md_iret hC hr hlk hM hS rfl (by first | rfl | (simp [p_count, *])) dX1_count_55
  · refine lv_tableIn (off := 55) (tgt := 56) hx hb dX1_count_1 (by decide) (by decide) rfl (by decide) ?_
    refine lv_aload_n hx hb dX1_count_56 rfl (lv_at hl 0 rfl) ?_
    refine md_get (v := .int (sS μ 5)) hC hM 19 (by decide) rfl q492 rfl dX1_count_57 ?_
    exact md_iret hC hr hlk hM hS rfl (by first | rfl | (simp [p_count, *])) dX1_count_60
  · refine lv_tableOut (tgt := 61) hx hb dX1_count_1 (by omega) (by decide) ?_
    refine lv_bipush (v := (-2)) hx hb dX1_count_61 (by decide) ?_
    exact md_iret hC hr hlk hM hS rfl (by first | rfl | (simp [p_count, *])) dX1_count_63
theorem k_X1_told (l : Launch) (D : va_G) (tc : Nat → ClassId) (mo : Nat) (μ : MS) (hW : WF μ) (r d w : Int32) : MC l yX1_told cX1_told 5 (some .int) 2 42 D tc mo [.int r, .int d, .int w] μ μ (some (.int (p_told μ r d w))) := by
  refine MC.of (by decide) rfl (Nat.le_of_ble_eq_true rfl) ?_
  intro p e s m below meth c hC hr hlk hml hM hS ls hl
  have hx := hC.1
  have hb := hC.2.1
  have hts := hC.2.2.1
  have hown := hC.2.2.2.1
  have hl : lv_has ls 5 [(0, .ref mo), (1, .int r), (2, .int d), (3, .int w)] := hl
  refine lv_iload_n hx hb dX1_told_0 rfl (lv_at hl 1 rfl) ?_
  refine w_SC (As := [.int r]) hx hb hts hown hml hl.1 (k_X1_isRoom l r) q628 q629 q24 q630 rfl ⟨by decide, by decide, rfl⟩ (Nat.le_of_ble_eq_true rfl) (Nat.le_of_ble_eq_true rfl) ⟨Nat.zero_le _, Nat.zero_le _⟩ rfl (Nat.le_of_ble_eq_true rfl) dX1_told_1 ?_
  refine b_ifeq (w := (isIn r 0 7)) (tgt := 23) hx hb dX1_told_4 (by decide) (fun c_4 => ?_) (fun c_4 => ?_)
  · refine lv_bipush (v := (-2)) hx hb dX1_told_23 (by decide) ?_
    exact md_iret hC hr hlk hM hS rfl (by rw [p_told_bad (μ := μ) (by first | exact isDesk_f c_4 | (rw [isDesk_nat (by omega), (hW.2.2.1 a (by omega)).1]; exact c_20))]) dX1_told_25
  · obtain ⟨a, qa, rfl⟩ := isIn_nat (n := 7) (by decide) c_4
    have hd_a := (hW.2.2.1 a (by omega)).2
    refine lv_iload_n hx hb dX1_told_7 rfl (lv_at hl 2 rfl) ?_
    refine lv_iconst (v := 0) hx hb dX1_told_8 (by decide) ?_
    refine lv_aload_n hx hb dX1_told_9 rfl (lv_at hl 0 rfl) ?_
    refine md_get (v := .ref (mo + 5)) hC hM 5 (by decide) rfl q478 rfl dX1_told_10 ?_
    refine lv_iload_n hx hb dX1_told_13 rfl (lv_at hl 1 rfl) ?_
    refine md_ald (v := (nI (dk μ a))) hC hM 3 (N := 8) rfl (by decide) rfl rfl a rfl (by omega) ((hW.2.2.1 a (by omega)).1) dX1_told_14 ?_
    refine lv_iconst (v := 1) hx hb dX1_told_15 (by decide) ?_
    refine lv_isub hx hb dX1_told_16 ?_
    refine w_SC (As := [.int d, .int 0, .int ((nI (dk μ a)) - 1)]) hx hb hts hown hml hl.1 (k_X1_isIn l d 0 ((nI (dk μ a)) - 1)) q560 q561 q24 q562 rfl ⟨by decide, by decide, rfl⟩ (Nat.le_of_ble_eq_true rfl) (Nat.le_of_ble_eq_true rfl) ⟨Nat.zero_le _, Nat.zero_le _⟩ rfl (Nat.le_of_ble_eq_true rfl) dX1_told_17 ?_
    refine b_ifne (w := (isIn d 0 ((nI (dk μ a)) - 1))) (tgt := 26) hx hb dX1_told_20 (by decide) (fun c_20 => ?_) (fun c_20 => ?_)
    · obtain ⟨b, qb, rfl⟩ := isIn_pred (n := dk μ a) (by omega) c_20
      have hdk : isDesk μ (nI a) (nI b) = true := by rw [isDesk_nat (by omega), (hW.2.2.1 a (by omega)).1]; exact isIn_pred_of (by omega) (by omega)
      refine lv_iconst (v := 4) hx hb dX1_told_26 (by decide) ?_
      refine lv_iload_n hx hb dX1_told_27 rfl (lv_at hl 1 rfl) ?_
      refine lv_imul hx hb dX1_told_28 ?_
      refine w_top (congrArg Value.int (pk_mul 4 a)) ?_
      refine lv_iload_n hx hb dX1_told_29 rfl (lv_at hl 2 rfl) ?_
      refine lv_iadd hx hb dX1_told_30 ?_
      refine w_top (congrArg Value.int (nI_add (4 * a) b)) ?_
      refine lv_istore (lv' := [(4, .int (nI ((4 * a) + b))), (0, .ref mo), (1, .int (nI a)), (2, .int (nI b)), (3, .int w)]) hx hb dX1_told_31 hl (by decide) rfl (fun ls hl => ?_)
      refine lv_iload_n hx hb dX1_told_33 rfl (lv_at hl 4 rfl) ?_
      rcases sw5 w with rfl | rfl | rfl | rfl | rfl | ⟨hout, n0, n1, n2, n3, n4⟩
      · refine lv_tableIn (off := 34) (tgt := 68) hx hb dX1_told_34 (by decide) (by decide) rfl (by decide) ?_
        refine lv_aload_n hx hb dX1_told_68 rfl (lv_at hl 1 rfl) ?_
        refine md_get (v := .ref (mo + 9)) hC hM 9 (by decide) rfl q482 rfl dX1_told_69 ?_
        refine lv_iload hx hb dX1_told_72 (lv_at hl 0 rfl) ?_
        refine md_ald (v := (sA μ 7 ((4 * a) + b))) hC hM 7 (N := 32) rfl (by decide) rfl rfl ((4 * a) + b) rfl (by omega) rfl dX1_told_74 ?_
        exact md_iret hC hr hlk hM hS rfl (by rw [p_told_ok (μ := μ) (by omega) (by omega) hdk]; first | rfl | (simp [*])) dX1_told_75
      · refine lv_tableIn (off := 42) (tgt := 76) hx hb dX1_told_34 (by decide) (by decide) rfl (by decide) ?_
        refine lv_aload_n hx hb dX1_told_76 rfl (lv_at hl 1 rfl) ?_
        refine md_get (v := .ref (mo + 10)) hC hM 10 (by decide) rfl q483 rfl dX1_told_77 ?_
        refine lv_iload hx hb dX1_told_80 (lv_at hl 0 rfl) ?_
        refine md_ald (v := (sA μ 8 ((4 * a) + b))) hC hM 8 (N := 32) rfl (by decide) rfl rfl ((4 * a) + b) rfl (by omega) rfl dX1_told_82 ?_
        exact md_iret hC hr hlk hM hS rfl (by rw [p_told_ok (μ := μ) (by omega) (by omega) hdk]; first | rfl | (simp [*])) dX1_told_83
      · refine lv_tableIn (off := 50) (tgt := 84) hx hb dX1_told_34 (by decide) (by decide) rfl (by decide) ?_
        refine lv_aload_n hx hb dX1_told_84 rfl (lv_at hl 1 rfl) ?_
        refine md_get (v := .ref (mo + 11)) hC hM 11 (by decide) rfl q484 rfl dX1_told_85 ?_
        refine lv_iload hx hb dX1_told_88 (lv_at hl 0 rfl) ?_
        refine md_ald (v := (sA μ 9 ((4 * a) + b))) hC hM 9 (N := 32) rfl (by decide) rfl rfl ((4 * a) + b) rfl (by omega) rfl dX1_told_90 ?_
        exact md_iret hC hr hlk hM hS rfl (by rw [p_told_ok (μ := μ) (by omega) (by omega) hdk]; first | rfl | (simp [*])) dX1_told_91
      · refine lv_tableIn (off := 58) (tgt := 92) hx hb dX1_told_34 (by decide) (by decide) rfl (by decide) ?_
        refine lv_aload_n hx hb dX1_told_92 rfl (lv_at hl 1 rfl) ?_
        refine md_get (v := .ref (mo + 12)) hC hM 12 (by decide) rfl q485 rfl dX1_told_93 ?_
        refine lv_iload hx hb dX1_told_96 (lv_at hl 0 rfl) ?_
        refine md_ald (v := (sA μ 10 ((4 * a) + b))) hC hM 10 (N := 32) rfl (by decide) rfl rfl ((4 * a) + b) rfl (by omega) rfl dX1_told_98 ?_
        exact md_iret hC hr hlk hM hS rfl (by rw [p_told_ok (μ := μ) (by omega) (by omega) hdk]; first | rfl | (simp [*])) dX1_told_99
      · refine lv_tableIn (off := 66) (tgt := 100) hx hb dX1_told_34 (by decide) (by decide) rfl (by decide) ?_
        refine lv_aload_n hx hb dX1_told_100 rfl (lv_at hl 1 rfl) ?_
        refine md_get (v := .ref (mo + 13)) hC hM 13 (by decide) rfl q486 rfl dX1_told_101 ?_
        refine lv_iload hx hb dX1_told_104 (lv_at hl 0 rfl) ?_
        refine md_ald (v := (sA μ 11 ((4 * a) + b))) hC hM 11 (N := 32) rfl (by decide) rfl rfl ((4 * a) + b) rfl (by omega) rfl dX1_told_106 ?_
        exact md_iret hC hr hlk hM hS rfl (by rw [p_told_ok (μ := μ) (by omega) (by omega) hdk]; first | rfl | (simp [*])) dX1_told_107
      · refine lv_tableOut (tgt := 108) hx hb dX1_told_34 (by omega) (by decide) ?_
        refine lv_bipush (v := (-2)) hx hb dX1_told_108 (by decide) ?_
        exact md_iret hC hr hlk hM hS rfl (by rw [p_told_ok (μ := μ) (by omega) (by omega) hdk]; first | rfl | (simp [*])) dX1_told_110
    · refine lv_bipush (v := (-2)) hx hb dX1_told_23 (by decide) ?_
      exact md_iret hC hr hlk hM hS rfl (by rw [p_told_bad (μ := μ) (by first | exact isDesk_f c_4 | (rw [isDesk_nat (by omega), (hW.2.2.1 a (by omega)).1]; exact c_20))]) dX1_told_25
theorem k_X1_change (l : Launch) (D : va_G) (tc : Nat → ClassId) (mo : Nat) (μ : MS) (hW : WF μ) (r d f g : Int32) (z : Bool) : MC l yX1_change cX1_change 6 (some .int) 2 42 D tc mo [.int r, .int d, .int f, .int g, .int (bI z)] μ ((p_change μ r d f g z).1) (some (.int ((p_change μ r d f g z).2))) := by
  refine MC.of (by decide) rfl (Nat.le_of_ble_eq_true rfl) ?_
  intro p e s m below meth c hC hr hlk hml hM hS ls hl
  have hx := hC.1
  have hb := hC.2.1
  have hts := hC.2.2.1
  have hown := hC.2.2.2.1
  have hl : lv_has ls 6 [(0, .ref mo), (1, .int r), (2, .int d), (3, .int f), (4, .int g), (5, .int (bI z))] := hl
  refine lv_aload_n hx hb dX1_change_0 rfl (lv_at hl 0 rfl) ?_
  refine lv_iconst (v := 0) hx hb dX1_change_1 (by decide) ?_
  refine md_put hC hM hS 1 (by decide) q488 dX1_change_2 (fun H locs hM hS => ?_)
  refine lv_iload_n hx hb dX1_change_5 rfl (lv_at hl 1 rfl) ?_
  refine w_SC (As := [.int r]) hx hb hts hown hml hl.1 (k_X1_isRoom l r) q628 q629 q24 q630 rfl ⟨by decide, by decide, rfl⟩ (Nat.le_of_ble_eq_true rfl) (Nat.le_of_ble_eq_true rfl) ⟨Nat.zero_le _, Nat.zero_le _⟩ rfl (Nat.le_of_ble_eq_true rfl) dX1_change_6 ?_
  refine b_ifeq (w := (isIn r 0 7)) (tgt := 48) hx hb dX1_change_9 (by decide) (fun c_9 => ?_) (fun c_9 => ?_)
  · refine lv_aload_n hx hb dX1_change_48 rfl (lv_at hl 0 rfl) ?_
    refine lv_bipush (v := (-2)) hx hb dX1_change_49 (by decide) ?_
    refine w_MC (As := [.int (-2)]) hC hM hS (fun _ h => h) hml hl.1 (k_X1_refuse l D tc mo (setS μ 1 0) (-2)) q566 q568 qs9 q24 q569 rfl ⟨rfl, by decide, by decide, rfl⟩ (Nat.le_of_ble_eq_true rfl) (Nat.le_of_ble_eq_true rfl) ⟨Nat.zero_le _, Nat.zero_le _⟩ rfl (Nat.le_of_ble_eq_true rfl) dX1_change_51 (fun H locs hM hS _ _ => ?_)
    exact md_iret hC hr hlk hM hS (by rw [p_change_bad (μ := μ) (by first | (rw [isDesk_f (μ := μ) c_9]; rfl) | (rw [isDesk_nat (μ := μ) (by omega), (hW.2.2.1 a (by omega)).1, show isIn d 0 (nI (dk μ a) - 1) = false from c_25]; rfl) | (rw [show isIn g 0 4 = false from c_45]; simp; done) | (rw [show isIn f 0 13 = false from c_35]; simp; done))]; first | done | rfl) (by rw [p_change_bad (μ := μ) (by first | (rw [isDesk_f (μ := μ) c_9]; rfl) | (rw [isDesk_nat (μ := μ) (by omega), (hW.2.2.1 a (by omega)).1, show isIn d 0 (nI (dk μ a) - 1) = false from c_25]; rfl) | (rw [show isIn g 0 4 = false from c_45]; simp; done) | (rw [show isIn f 0 13 = false from c_35]; simp; done))]; first | done | rfl) dX1_change_54
  · obtain ⟨a, qa, rfl⟩ := isIn_nat (n := 7) (by decide) c_9
    have hd_a := (hW.2.2.1 a (by omega)).2
    refine lv_iload_n hx hb dX1_change_12 rfl (lv_at hl 2 rfl) ?_
    refine lv_iconst (v := 0) hx hb dX1_change_13 (by decide) ?_
    refine lv_aload_n hx hb dX1_change_14 rfl (lv_at hl 0 rfl) ?_
    refine md_get (v := .ref (mo + 5)) hC hM 5 (by decide) rfl q478 rfl dX1_change_15 ?_
    refine lv_iload_n hx hb dX1_change_18 rfl (lv_at hl 1 rfl) ?_
    refine md_ald (v := (nI (dk μ a))) hC hM 3 (N := 8) rfl (by decide) rfl rfl a rfl (by omega) ((hW.2.2.1 a (by omega)).1) dX1_change_19 ?_
    refine lv_iconst (v := 1) hx hb dX1_change_20 (by decide) ?_
    refine lv_isub hx hb dX1_change_21 ?_
    refine w_SC (As := [.int d, .int 0, .int ((nI (dk μ a)) - 1)]) hx hb hts hown hml hl.1 (k_X1_isIn l d 0 ((nI (dk μ a)) - 1)) q560 q561 q24 q562 rfl ⟨by decide, by decide, rfl⟩ (Nat.le_of_ble_eq_true rfl) (Nat.le_of_ble_eq_true rfl) ⟨Nat.zero_le _, Nat.zero_le _⟩ rfl (Nat.le_of_ble_eq_true rfl) dX1_change_22 ?_
    refine b_ifeq (w := (isIn d 0 ((nI (dk μ a)) - 1))) (tgt := 48) hx hb dX1_change_25 (by decide) (fun c_25 => ?_) (fun c_25 => ?_)
    · refine lv_aload_n hx hb dX1_change_48 rfl (lv_at hl 0 rfl) ?_
      refine lv_bipush (v := (-2)) hx hb dX1_change_49 (by decide) ?_
      refine w_MC (As := [.int (-2)]) hC hM hS (fun _ h => h) hml hl.1 (k_X1_refuse l D tc mo (setS μ 1 0) (-2)) q566 q568 qs9 q24 q569 rfl ⟨rfl, by decide, by decide, rfl⟩ (Nat.le_of_ble_eq_true rfl) (Nat.le_of_ble_eq_true rfl) ⟨Nat.zero_le _, Nat.zero_le _⟩ rfl (Nat.le_of_ble_eq_true rfl) dX1_change_51 (fun H locs hM hS _ _ => ?_)
      exact md_iret hC hr hlk hM hS (by rw [p_change_bad (μ := μ) (by first | (rw [isDesk_f (μ := μ) c_9]; rfl) | (rw [isDesk_nat (μ := μ) (by omega), (hW.2.2.1 a (by omega)).1, show isIn d 0 (nI (dk μ a) - 1) = false from c_25]; rfl) | (rw [show isIn g 0 4 = false from c_45]; simp; done) | (rw [show isIn f 0 13 = false from c_35]; simp; done))]; first | done | rfl) (by rw [p_change_bad (μ := μ) (by first | (rw [isDesk_f (μ := μ) c_9]; rfl) | (rw [isDesk_nat (μ := μ) (by omega), (hW.2.2.1 a (by omega)).1, show isIn d 0 (nI (dk μ a) - 1) = false from c_25]; rfl) | (rw [show isIn g 0 4 = false from c_45]; simp; done) | (rw [show isIn f 0 13 = false from c_35]; simp; done))]; first | done | rfl) dX1_change_54
    · refine lv_iload_n hx hb dX1_change_28 rfl (lv_at hl 3 rfl) ?_
      refine lv_iconst (v := 0) hx hb dX1_change_29 (by decide) ?_
      refine lv_bipush (v := 13) hx hb dX1_change_30 (by decide) ?_
      refine w_SC (As := [.int f, .int 0, .int 13]) hx hb hts hown hml hl.1 (k_X1_isIn l f 0 13) q560 q561 q24 q562 rfl ⟨by decide, by decide, rfl⟩ (Nat.le_of_ble_eq_true rfl) (Nat.le_of_ble_eq_true rfl) ⟨Nat.zero_le _, Nat.zero_le _⟩ rfl (Nat.le_of_ble_eq_true rfl) dX1_change_32 ?_
      refine b_ifeq (w := (isIn f 0 13)) (tgt := 48) hx hb dX1_change_35 (by decide) (fun c_35 => ?_) (fun c_35 => ?_)
      · refine lv_aload_n hx hb dX1_change_48 rfl (lv_at hl 0 rfl) ?_
        refine lv_bipush (v := (-2)) hx hb dX1_change_49 (by decide) ?_
        refine w_MC (As := [.int (-2)]) hC hM hS (fun _ h => h) hml hl.1 (k_X1_refuse l D tc mo (setS μ 1 0) (-2)) q566 q568 qs9 q24 q569 rfl ⟨rfl, by decide, by decide, rfl⟩ (Nat.le_of_ble_eq_true rfl) (Nat.le_of_ble_eq_true rfl) ⟨Nat.zero_le _, Nat.zero_le _⟩ rfl (Nat.le_of_ble_eq_true rfl) dX1_change_51 (fun H locs hM hS _ _ => ?_)
        exact md_iret hC hr hlk hM hS (by rw [p_change_bad (μ := μ) (by first | (rw [isDesk_f (μ := μ) c_9]; rfl) | (rw [isDesk_nat (μ := μ) (by omega), (hW.2.2.1 a (by omega)).1, show isIn d 0 (nI (dk μ a) - 1) = false from c_25]; rfl) | (rw [show isIn g 0 4 = false from c_45]; simp; done) | (rw [show isIn f 0 13 = false from c_35]; simp; done))]; first | done | rfl) (by rw [p_change_bad (μ := μ) (by first | (rw [isDesk_f (μ := μ) c_9]; rfl) | (rw [isDesk_nat (μ := μ) (by omega), (hW.2.2.1 a (by omega)).1, show isIn d 0 (nI (dk μ a) - 1) = false from c_25]; rfl) | (rw [show isIn g 0 4 = false from c_45]; simp; done) | (rw [show isIn f 0 13 = false from c_35]; simp; done))]; first | done | rfl) dX1_change_54
      · refine lv_iload hx hb dX1_change_38 (lv_at hl 4 rfl) ?_
        refine lv_iconst (v := 0) hx hb dX1_change_40 (by decide) ?_
        refine lv_iconst (v := 4) hx hb dX1_change_41 (by decide) ?_
        refine w_SC (As := [.int g, .int 0, .int 4]) hx hb hts hown hml hl.1 (k_X1_isIn l g 0 4) q560 q561 q24 q562 rfl ⟨by decide, by decide, rfl⟩ (Nat.le_of_ble_eq_true rfl) (Nat.le_of_ble_eq_true rfl) ⟨Nat.zero_le _, Nat.zero_le _⟩ rfl (Nat.le_of_ble_eq_true rfl) dX1_change_42 ?_
        refine b_ifne (w := (isIn g 0 4)) (tgt := 55) hx hb dX1_change_45 (by decide) (fun c_45 => ?_) (fun c_45 => ?_)
        · obtain ⟨b, qb, rfl⟩ := isIn_pred (n := dk μ a) (by omega) c_25
          have hdk : isDesk μ (nI a) (nI b) = true := by rw [isDesk_nat (by omega), (hW.2.2.1 a (by omega)).1]; exact isIn_pred_of (by omega) (by omega)
          refine lv_aload_n hx hb dX1_change_55 rfl (lv_at hl 0 rfl) ?_
          refine lv_iconst (v := 4) hx hb dX1_change_56 (by decide) ?_
          refine lv_iload_n hx hb dX1_change_57 rfl (lv_at hl 1 rfl) ?_
          refine lv_imul hx hb dX1_change_58 ?_
          refine w_top (congrArg Value.int (pk_mul 4 a)) ?_
          refine lv_iload_n hx hb dX1_change_59 rfl (lv_at hl 2 rfl) ?_
          refine lv_iadd hx hb dX1_change_60 ?_
          refine w_top (congrArg Value.int (nI_add (4 * a) b)) ?_
          refine lv_iload_n hx hb dX1_change_61 rfl (lv_at hl 3 rfl) ?_
          refine lv_iload hx hb dX1_change_62 (lv_at hl 4 rfl) ?_
          refine lv_iload hx hb dX1_change_64 (lv_at hl 5 rfl) ?_
          refine w_MC (As := [.int (nI ((4 * a) + b)), .int f, .int g, .int (bI z)]) hC hM hS (fun _ h => h) hml hl.1 (k_X1_settle l D tc mo (setS μ 1 0) ((4 * a) + b) f g z (by omega)) q631 q633 qs12 q24 q634 rfl ⟨rfl, by decide, by decide, rfl⟩ (Nat.le_of_ble_eq_true rfl) (Nat.le_of_ble_eq_true rfl) ⟨Nat.zero_le _, Nat.zero_le _⟩ rfl (Nat.le_of_ble_eq_true rfl) dX1_change_66 (fun H locs hM hS _ _ => ?_)
          refine lv_iconst (v := 1) hx hb dX1_change_69 (by decide) ?_
          exact md_iret hC hr hlk hM hS (by rw [p_change_ok (μ := μ) (by omega) (by omega) (by rw [hdk, c_35, c_45]; rfl)]; first | done | rfl) (by rw [p_change_ok (μ := μ) (by omega) (by omega) (by rw [hdk, c_35, c_45]; rfl)]; first | done | rfl) dX1_change_70
        · refine lv_aload_n hx hb dX1_change_48 rfl (lv_at hl 0 rfl) ?_
          refine lv_bipush (v := (-2)) hx hb dX1_change_49 (by decide) ?_
          refine w_MC (As := [.int (-2)]) hC hM hS (fun _ h => h) hml hl.1 (k_X1_refuse l D tc mo (setS μ 1 0) (-2)) q566 q568 qs9 q24 q569 rfl ⟨rfl, by decide, by decide, rfl⟩ (Nat.le_of_ble_eq_true rfl) (Nat.le_of_ble_eq_true rfl) ⟨Nat.zero_le _, Nat.zero_le _⟩ rfl (Nat.le_of_ble_eq_true rfl) dX1_change_51 (fun H locs hM hS _ _ => ?_)
          exact md_iret hC hr hlk hM hS (by rw [p_change_bad (μ := μ) (by first | (rw [isDesk_f (μ := μ) c_9]; rfl) | (rw [isDesk_nat (μ := μ) (by omega), (hW.2.2.1 a (by omega)).1, show isIn d 0 (nI (dk μ a) - 1) = false from c_25]; rfl) | (rw [show isIn g 0 4 = false from c_45]; simp; done) | (rw [show isIn f 0 13 = false from c_35]; simp; done))]; first | done | rfl) (by rw [p_change_bad (μ := μ) (by first | (rw [isDesk_f (μ := μ) c_9]; rfl) | (rw [isDesk_nat (μ := μ) (by omega), (hW.2.2.1 a (by omega)).1, show isIn d 0 (nI (dk μ a) - 1) = false from c_25]; rfl) | (rw [show isIn g 0 4 = false from c_45]; simp; done) | (rw [show isIn f 0 13 = false from c_35]; simp; done))]; first | done | rfl) dX1_change_54
theorem k_X1_desk (l : Launch) (D : va_G) (tc : Nat → ClassId) (mo : Nat) (μ : MS) (hW : WF μ) (r f g : Int32) (z : Bool) : MC l yX1_desk cX1_desk 6 (some .int) 2 42 D tc mo [.int r, .int f, .int g, .int (bI z)] μ ((p_desk μ r f g z).1) (some (.int ((p_desk μ r f g z).2))) := by
  refine MC.of (by decide) rfl (Nat.le_of_ble_eq_true rfl) ?_
  intro p e s m below meth c hC hr hlk hml hM hS ls hl
  have hx := hC.1
  have hb := hC.2.1
  have hts := hC.2.2.1
  have hown := hC.2.2.2.1
  have hl : lv_has ls 6 [(0, .ref mo), (1, .int r), (2, .int f), (3, .int g), (4, .int (bI z))] := hl
  refine lv_aload_n hx hb dX1_desk_0 rfl (lv_at hl 0 rfl) ?_
  refine lv_iconst (v := 0) hx hb dX1_desk_1 (by decide) ?_
  refine md_put hC hM hS 1 (by decide) q488 dX1_desk_2 (fun H locs hM hS => ?_)
  refine lv_iload_n hx hb dX1_desk_5 rfl (lv_at hl 1 rfl) ?_
  refine w_SC (As := [.int r]) hx hb hts hown hml hl.1 (k_X1_isRoom l r) q628 q629 q24 q630 rfl ⟨by decide, by decide, rfl⟩ (Nat.le_of_ble_eq_true rfl) (Nat.le_of_ble_eq_true rfl) ⟨Nat.zero_le _, Nat.zero_le _⟩ rfl (Nat.le_of_ble_eq_true rfl) dX1_desk_6 ?_
  refine b_ifeq (w := (isIn r 0 7)) (tgt := 31) hx hb dX1_desk_9 (by decide) (fun c_9 => ?_) (fun c_9 => ?_)
  · refine lv_aload_n hx hb dX1_desk_31 rfl (lv_at hl 0 rfl) ?_
    refine lv_bipush (v := (-2)) hx hb dX1_desk_32 (by decide) ?_
    refine w_MC (As := [.int (-2)]) hC hM hS (fun _ h => h) hml hl.1 (k_X1_refuse l D tc mo (setS μ 1 0) (-2)) q566 q568 qs9 q24 q569 rfl ⟨rfl, by decide, by decide, rfl⟩ (Nat.le_of_ble_eq_true rfl) (Nat.le_of_ble_eq_true rfl) ⟨Nat.zero_le _, Nat.zero_le _⟩ rfl (Nat.le_of_ble_eq_true rfl) dX1_desk_34 (fun H locs hM hS _ _ => ?_)
    exact md_iret hC hr hlk hM hS (by rw [p_desk_bad (μ := μ) (by first | (rw [show isIn r 0 7 = false from c_9]; rfl) | (rw [show isIn f 0 13 = false from c_19]; simp) | (rw [show isIn g 0 4 = false from c_28]; simp))]; first | done | rfl) (by rw [p_desk_bad (μ := μ) (by first | (rw [show isIn r 0 7 = false from c_9]; rfl) | (rw [show isIn f 0 13 = false from c_19]; simp) | (rw [show isIn g 0 4 = false from c_28]; simp))]; first | done | rfl) dX1_desk_37
  · obtain ⟨a, qa, rfl⟩ := isIn_nat (n := 7) (by decide) c_9
    have hd_a := (hW.2.2.1 a (by omega)).2
    refine lv_iload_n hx hb dX1_desk_12 rfl (lv_at hl 2 rfl) ?_
    refine lv_iconst (v := 0) hx hb dX1_desk_13 (by decide) ?_
    refine lv_bipush (v := 13) hx hb dX1_desk_14 (by decide) ?_
    refine w_SC (As := [.int f, .int 0, .int 13]) hx hb hts hown hml hl.1 (k_X1_isIn l f 0 13) q560 q561 q24 q562 rfl ⟨by decide, by decide, rfl⟩ (Nat.le_of_ble_eq_true rfl) (Nat.le_of_ble_eq_true rfl) ⟨Nat.zero_le _, Nat.zero_le _⟩ rfl (Nat.le_of_ble_eq_true rfl) dX1_desk_16 ?_
    refine b_ifeq (w := (isIn f 0 13)) (tgt := 31) hx hb dX1_desk_19 (by decide) (fun c_19 => ?_) (fun c_19 => ?_)
    · refine lv_aload_n hx hb dX1_desk_31 rfl (lv_at hl 0 rfl) ?_
      refine lv_bipush (v := (-2)) hx hb dX1_desk_32 (by decide) ?_
      refine w_MC (As := [.int (-2)]) hC hM hS (fun _ h => h) hml hl.1 (k_X1_refuse l D tc mo (setS μ 1 0) (-2)) q566 q568 qs9 q24 q569 rfl ⟨rfl, by decide, by decide, rfl⟩ (Nat.le_of_ble_eq_true rfl) (Nat.le_of_ble_eq_true rfl) ⟨Nat.zero_le _, Nat.zero_le _⟩ rfl (Nat.le_of_ble_eq_true rfl) dX1_desk_34 (fun H locs hM hS _ _ => ?_)
      exact md_iret hC hr hlk hM hS (by rw [p_desk_bad (μ := μ) (by first | (rw [show isIn r 0 7 = false from c_9]; rfl) | (rw [show isIn f 0 13 = false from c_19]; simp) | (rw [show isIn g 0 4 = false from c_28]; simp))]; first | done | rfl) (by rw [p_desk_bad (μ := μ) (by first | (rw [show isIn r 0 7 = false from c_9]; rfl) | (rw [show isIn f 0 13 = false from c_19]; simp) | (rw [show isIn g 0 4 = false from c_28]; simp))]; first | done | rfl) dX1_desk_37
    · refine lv_iload_n hx hb dX1_desk_22 rfl (lv_at hl 3 rfl) ?_
      refine lv_iconst (v := 0) hx hb dX1_desk_23 (by decide) ?_
      refine lv_iconst (v := 4) hx hb dX1_desk_24 (by decide) ?_
      refine w_SC (As := [.int g, .int 0, .int 4]) hx hb hts hown hml hl.1 (k_X1_isIn l g 0 4) q560 q561 q24 q562 rfl ⟨by decide, by decide, rfl⟩ (Nat.le_of_ble_eq_true rfl) (Nat.le_of_ble_eq_true rfl) ⟨Nat.zero_le _, Nat.zero_le _⟩ rfl (Nat.le_of_ble_eq_true rfl) dX1_desk_25 ?_
      refine b_ifne (w := (isIn g 0 4)) (tgt := 38) hx hb dX1_desk_28 (by decide) (fun c_28 => ?_) (fun c_28 => ?_)
      · refine lv_aload_n hx hb dX1_desk_38 rfl (lv_at hl 0 rfl) ?_
        refine md_get (v := .ref (mo + 5)) hC hM 5 (by decide) rfl q478 rfl dX1_desk_39 ?_
        refine lv_iload_n hx hb dX1_desk_42 rfl (lv_at hl 1 rfl) ?_
        refine md_ald (v := (nI (dk μ a))) hC hM 3 (N := 8) rfl (by decide) rfl rfl a rfl (by omega) ((hW.2.2.1 a (by omega)).1) dX1_desk_43 ?_
        refine lv_iconst (v := 4) hx hb dX1_desk_44 (by decide) ?_
        refine n_icmp_ne (a := (dk μ a)) (b := 4) (tgt := 55) hx hb dX1_desk_45 (by decide) (by omega) (by omega) (fun c_45 => ?_) (fun c_45 => ?_)
        · refine lv_iconst (v := 4) hx hb dX1_desk_55 (by decide) ?_
          refine lv_iload_n hx hb dX1_desk_56 rfl (lv_at hl 1 rfl) ?_
          refine lv_imul hx hb dX1_desk_57 ?_
          refine w_top (congrArg Value.int (pk_mul 4 a)) ?_
          refine lv_aload_n hx hb dX1_desk_58 rfl (lv_at hl 0 rfl) ?_
          refine md_get (v := .ref (mo + 5)) hC hM 5 (by decide) rfl q478 rfl dX1_desk_59 ?_
          refine lv_iload_n hx hb dX1_desk_62 rfl (lv_at hl 1 rfl) ?_
          refine md_ald (v := (nI (dk μ a))) hC hM 3 (N := 8) rfl (by decide) rfl rfl a rfl (by omega) ((hW.2.2.1 a (by omega)).1) dX1_desk_63 ?_
          refine lv_iadd hx hb dX1_desk_64 ?_
          refine w_top (congrArg Value.int (nI_add (4 * a) (dk μ a))) ?_
          refine lv_istore (lv' := [(5, .int (nI ((4 * a) + (dk μ a)))), (0, .ref mo), (1, .int (nI a)), (2, .int f), (3, .int g), (4, .int (bI z))]) hx hb dX1_desk_65 hl (by decide) rfl (fun ls hl => ?_)
          refine lv_aload_n hx hb dX1_desk_67 rfl (lv_at hl 1 rfl) ?_
          refine lv_iload hx hb dX1_desk_68 (lv_at hl 0 rfl) ?_
          refine lv_iload_n hx hb dX1_desk_70 rfl (lv_at hl 3 rfl) ?_
          refine lv_iload_n hx hb dX1_desk_71 rfl (lv_at hl 4 rfl) ?_
          refine lv_iload hx hb dX1_desk_72 (lv_at hl 5 rfl) ?_
          refine w_MC (As := [.int (nI ((4 * a) + (dk μ a))), .int f, .int g, .int (bI z)]) hC hM hS (fun _ h => h) hml hl.1 (k_X1_settle l D tc mo (setS μ 1 0) ((4 * a) + (dk μ a)) f g z (by omega)) q631 q633 qs12 q24 q634 rfl ⟨rfl, by decide, by decide, rfl⟩ (Nat.le_of_ble_eq_true rfl) (Nat.le_of_ble_eq_true rfl) ⟨Nat.zero_le _, Nat.zero_le _⟩ rfl (Nat.le_of_ble_eq_true rfl) dX1_desk_74 (fun H locs hM hS _ _ => ?_)
          refine lv_aload_n hx hb dX1_desk_77 rfl (lv_at hl 1 rfl) ?_
          refine md_get (v := .ref (mo + 9)) hC hM 9 (by decide) rfl q482 rfl dX1_desk_78 ?_
          refine lv_iload hx hb dX1_desk_81 (lv_at hl 0 rfl) ?_
          refine lv_iconst (v := 0) hx hb dX1_desk_83 (by decide) ?_
          refine md_ast hC hM hS 7 (N := 32) rfl (by decide) rfl rfl ((4 * a) + (dk μ a)) rfl (by omega) dX1_desk_84 (fun H locs hM hS => ?_)
          refine lv_aload_n hx hb dX1_desk_85 rfl (lv_at hl 1 rfl) ?_
          refine md_get (v := .ref (mo + 10)) hC hM 10 (by decide) rfl q483 rfl dX1_desk_86 ?_
          refine lv_iload hx hb dX1_desk_89 (lv_at hl 0 rfl) ?_
          refine lv_iconst (v := (-1)) hx hb dX1_desk_91 (by decide) ?_
          refine md_ast hC hM hS 8 (N := 32) rfl (by decide) rfl rfl ((4 * a) + (dk μ a)) rfl (by omega) dX1_desk_92 (fun H locs hM hS => ?_)
          refine lv_aload_n hx hb dX1_desk_93 rfl (lv_at hl 1 rfl) ?_
          refine md_get (v := .ref (mo + 11)) hC hM 11 (by decide) rfl q484 rfl dX1_desk_94 ?_
          refine lv_iload hx hb dX1_desk_97 (lv_at hl 0 rfl) ?_
          refine lv_iconst (v := 0) hx hb dX1_desk_99 (by decide) ?_
          refine md_ast hC hM hS 9 (N := 32) rfl (by decide) rfl rfl ((4 * a) + (dk μ a)) rfl (by omega) dX1_desk_100 (fun H locs hM hS => ?_)
          refine lv_aload_n hx hb dX1_desk_101 rfl (lv_at hl 1 rfl) ?_
          refine md_get (v := .ref (mo + 12)) hC hM 12 (by decide) rfl q485 rfl dX1_desk_102 ?_
          refine lv_iload hx hb dX1_desk_105 (lv_at hl 0 rfl) ?_
          refine lv_iconst (v := 0) hx hb dX1_desk_107 (by decide) ?_
          refine md_ast hC hM hS 10 (N := 32) rfl (by decide) rfl rfl ((4 * a) + (dk μ a)) rfl (by omega) dX1_desk_108 (fun H locs hM hS => ?_)
          refine lv_aload_n hx hb dX1_desk_109 rfl (lv_at hl 1 rfl) ?_
          refine md_get (v := .ref (mo + 13)) hC hM 13 (by decide) rfl q486 rfl dX1_desk_110 ?_
          refine lv_iload hx hb dX1_desk_113 (lv_at hl 0 rfl) ?_
          refine lv_iconst (v := (-1)) hx hb dX1_desk_115 (by decide) ?_
          refine md_ast hC hM hS 11 (N := 32) rfl (by decide) rfl rfl ((4 * a) + (dk μ a)) rfl (by omega) dX1_desk_116 (fun H locs hM hS => ?_)
          refine lv_aload_n hx hb dX1_desk_117 rfl (lv_at hl 1 rfl) ?_
          refine md_get (v := .ref (mo + 5)) hC hM 5 (by decide) rfl q478 rfl dX1_desk_118 ?_
          refine lv_iload_n hx hb dX1_desk_121 rfl (lv_at hl 2 rfl) ?_
          refine lv_dup2_11 hx hb dX1_desk_122 rfl rfl ?_
          refine md_ald (v := (nI (dk μ a))) hC hM 3 (N := 8) rfl (by decide) rfl rfl a rfl (by omega) ((hW.2.2.1 a (by omega)).1) dX1_desk_123 ?_
          refine lv_iconst (v := 1) hx hb dX1_desk_124 (by decide) ?_
          refine lv_iadd hx hb dX1_desk_125 ?_
          refine w_top (congrArg Value.int (nI_add (dk μ a) 1)) ?_
          refine md_ast hC hM hS 3 (N := 8) rfl (by decide) rfl rfl a rfl (by omega) dX1_desk_126 (fun H locs hM hS => ?_)
          refine lv_aload_n hx hb dX1_desk_127 rfl (lv_at hl 1 rfl) ?_
          refine md_get (v := .ref (mo + 5)) hC hM 5 (by decide) rfl q478 rfl dX1_desk_128 ?_
          refine lv_iload_n hx hb dX1_desk_131 rfl (lv_at hl 2 rfl) ?_
          refine md_ald (v := (nI (dk μ a + 1))) hC hM 3 (N := 8) rfl (by decide) rfl rfl a rfl (by omega) (by simp [sA_setA]) dX1_desk_132 ?_
          refine lv_iconst (v := 1) hx hb dX1_desk_133 (by decide) ?_
          refine lv_isub hx hb dX1_desk_134 ?_
          refine w_top (congrArg Value.int (pk_sub (a := (dk μ a + 1)) (b := 1) (by omega))) ?_
          exact md_iret hC hr hlk hM hS (by rw [p_desk_ok (μ := μ) (by omega) (by rw [show isIn (nI a) 0 7 = true from isIn_of (n := 7) (k := a) (by omega) (by omega), c_19, c_28]; rfl) (by rw [(hW.2.2.1 a (by omega)).1]; exact fun q => c_45 ((nI_eq (b := 4) (by omega) (by omega)).mp q))]; first | done | rfl) (by rw [p_desk_ok (μ := μ) (by omega) (by rw [show isIn (nI a) 0 7 = true from isIn_of (n := 7) (k := a) (by omega) (by omega), c_19, c_28]; rfl) (by rw [(hW.2.2.1 a (by omega)).1]; exact fun q => c_45 ((nI_eq (b := 4) (by omega) (by omega)).mp q))]; first | done | rfl) dX1_desk_135
        · refine lv_aload_n hx hb dX1_desk_48 rfl (lv_at hl 0 rfl) ?_
          refine lv_bipush (v := (-3)) hx hb dX1_desk_49 (by decide) ?_
          refine w_MC (As := [.int (-3)]) hC hM hS (fun _ h => h) hml hl.1 (k_X1_refuse l D tc mo (setS μ 1 0) (-3)) q566 q568 qs9 q24 q569 rfl ⟨rfl, by decide, by decide, rfl⟩ (Nat.le_of_ble_eq_true rfl) (Nat.le_of_ble_eq_true rfl) ⟨Nat.zero_le _, Nat.zero_le _⟩ rfl (Nat.le_of_ble_eq_true rfl) dX1_desk_51 (fun H locs hM hS _ _ => ?_)
          exact md_iret hC hr hlk hM hS (by rw [p_desk_full (μ := μ) (by omega) (by rw [show isIn (nI a) 0 7 = true from isIn_of (n := 7) (k := a) (by omega) (by omega), c_19, c_28]; rfl) (by rw [(hW.2.2.1 a (by omega)).1, c_45]; rfl)]; first | done | rfl) (by rw [p_desk_full (μ := μ) (by omega) (by rw [show isIn (nI a) 0 7 = true from isIn_of (n := 7) (k := a) (by omega) (by omega), c_19, c_28]; rfl) (by rw [(hW.2.2.1 a (by omega)).1, c_45]; rfl)]; first | done | rfl) dX1_desk_54
      · refine lv_aload_n hx hb dX1_desk_31 rfl (lv_at hl 0 rfl) ?_
        refine lv_bipush (v := (-2)) hx hb dX1_desk_32 (by decide) ?_
        refine w_MC (As := [.int (-2)]) hC hM hS (fun _ h => h) hml hl.1 (k_X1_refuse l D tc mo (setS μ 1 0) (-2)) q566 q568 qs9 q24 q569 rfl ⟨rfl, by decide, by decide, rfl⟩ (Nat.le_of_ble_eq_true rfl) (Nat.le_of_ble_eq_true rfl) ⟨Nat.zero_le _, Nat.zero_le _⟩ rfl (Nat.le_of_ble_eq_true rfl) dX1_desk_34 (fun H locs hM hS _ _ => ?_)
        exact md_iret hC hr hlk hM hS (by rw [p_desk_bad (μ := μ) (by first | (rw [show isIn r 0 7 = false from c_9]; rfl) | (rw [show isIn f 0 13 = false from c_19]; simp) | (rw [show isIn g 0 4 = false from c_28]; simp))]; first | done | rfl) (by rw [p_desk_bad (μ := μ) (by first | (rw [show isIn r 0 7 = false from c_9]; rfl) | (rw [show isIn f 0 13 = false from c_19]; simp) | (rw [show isIn g 0 4 = false from c_28]; simp))]; first | done | rfl) dX1_desk_37
theorem k_X1_make (l : Launch) (D : va_G) (tc : Nat → ClassId) (mo : Nat) (μ : MS) (hW : WF μ) (kk n : Int32) : MC l yX1_make cX1_make 4 (some .int) 2 42 D tc mo [.int kk, .int n] μ ((p_make μ kk n).1) (some (.int ((p_make μ kk n).2))) := by
  refine MC.of (by decide) rfl (Nat.le_of_ble_eq_true rfl) ?_
  intro p e s m below meth c hC hr hlk hml hM hS ls hl
  have hx := hC.1
  have hb := hC.2.1
  have hts := hC.2.2.1
  have hown := hC.2.2.2.1
  have hl : lv_has ls 4 [(0, .ref mo), (1, .int kk), (2, .int n)] := hl
  refine lv_aload_n hx hb dX1_make_0 rfl (lv_at hl 0 rfl) ?_
  refine lv_iconst (v := 0) hx hb dX1_make_1 (by decide) ?_
  refine md_put hC hM hS 1 (by decide) q488 dX1_make_2 (fun H locs hM hS => ?_)
  refine lv_iload_n hx hb dX1_make_5 rfl (lv_at hl 1 rfl) ?_
  refine lv_iconst (v := 0) hx hb dX1_make_6 (by decide) ?_
  refine lv_bipush (v := 12) hx hb dX1_make_7 (by decide) ?_
  refine w_SC (As := [.int kk, .int 0, .int 12]) hx hb hts hown hml hl.1 (k_X1_isIn l kk 0 12) q560 q561 q24 q562 rfl ⟨by decide, by decide, rfl⟩ (Nat.le_of_ble_eq_true rfl) (Nat.le_of_ble_eq_true rfl) ⟨Nat.zero_le _, Nat.zero_le _⟩ rfl (Nat.le_of_ble_eq_true rfl) dX1_make_9 ?_
  refine b_ifeq (w := (isIn kk 0 12)) (tgt := 31) hx hb dX1_make_12 (by decide) (fun c_12 => ?_) (fun c_12 => ?_)
  · refine lv_aload_n hx hb dX1_make_31 rfl (lv_at hl 0 rfl) ?_
    refine lv_bipush (v := (-2)) hx hb dX1_make_32 (by decide) ?_
    refine w_MC (As := [.int (-2)]) hC hM hS (fun _ h => h) hml hl.1 (k_X1_refuse l D tc mo (setS μ 1 0) (-2)) q566 q568 qs9 q24 q569 rfl ⟨rfl, by decide, by decide, rfl⟩ (Nat.le_of_ble_eq_true rfl) (Nat.le_of_ble_eq_true rfl) ⟨Nat.zero_le _, Nat.zero_le _⟩ rfl (Nat.le_of_ble_eq_true rfl) dX1_make_34 (fun H locs hM hS _ _ => ?_)
    exact md_iret hC hr hlk hM hS (by rw [p_make_bad (μ := μ) (by first | (rw [show isIn kk 0 12 = false from c_12]; rfl) | (have h2 : isIn (nI k) 5 7 = oneN k := by {have h3 := isOne_eq (k := k) (by omega); cases h4 : isIn (nI k) 5 7 <;> cases h5 : oneN k <;> rw [h4, h5] at h3 <;> first | rfl | exact absurd h3 (by decide)}; rw [h2]; simp [*]))]; first | done | rfl) (by rw [p_make_bad (μ := μ) (by first | (rw [show isIn kk 0 12 = false from c_12]; rfl) | (have h2 : isIn (nI k) 5 7 = oneN k := by {have h3 := isOne_eq (k := k) (by omega); cases h4 : isIn (nI k) 5 7 <;> cases h5 : oneN k <;> rw [h4, h5] at h3 <;> first | rfl | exact absurd h3 (by decide)}; rw [h2]; simp [*]))]; first | done | rfl) dX1_make_37
  · obtain ⟨k, hk, rfl⟩ := isIn_nat (n := 12) (by decide) c_12
    refine lv_iload_n hx hb dX1_make_15 rfl (lv_at hl 1 rfl) ?_
    refine w_SC (As := [.int (nI k)]) hx hb hts hown hml hl.1 (k_X1_isOne l k (by omega)) q563 q564 q24 q565 rfl ⟨by decide, by decide, rfl⟩ (Nat.le_of_ble_eq_true rfl) (Nat.le_of_ble_eq_true rfl) ⟨Nat.zero_le _, Nat.zero_le _⟩ rfl (Nat.le_of_ble_eq_true rfl) dX1_make_16 ?_
    refine b_ifne (w := (oneN k)) (tgt := 38) hx hb dX1_make_19 (by decide) (fun c_19 => ?_) (fun c_19 => ?_)
    · have hall : (isIn (nI k) 0 12 && (isIn (nI k) 5 7 || isIn n 0 3)) = true := by
        have h1 : isIn (nI k) 0 12 = true := isIn_of (n := 12) (by omega) (by omega)
        have h2 : isIn (nI k) 5 7 = oneN k := by have h3 := isOne_eq (k := k) (by omega); cases h4 : isIn (nI k) 5 7 <;> cases h5 : oneN k <;> rw [h4, h5] at h3 <;> first | rfl | exact absurd h3 (by decide)
        rw [h1, h2]; simp [*]
      refine lv_aload_n hx hb dX1_make_38 rfl (lv_at hl 0 rfl) ?_
      refine md_get (v := .int (sS (setS μ 1 0) 0)) hC hM 0 (by decide) rfl q473 rfl dX1_make_39 ?_
      refine lv_bipush (v := 60) hx hb dX1_make_42 (by decide) ?_
      refine lv_icmp_ne (tgt := 54) hx hb dX1_make_44 (by decide) (fun c_44 => ?_) (fun c_44 => ?_)
      · have hlt : nn μ < 60 := by
          have h1 := hW.1.2
          have h2 : nn μ ≠ 60 := fun q => c_44 (by show sS μ 0 = 60; rw [hW.1.1, q]; rfl)
          omega
        refine lv_aload_n hx hb dX1_make_54 rfl (lv_at hl 0 rfl) ?_
        refine md_get (v := .ref (mo + 1)) hC hM 1 (by decide) rfl q474 rfl dX1_make_55 ?_
        refine lv_aload_n hx hb dX1_make_58 rfl (lv_at hl 0 rfl) ?_
        refine md_get (v := .int (sS (setS μ 1 0) 0)) hC hM 0 (by decide) rfl q473 rfl dX1_make_59 ?_
        refine w_top (congrArg Value.int (show sS _ 0 = nI (nn μ) from hW.1.1)) ?_
        refine lv_iload_n hx hb dX1_make_62 rfl (lv_at hl 1 rfl) ?_
        refine md_ast hC hM hS 0 (N := 60) rfl (by decide) rfl rfl (nn μ) rfl (by omega) dX1_make_63 (fun H locs hM hS => ?_)
        refine lv_aload_n hx hb dX1_make_64 rfl (lv_at hl 0 rfl) ?_
        refine md_get (v := .ref (mo + 2)) hC hM 2 (by decide) rfl q475 rfl dX1_make_65 ?_
        refine lv_aload_n hx hb dX1_make_68 rfl (lv_at hl 0 rfl) ?_
        refine md_get (v := .int (sS (setA (setS μ 1 0) 0 (nn μ) (nI k)) 0)) hC hM 0 (by decide) rfl q473 rfl dX1_make_69 ?_
        refine w_top (congrArg Value.int (show sS _ 0 = nI (nn μ) from hW.1.1)) ?_
        refine lv_iload_n hx hb dX1_make_72 rfl (lv_at hl 1 rfl) ?_
        refine w_SC (As := [.int (nI k)]) hx hb hts hown hml hl.1 (k_X1_isOne l k (by omega)) q563 q564 q24 q565 rfl ⟨by decide, by decide, rfl⟩ (Nat.le_of_ble_eq_true rfl) (Nat.le_of_ble_eq_true rfl) ⟨Nat.zero_le _, Nat.zero_le _⟩ rfl (Nat.le_of_ble_eq_true rfl) dX1_make_73 ?_
        refine b_ifeq (w := (oneN k)) (tgt := 83) hx hb dX1_make_76 (by decide) (fun h => absurd (h.symm.trans c_19) (by decide)) (fun _ => ?_)
        refine lv_iconst (v := 0) hx hb dX1_make_79 (by decide) ?_
        refine lv_goto (tgt := 84) hx hb dX1_make_80 (by decide) ?_
        refine md_ast hC hM hS 1 (N := 60) rfl (by decide) rfl rfl (nn μ) rfl (by omega) dX1_make_84 (fun H locs hM hS => ?_)
        refine lv_aload_n hx hb dX1_make_85 rfl (lv_at hl 0 rfl) ?_
        refine md_get (v := .ref (mo + 3)) hC hM 3 (by decide) rfl q476 rfl dX1_make_86 ?_
        refine lv_aload_n hx hb dX1_make_89 rfl (lv_at hl 0 rfl) ?_
        refine md_get (v := .int (sS (setA (setA (setS μ 1 0) 0 (nn μ) (nI k)) 1 (nn μ) 0) 0)) hC hM 0 (by decide) rfl q473 rfl dX1_make_90 ?_
        refine w_top (congrArg Value.int (show sS _ 0 = nI (nn μ) from hW.1.1)) ?_
        refine lv_iconst (v := 0) hx hb dX1_make_93 (by decide) ?_
        refine md_ast hC hM hS 2 (N := 60) rfl (by decide) rfl rfl (nn μ) rfl (by omega) dX1_make_94 (fun H locs hM hS => ?_)
        refine lv_iconst (v := 0) hx hb dX1_make_95 (by decide) ?_
        refine lv_istore_n (lv' := [(3, .int 0), (0, .ref mo), (1, .int (nI k)), (2, .int n)]) hx hb dX1_make_96 rfl hl (by decide) rfl (fun ls hl => ?_)
        refine lv_iload_n hx hb dX1_make_97 rfl (lv_at hl 0 rfl) ?_
        refine lv_iconst (v := 3) hx hb dX1_make_98 (by decide) ?_
        refine lv_icmp_ge (tgt := 135) hx hb dX1_make_99 (by decide) (fun h => absurd h (by decide)) (fun _ => ?_)
        refine lv_aload_n hx hb dX1_make_102 rfl (lv_at hl 1 rfl) ?_
        refine md_get (v := .ref (mo + 4)) hC hM 4 (by decide) rfl q477 rfl dX1_make_103 ?_
        refine lv_iconst (v := 3) hx hb dX1_make_106 (by decide) ?_
        refine lv_aload_n hx hb dX1_make_107 rfl (lv_at hl 1 rfl) ?_
        refine md_get (v := .int (sS (setA (setA (setA (setS μ 1 0) 0 (nn μ) (nI k)) 1 (nn μ) 0) 2 (nn μ) 0) 0)) hC hM 0 (by decide) rfl q473 rfl dX1_make_108 ?_
        refine w_top (congrArg Value.int (show sS _ 0 = nI (nn μ) from hW.1.1)) ?_
        refine lv_imul hx hb dX1_make_111 ?_
        refine w_top (congrArg Value.int (pk_mul 3 (nn μ))) ?_
        refine lv_iload_n hx hb dX1_make_112 rfl (lv_at hl 0 rfl) ?_
        refine lv_iadd hx hb dX1_make_113 ?_
        refine w_top (congrArg Value.int (nI_add (3 * (nn μ)) 0)) ?_
        refine lv_iload_n hx hb dX1_make_114 rfl (lv_at hl 2 rfl) ?_
        refine w_SC (As := [.int (nI k)]) hx hb hts hown hml hl.1 (k_X1_isOfThings l k (by omega)) q570 q571 q24 q572 rfl ⟨by decide, by decide, rfl⟩ (Nat.le_of_ble_eq_true rfl) (Nat.le_of_ble_eq_true rfl) ⟨Nat.zero_le _, Nat.zero_le _⟩ rfl (Nat.le_of_ble_eq_true rfl) dX1_make_115 ?_
        refine b_ifeq (w := (thgN k)) (tgt := 127) hx hb dX1_make_118 (by decide) (fun c_118 => ?_) (fun c_118 => ?_)
        · refine lv_lconst (v := 0) hx hb dX1_make_127 (by decide) ?_
          refine md_last hC hM hS rfl ((3 * (nn μ)) + 0) rfl (by omega) dX1_make_128 (fun H locs hM hS => ?_)
          refine lv_iinc (v := 1) (lv' := [(3, .int 1), (0, .ref mo), (1, .int (nI k)), (2, .int n)]) hx hb dX1_make_129 hl (k := 0) rfl (by decide) (by decide) rfl (fun ls hl => ?_)
          refine lv_goto (tgt := 97) hx hb dX1_make_132 (by decide) ?_
          refine lv_iload_n hx hb dX1_make_97 rfl (lv_at hl 0 rfl) ?_
          refine lv_iconst (v := 3) hx hb dX1_make_98 (by decide) ?_
          refine lv_icmp_ge (tgt := 135) hx hb dX1_make_99 (by decide) (fun h => absurd h (by decide)) (fun _ => ?_)
          refine lv_aload_n hx hb dX1_make_102 rfl (lv_at hl 1 rfl) ?_
          refine md_get (v := .ref (mo + 4)) hC hM 4 (by decide) rfl q477 rfl dX1_make_103 ?_
          refine lv_iconst (v := 3) hx hb dX1_make_106 (by decide) ?_
          refine lv_aload_n hx hb dX1_make_107 rfl (lv_at hl 1 rfl) ?_
          refine md_get (v := .int (sS (setC (setA (setA (setA (setS μ 1 0) 0 (nn μ) (nI k)) 1 (nn μ) 0) 2 (nn μ) 0) ((3 * (nn μ)) + 0) 0) 0)) hC hM 0 (by decide) rfl q473 rfl dX1_make_108 ?_
          refine w_top (congrArg Value.int (show sS _ 0 = nI (nn μ) from hW.1.1)) ?_
          refine lv_imul hx hb dX1_make_111 ?_
          refine w_top (congrArg Value.int (pk_mul 3 (nn μ))) ?_
          refine lv_iload_n hx hb dX1_make_112 rfl (lv_at hl 0 rfl) ?_
          refine lv_iadd hx hb dX1_make_113 ?_
          refine w_top (congrArg Value.int (nI_add (3 * (nn μ)) 1)) ?_
          refine lv_iload_n hx hb dX1_make_114 rfl (lv_at hl 2 rfl) ?_
          refine w_SC (As := [.int (nI k)]) hx hb hts hown hml hl.1 (k_X1_isOfThings l k (by omega)) q570 q571 q24 q572 rfl ⟨by decide, by decide, rfl⟩ (Nat.le_of_ble_eq_true rfl) (Nat.le_of_ble_eq_true rfl) ⟨Nat.zero_le _, Nat.zero_le _⟩ rfl (Nat.le_of_ble_eq_true rfl) dX1_make_115 ?_
          refine b_ifeq (w := (thgN k)) (tgt := 127) hx hb dX1_make_118 (by decide) (fun _ => ?_) (fun h => absurd (h.symm.trans c_118) (by decide))
          refine lv_lconst (v := 0) hx hb dX1_make_127 (by decide) ?_
          refine md_last hC hM hS rfl ((3 * (nn μ)) + 1) rfl (by omega) dX1_make_128 (fun H locs hM hS => ?_)
          refine lv_iinc (v := 2) (lv' := [(3, .int 2), (0, .ref mo), (1, .int (nI k)), (2, .int n)]) hx hb dX1_make_129 hl (k := 0) rfl (by decide) (by decide) rfl (fun ls hl => ?_)
          refine lv_goto (tgt := 97) hx hb dX1_make_132 (by decide) ?_
          refine lv_iload_n hx hb dX1_make_97 rfl (lv_at hl 0 rfl) ?_
          refine lv_iconst (v := 3) hx hb dX1_make_98 (by decide) ?_
          refine lv_icmp_ge (tgt := 135) hx hb dX1_make_99 (by decide) (fun h => absurd h (by decide)) (fun _ => ?_)
          refine lv_aload_n hx hb dX1_make_102 rfl (lv_at hl 1 rfl) ?_
          refine md_get (v := .ref (mo + 4)) hC hM 4 (by decide) rfl q477 rfl dX1_make_103 ?_
          refine lv_iconst (v := 3) hx hb dX1_make_106 (by decide) ?_
          refine lv_aload_n hx hb dX1_make_107 rfl (lv_at hl 1 rfl) ?_
          refine md_get (v := .int (sS (setC (setC (setA (setA (setA (setS μ 1 0) 0 (nn μ) (nI k)) 1 (nn μ) 0) 2 (nn μ) 0) ((3 * (nn μ)) + 0) 0) ((3 * (nn μ)) + 1) 0) 0)) hC hM 0 (by decide) rfl q473 rfl dX1_make_108 ?_
          refine w_top (congrArg Value.int (show sS _ 0 = nI (nn μ) from hW.1.1)) ?_
          refine lv_imul hx hb dX1_make_111 ?_
          refine w_top (congrArg Value.int (pk_mul 3 (nn μ))) ?_
          refine lv_iload_n hx hb dX1_make_112 rfl (lv_at hl 0 rfl) ?_
          refine lv_iadd hx hb dX1_make_113 ?_
          refine w_top (congrArg Value.int (nI_add (3 * (nn μ)) 2)) ?_
          refine lv_iload_n hx hb dX1_make_114 rfl (lv_at hl 2 rfl) ?_
          refine w_SC (As := [.int (nI k)]) hx hb hts hown hml hl.1 (k_X1_isOfThings l k (by omega)) q570 q571 q24 q572 rfl ⟨by decide, by decide, rfl⟩ (Nat.le_of_ble_eq_true rfl) (Nat.le_of_ble_eq_true rfl) ⟨Nat.zero_le _, Nat.zero_le _⟩ rfl (Nat.le_of_ble_eq_true rfl) dX1_make_115 ?_
          refine b_ifeq (w := (thgN k)) (tgt := 127) hx hb dX1_make_118 (by decide) (fun _ => ?_) (fun h => absurd (h.symm.trans c_118) (by decide))
          refine lv_lconst (v := 0) hx hb dX1_make_127 (by decide) ?_
          refine md_last hC hM hS rfl ((3 * (nn μ)) + 2) rfl (by omega) dX1_make_128 (fun H locs hM hS => ?_)
          refine lv_iinc (v := 3) (lv' := [(3, .int 3), (0, .ref mo), (1, .int (nI k)), (2, .int n)]) hx hb dX1_make_129 hl (k := 0) rfl (by decide) (by decide) rfl (fun ls hl => ?_)
          refine lv_goto (tgt := 97) hx hb dX1_make_132 (by decide) ?_
          refine lv_iload_n hx hb dX1_make_97 rfl (lv_at hl 0 rfl) ?_
          refine lv_iconst (v := 3) hx hb dX1_make_98 (by decide) ?_
          refine lv_icmp_ge (tgt := 135) hx hb dX1_make_99 (by decide) (fun _ => ?_) (fun h => absurd h (by decide))
          refine lv_aload_n hx hb dX1_make_135 rfl (lv_at hl 1 rfl) ?_
          refine lv_dup hx hb dX1_make_136 rfl ?_
          refine md_get (v := .int (sS (setC (setC (setC (setA (setA (setA (setS μ 1 0) 0 (nn μ) (nI k)) 1 (nn μ) 0) 2 (nn μ) 0) ((3 * (nn μ)) + 0) 0) ((3 * (nn μ)) + 1) 0) ((3 * (nn μ)) + 2) 0) 0)) hC hM 0 (by decide) rfl q473 rfl dX1_make_137 ?_
          refine w_top (congrArg Value.int (show sS _ 0 = nI (nn μ) from hW.1.1)) ?_
          refine lv_iconst (v := 1) hx hb dX1_make_140 (by decide) ?_
          refine lv_iadd hx hb dX1_make_141 ?_
          refine w_top (congrArg Value.int (nI_add (nn μ) 1)) ?_
          refine md_put hC hM hS 0 (by decide) q473 dX1_make_142 (fun H locs hM hS => ?_)
          refine lv_aload_n hx hb dX1_make_145 rfl (lv_at hl 1 rfl) ?_
          refine md_get (v := .int (sS (setS (setC (setC (setC (setA (setA (setA (setS μ 1 0) 0 (nn μ) (nI k)) 1 (nn μ) 0) 2 (nn μ) 0) ((3 * (nn μ)) + 0) 0) ((3 * (nn μ)) + 1) 0) ((3 * (nn μ)) + 2) 0) 0 (nI ((nn μ) + 1))) 0)) hC hM 0 (by decide) rfl q473 rfl dX1_make_146 ?_
          refine w_top (congrArg Value.int (rfl)) ?_
          refine lv_iconst (v := 1) hx hb dX1_make_149 (by decide) ?_
          refine lv_isub hx hb dX1_make_150 ?_
          refine w_top (congrArg Value.int (pk_sub (a := (nn μ + 1)) (b := 1) (by omega))) ?_
          exact md_iret hC hr hlk hM hS (by rw [p_make_ok (μ := μ) (by omega) hall c_44]; simp only [*, if_true, if_false, Bool.false_eq_true]; first | done | rfl) (by rw [p_make_ok (μ := μ) (by omega) hall c_44]; simp only [*, if_true, if_false, Bool.false_eq_true]; first | done | rfl) dX1_make_151
        · refine lv_ldc2 (v := (-1)) hx hb hown (hts _ q573) dX1_make_121 ?_
          refine lv_goto (tgt := 128) hx hb dX1_make_124 (by decide) ?_
          refine md_last hC hM hS rfl ((3 * (nn μ)) + 0) rfl (by omega) dX1_make_128 (fun H locs hM hS => ?_)
          refine lv_iinc (v := 1) (lv' := [(3, .int 1), (0, .ref mo), (1, .int (nI k)), (2, .int n)]) hx hb dX1_make_129 hl (k := 0) rfl (by decide) (by decide) rfl (fun ls hl => ?_)
          refine lv_goto (tgt := 97) hx hb dX1_make_132 (by decide) ?_
          refine lv_iload_n hx hb dX1_make_97 rfl (lv_at hl 0 rfl) ?_
          refine lv_iconst (v := 3) hx hb dX1_make_98 (by decide) ?_
          refine lv_icmp_ge (tgt := 135) hx hb dX1_make_99 (by decide) (fun h => absurd h (by decide)) (fun _ => ?_)
          refine lv_aload_n hx hb dX1_make_102 rfl (lv_at hl 1 rfl) ?_
          refine md_get (v := .ref (mo + 4)) hC hM 4 (by decide) rfl q477 rfl dX1_make_103 ?_
          refine lv_iconst (v := 3) hx hb dX1_make_106 (by decide) ?_
          refine lv_aload_n hx hb dX1_make_107 rfl (lv_at hl 1 rfl) ?_
          refine md_get (v := .int (sS (setC (setA (setA (setA (setS μ 1 0) 0 (nn μ) (nI k)) 1 (nn μ) 0) 2 (nn μ) 0) ((3 * (nn μ)) + 0) (-1)) 0)) hC hM 0 (by decide) rfl q473 rfl dX1_make_108 ?_
          refine w_top (congrArg Value.int (show sS _ 0 = nI (nn μ) from hW.1.1)) ?_
          refine lv_imul hx hb dX1_make_111 ?_
          refine w_top (congrArg Value.int (pk_mul 3 (nn μ))) ?_
          refine lv_iload_n hx hb dX1_make_112 rfl (lv_at hl 0 rfl) ?_
          refine lv_iadd hx hb dX1_make_113 ?_
          refine w_top (congrArg Value.int (nI_add (3 * (nn μ)) 1)) ?_
          refine lv_iload_n hx hb dX1_make_114 rfl (lv_at hl 2 rfl) ?_
          refine w_SC (As := [.int (nI k)]) hx hb hts hown hml hl.1 (k_X1_isOfThings l k (by omega)) q570 q571 q24 q572 rfl ⟨by decide, by decide, rfl⟩ (Nat.le_of_ble_eq_true rfl) (Nat.le_of_ble_eq_true rfl) ⟨Nat.zero_le _, Nat.zero_le _⟩ rfl (Nat.le_of_ble_eq_true rfl) dX1_make_115 ?_
          refine b_ifeq (w := (thgN k)) (tgt := 127) hx hb dX1_make_118 (by decide) (fun h => absurd (h.symm.trans c_118) (by decide)) (fun _ => ?_)
          refine lv_ldc2 (v := (-1)) hx hb hown (hts _ q573) dX1_make_121 ?_
          refine lv_goto (tgt := 128) hx hb dX1_make_124 (by decide) ?_
          refine md_last hC hM hS rfl ((3 * (nn μ)) + 1) rfl (by omega) dX1_make_128 (fun H locs hM hS => ?_)
          refine lv_iinc (v := 2) (lv' := [(3, .int 2), (0, .ref mo), (1, .int (nI k)), (2, .int n)]) hx hb dX1_make_129 hl (k := 0) rfl (by decide) (by decide) rfl (fun ls hl => ?_)
          refine lv_goto (tgt := 97) hx hb dX1_make_132 (by decide) ?_
          refine lv_iload_n hx hb dX1_make_97 rfl (lv_at hl 0 rfl) ?_
          refine lv_iconst (v := 3) hx hb dX1_make_98 (by decide) ?_
          refine lv_icmp_ge (tgt := 135) hx hb dX1_make_99 (by decide) (fun h => absurd h (by decide)) (fun _ => ?_)
          refine lv_aload_n hx hb dX1_make_102 rfl (lv_at hl 1 rfl) ?_
          refine md_get (v := .ref (mo + 4)) hC hM 4 (by decide) rfl q477 rfl dX1_make_103 ?_
          refine lv_iconst (v := 3) hx hb dX1_make_106 (by decide) ?_
          refine lv_aload_n hx hb dX1_make_107 rfl (lv_at hl 1 rfl) ?_
          refine md_get (v := .int (sS (setC (setC (setA (setA (setA (setS μ 1 0) 0 (nn μ) (nI k)) 1 (nn μ) 0) 2 (nn μ) 0) ((3 * (nn μ)) + 0) (-1)) ((3 * (nn μ)) + 1) (-1)) 0)) hC hM 0 (by decide) rfl q473 rfl dX1_make_108 ?_
          refine w_top (congrArg Value.int (show sS _ 0 = nI (nn μ) from hW.1.1)) ?_
          refine lv_imul hx hb dX1_make_111 ?_
          refine w_top (congrArg Value.int (pk_mul 3 (nn μ))) ?_
          refine lv_iload_n hx hb dX1_make_112 rfl (lv_at hl 0 rfl) ?_
          refine lv_iadd hx hb dX1_make_113 ?_
          refine w_top (congrArg Value.int (nI_add (3 * (nn μ)) 2)) ?_
          refine lv_iload_n hx hb dX1_make_114 rfl (lv_at hl 2 rfl) ?_
          refine w_SC (As := [.int (nI k)]) hx hb hts hown hml hl.1 (k_X1_isOfThings l k (by omega)) q570 q571 q24 q572 rfl ⟨by decide, by decide, rfl⟩ (Nat.le_of_ble_eq_true rfl) (Nat.le_of_ble_eq_true rfl) ⟨Nat.zero_le _, Nat.zero_le _⟩ rfl (Nat.le_of_ble_eq_true rfl) dX1_make_115 ?_
          refine b_ifeq (w := (thgN k)) (tgt := 127) hx hb dX1_make_118 (by decide) (fun h => absurd (h.symm.trans c_118) (by decide)) (fun _ => ?_)
          refine lv_ldc2 (v := (-1)) hx hb hown (hts _ q573) dX1_make_121 ?_
          refine lv_goto (tgt := 128) hx hb dX1_make_124 (by decide) ?_
          refine md_last hC hM hS rfl ((3 * (nn μ)) + 2) rfl (by omega) dX1_make_128 (fun H locs hM hS => ?_)
          refine lv_iinc (v := 3) (lv' := [(3, .int 3), (0, .ref mo), (1, .int (nI k)), (2, .int n)]) hx hb dX1_make_129 hl (k := 0) rfl (by decide) (by decide) rfl (fun ls hl => ?_)
          refine lv_goto (tgt := 97) hx hb dX1_make_132 (by decide) ?_
          refine lv_iload_n hx hb dX1_make_97 rfl (lv_at hl 0 rfl) ?_
          refine lv_iconst (v := 3) hx hb dX1_make_98 (by decide) ?_
          refine lv_icmp_ge (tgt := 135) hx hb dX1_make_99 (by decide) (fun _ => ?_) (fun h => absurd h (by decide))
          refine lv_aload_n hx hb dX1_make_135 rfl (lv_at hl 1 rfl) ?_
          refine lv_dup hx hb dX1_make_136 rfl ?_
          refine md_get (v := .int (sS (setC (setC (setC (setA (setA (setA (setS μ 1 0) 0 (nn μ) (nI k)) 1 (nn μ) 0) 2 (nn μ) 0) ((3 * (nn μ)) + 0) (-1)) ((3 * (nn μ)) + 1) (-1)) ((3 * (nn μ)) + 2) (-1)) 0)) hC hM 0 (by decide) rfl q473 rfl dX1_make_137 ?_
          refine w_top (congrArg Value.int (show sS _ 0 = nI (nn μ) from hW.1.1)) ?_
          refine lv_iconst (v := 1) hx hb dX1_make_140 (by decide) ?_
          refine lv_iadd hx hb dX1_make_141 ?_
          refine w_top (congrArg Value.int (nI_add (nn μ) 1)) ?_
          refine md_put hC hM hS 0 (by decide) q473 dX1_make_142 (fun H locs hM hS => ?_)
          refine lv_aload_n hx hb dX1_make_145 rfl (lv_at hl 1 rfl) ?_
          refine md_get (v := .int (sS (setS (setC (setC (setC (setA (setA (setA (setS μ 1 0) 0 (nn μ) (nI k)) 1 (nn μ) 0) 2 (nn μ) 0) ((3 * (nn μ)) + 0) (-1)) ((3 * (nn μ)) + 1) (-1)) ((3 * (nn μ)) + 2) (-1)) 0 (nI ((nn μ) + 1))) 0)) hC hM 0 (by decide) rfl q473 rfl dX1_make_146 ?_
          refine w_top (congrArg Value.int (rfl)) ?_
          refine lv_iconst (v := 1) hx hb dX1_make_149 (by decide) ?_
          refine lv_isub hx hb dX1_make_150 ?_
          refine w_top (congrArg Value.int (pk_sub (a := (nn μ + 1)) (b := 1) (by omega))) ?_
          exact md_iret hC hr hlk hM hS (by rw [p_make_ok (μ := μ) (by omega) hall c_44]; simp only [*, if_true, if_false, Bool.false_eq_true]; first | done | rfl) (by rw [p_make_ok (μ := μ) (by omega) hall c_44]; simp only [*, if_true, if_false, Bool.false_eq_true]; first | done | rfl) dX1_make_151
      · refine lv_aload_n hx hb dX1_make_47 rfl (lv_at hl 0 rfl) ?_
        refine lv_bipush (v := (-3)) hx hb dX1_make_48 (by decide) ?_
        refine w_MC (As := [.int (-3)]) hC hM hS (fun _ h => h) hml hl.1 (k_X1_refuse l D tc mo (setS μ 1 0) (-3)) q566 q568 qs9 q24 q569 rfl ⟨rfl, by decide, by decide, rfl⟩ (Nat.le_of_ble_eq_true rfl) (Nat.le_of_ble_eq_true rfl) ⟨Nat.zero_le _, Nat.zero_le _⟩ rfl (Nat.le_of_ble_eq_true rfl) dX1_make_50 (fun H locs hM hS _ _ => ?_)
        exact md_iret hC hr hlk hM hS (by rw [p_make_full (μ := μ) hall c_44]; first | done | rfl) (by rw [p_make_full (μ := μ) hall c_44]; first | done | rfl) dX1_make_53
    · refine lv_iload_n hx hb dX1_make_22 rfl (lv_at hl 2 rfl) ?_
      refine lv_iconst (v := 0) hx hb dX1_make_23 (by decide) ?_
      refine lv_iconst (v := 3) hx hb dX1_make_24 (by decide) ?_
      refine w_SC (As := [.int n, .int 0, .int 3]) hx hb hts hown hml hl.1 (k_X1_isIn l n 0 3) q560 q561 q24 q562 rfl ⟨by decide, by decide, rfl⟩ (Nat.le_of_ble_eq_true rfl) (Nat.le_of_ble_eq_true rfl) ⟨Nat.zero_le _, Nat.zero_le _⟩ rfl (Nat.le_of_ble_eq_true rfl) dX1_make_25 ?_
      refine b_ifne (w := (isIn n 0 3)) (tgt := 38) hx hb dX1_make_28 (by decide) (fun c_28 => ?_) (fun c_28 => ?_)
      · have hall : (isIn (nI k) 0 12 && (isIn (nI k) 5 7 || isIn n 0 3)) = true := by
          have h1 : isIn (nI k) 0 12 = true := isIn_of (n := 12) (by omega) (by omega)
          have h2 : isIn (nI k) 5 7 = oneN k := by have h3 := isOne_eq (k := k) (by omega); cases h4 : isIn (nI k) 5 7 <;> cases h5 : oneN k <;> rw [h4, h5] at h3 <;> first | rfl | exact absurd h3 (by decide)
          rw [h1, h2]; simp [*]
        refine lv_aload_n hx hb dX1_make_38 rfl (lv_at hl 0 rfl) ?_
        refine md_get (v := .int (sS (setS μ 1 0) 0)) hC hM 0 (by decide) rfl q473 rfl dX1_make_39 ?_
        refine lv_bipush (v := 60) hx hb dX1_make_42 (by decide) ?_
        refine lv_icmp_ne (tgt := 54) hx hb dX1_make_44 (by decide) (fun c_44 => ?_) (fun c_44 => ?_)
        · have hlt : nn μ < 60 := by
            have h1 := hW.1.2
            have h2 : nn μ ≠ 60 := fun q => c_44 (by show sS μ 0 = 60; rw [hW.1.1, q]; rfl)
            omega
          refine lv_aload_n hx hb dX1_make_54 rfl (lv_at hl 0 rfl) ?_
          refine md_get (v := .ref (mo + 1)) hC hM 1 (by decide) rfl q474 rfl dX1_make_55 ?_
          refine lv_aload_n hx hb dX1_make_58 rfl (lv_at hl 0 rfl) ?_
          refine md_get (v := .int (sS (setS μ 1 0) 0)) hC hM 0 (by decide) rfl q473 rfl dX1_make_59 ?_
          refine w_top (congrArg Value.int (show sS _ 0 = nI (nn μ) from hW.1.1)) ?_
          refine lv_iload_n hx hb dX1_make_62 rfl (lv_at hl 1 rfl) ?_
          refine md_ast hC hM hS 0 (N := 60) rfl (by decide) rfl rfl (nn μ) rfl (by omega) dX1_make_63 (fun H locs hM hS => ?_)
          refine lv_aload_n hx hb dX1_make_64 rfl (lv_at hl 0 rfl) ?_
          refine md_get (v := .ref (mo + 2)) hC hM 2 (by decide) rfl q475 rfl dX1_make_65 ?_
          refine lv_aload_n hx hb dX1_make_68 rfl (lv_at hl 0 rfl) ?_
          refine md_get (v := .int (sS (setA (setS μ 1 0) 0 (nn μ) (nI k)) 0)) hC hM 0 (by decide) rfl q473 rfl dX1_make_69 ?_
          refine w_top (congrArg Value.int (show sS _ 0 = nI (nn μ) from hW.1.1)) ?_
          refine lv_iload_n hx hb dX1_make_72 rfl (lv_at hl 1 rfl) ?_
          refine w_SC (As := [.int (nI k)]) hx hb hts hown hml hl.1 (k_X1_isOne l k (by omega)) q563 q564 q24 q565 rfl ⟨by decide, by decide, rfl⟩ (Nat.le_of_ble_eq_true rfl) (Nat.le_of_ble_eq_true rfl) ⟨Nat.zero_le _, Nat.zero_le _⟩ rfl (Nat.le_of_ble_eq_true rfl) dX1_make_73 ?_
          refine b_ifeq (w := (oneN k)) (tgt := 83) hx hb dX1_make_76 (by decide) (fun _ => ?_) (fun h => absurd (h.symm.trans c_19) (by decide))
          refine lv_iload_n hx hb dX1_make_83 rfl (lv_at hl 2 rfl) ?_
          refine md_ast hC hM hS 1 (N := 60) rfl (by decide) rfl rfl (nn μ) rfl (by omega) dX1_make_84 (fun H locs hM hS => ?_)
          refine lv_aload_n hx hb dX1_make_85 rfl (lv_at hl 0 rfl) ?_
          refine md_get (v := .ref (mo + 3)) hC hM 3 (by decide) rfl q476 rfl dX1_make_86 ?_
          refine lv_aload_n hx hb dX1_make_89 rfl (lv_at hl 0 rfl) ?_
          refine md_get (v := .int (sS (setA (setA (setS μ 1 0) 0 (nn μ) (nI k)) 1 (nn μ) n) 0)) hC hM 0 (by decide) rfl q473 rfl dX1_make_90 ?_
          refine w_top (congrArg Value.int (show sS _ 0 = nI (nn μ) from hW.1.1)) ?_
          refine lv_iconst (v := 0) hx hb dX1_make_93 (by decide) ?_
          refine md_ast hC hM hS 2 (N := 60) rfl (by decide) rfl rfl (nn μ) rfl (by omega) dX1_make_94 (fun H locs hM hS => ?_)
          refine lv_iconst (v := 0) hx hb dX1_make_95 (by decide) ?_
          refine lv_istore_n (lv' := [(3, .int 0), (0, .ref mo), (1, .int (nI k)), (2, .int n)]) hx hb dX1_make_96 rfl hl (by decide) rfl (fun ls hl => ?_)
          refine lv_iload_n hx hb dX1_make_97 rfl (lv_at hl 0 rfl) ?_
          refine lv_iconst (v := 3) hx hb dX1_make_98 (by decide) ?_
          refine lv_icmp_ge (tgt := 135) hx hb dX1_make_99 (by decide) (fun h => absurd h (by decide)) (fun _ => ?_)
          refine lv_aload_n hx hb dX1_make_102 rfl (lv_at hl 1 rfl) ?_
          refine md_get (v := .ref (mo + 4)) hC hM 4 (by decide) rfl q477 rfl dX1_make_103 ?_
          refine lv_iconst (v := 3) hx hb dX1_make_106 (by decide) ?_
          refine lv_aload_n hx hb dX1_make_107 rfl (lv_at hl 1 rfl) ?_
          refine md_get (v := .int (sS (setA (setA (setA (setS μ 1 0) 0 (nn μ) (nI k)) 1 (nn μ) n) 2 (nn μ) 0) 0)) hC hM 0 (by decide) rfl q473 rfl dX1_make_108 ?_
          refine w_top (congrArg Value.int (show sS _ 0 = nI (nn μ) from hW.1.1)) ?_
          refine lv_imul hx hb dX1_make_111 ?_
          refine w_top (congrArg Value.int (pk_mul 3 (nn μ))) ?_
          refine lv_iload_n hx hb dX1_make_112 rfl (lv_at hl 0 rfl) ?_
          refine lv_iadd hx hb dX1_make_113 ?_
          refine w_top (congrArg Value.int (nI_add (3 * (nn μ)) 0)) ?_
          refine lv_iload_n hx hb dX1_make_114 rfl (lv_at hl 2 rfl) ?_
          refine w_SC (As := [.int (nI k)]) hx hb hts hown hml hl.1 (k_X1_isOfThings l k (by omega)) q570 q571 q24 q572 rfl ⟨by decide, by decide, rfl⟩ (Nat.le_of_ble_eq_true rfl) (Nat.le_of_ble_eq_true rfl) ⟨Nat.zero_le _, Nat.zero_le _⟩ rfl (Nat.le_of_ble_eq_true rfl) dX1_make_115 ?_
          refine b_ifeq (w := (thgN k)) (tgt := 127) hx hb dX1_make_118 (by decide) (fun c_118 => ?_) (fun c_118 => ?_)
          · refine lv_lconst (v := 0) hx hb dX1_make_127 (by decide) ?_
            refine md_last hC hM hS rfl ((3 * (nn μ)) + 0) rfl (by omega) dX1_make_128 (fun H locs hM hS => ?_)
            refine lv_iinc (v := 1) (lv' := [(3, .int 1), (0, .ref mo), (1, .int (nI k)), (2, .int n)]) hx hb dX1_make_129 hl (k := 0) rfl (by decide) (by decide) rfl (fun ls hl => ?_)
            refine lv_goto (tgt := 97) hx hb dX1_make_132 (by decide) ?_
            refine lv_iload_n hx hb dX1_make_97 rfl (lv_at hl 0 rfl) ?_
            refine lv_iconst (v := 3) hx hb dX1_make_98 (by decide) ?_
            refine lv_icmp_ge (tgt := 135) hx hb dX1_make_99 (by decide) (fun h => absurd h (by decide)) (fun _ => ?_)
            refine lv_aload_n hx hb dX1_make_102 rfl (lv_at hl 1 rfl) ?_
            refine md_get (v := .ref (mo + 4)) hC hM 4 (by decide) rfl q477 rfl dX1_make_103 ?_
            refine lv_iconst (v := 3) hx hb dX1_make_106 (by decide) ?_
            refine lv_aload_n hx hb dX1_make_107 rfl (lv_at hl 1 rfl) ?_
            refine md_get (v := .int (sS (setC (setA (setA (setA (setS μ 1 0) 0 (nn μ) (nI k)) 1 (nn μ) n) 2 (nn μ) 0) ((3 * (nn μ)) + 0) 0) 0)) hC hM 0 (by decide) rfl q473 rfl dX1_make_108 ?_
            refine w_top (congrArg Value.int (show sS _ 0 = nI (nn μ) from hW.1.1)) ?_
            refine lv_imul hx hb dX1_make_111 ?_
            refine w_top (congrArg Value.int (pk_mul 3 (nn μ))) ?_
            refine lv_iload_n hx hb dX1_make_112 rfl (lv_at hl 0 rfl) ?_
            refine lv_iadd hx hb dX1_make_113 ?_
            refine w_top (congrArg Value.int (nI_add (3 * (nn μ)) 1)) ?_
            refine lv_iload_n hx hb dX1_make_114 rfl (lv_at hl 2 rfl) ?_
            refine w_SC (As := [.int (nI k)]) hx hb hts hown hml hl.1 (k_X1_isOfThings l k (by omega)) q570 q571 q24 q572 rfl ⟨by decide, by decide, rfl⟩ (Nat.le_of_ble_eq_true rfl) (Nat.le_of_ble_eq_true rfl) ⟨Nat.zero_le _, Nat.zero_le _⟩ rfl (Nat.le_of_ble_eq_true rfl) dX1_make_115 ?_
            refine b_ifeq (w := (thgN k)) (tgt := 127) hx hb dX1_make_118 (by decide) (fun _ => ?_) (fun h => absurd (h.symm.trans c_118) (by decide))
            refine lv_lconst (v := 0) hx hb dX1_make_127 (by decide) ?_
            refine md_last hC hM hS rfl ((3 * (nn μ)) + 1) rfl (by omega) dX1_make_128 (fun H locs hM hS => ?_)
            refine lv_iinc (v := 2) (lv' := [(3, .int 2), (0, .ref mo), (1, .int (nI k)), (2, .int n)]) hx hb dX1_make_129 hl (k := 0) rfl (by decide) (by decide) rfl (fun ls hl => ?_)
            refine lv_goto (tgt := 97) hx hb dX1_make_132 (by decide) ?_
            refine lv_iload_n hx hb dX1_make_97 rfl (lv_at hl 0 rfl) ?_
            refine lv_iconst (v := 3) hx hb dX1_make_98 (by decide) ?_
            refine lv_icmp_ge (tgt := 135) hx hb dX1_make_99 (by decide) (fun h => absurd h (by decide)) (fun _ => ?_)
            refine lv_aload_n hx hb dX1_make_102 rfl (lv_at hl 1 rfl) ?_
            refine md_get (v := .ref (mo + 4)) hC hM 4 (by decide) rfl q477 rfl dX1_make_103 ?_
            refine lv_iconst (v := 3) hx hb dX1_make_106 (by decide) ?_
            refine lv_aload_n hx hb dX1_make_107 rfl (lv_at hl 1 rfl) ?_
            refine md_get (v := .int (sS (setC (setC (setA (setA (setA (setS μ 1 0) 0 (nn μ) (nI k)) 1 (nn μ) n) 2 (nn μ) 0) ((3 * (nn μ)) + 0) 0) ((3 * (nn μ)) + 1) 0) 0)) hC hM 0 (by decide) rfl q473 rfl dX1_make_108 ?_
            refine w_top (congrArg Value.int (show sS _ 0 = nI (nn μ) from hW.1.1)) ?_
            refine lv_imul hx hb dX1_make_111 ?_
            refine w_top (congrArg Value.int (pk_mul 3 (nn μ))) ?_
            refine lv_iload_n hx hb dX1_make_112 rfl (lv_at hl 0 rfl) ?_
            refine lv_iadd hx hb dX1_make_113 ?_
            refine w_top (congrArg Value.int (nI_add (3 * (nn μ)) 2)) ?_
            refine lv_iload_n hx hb dX1_make_114 rfl (lv_at hl 2 rfl) ?_
            refine w_SC (As := [.int (nI k)]) hx hb hts hown hml hl.1 (k_X1_isOfThings l k (by omega)) q570 q571 q24 q572 rfl ⟨by decide, by decide, rfl⟩ (Nat.le_of_ble_eq_true rfl) (Nat.le_of_ble_eq_true rfl) ⟨Nat.zero_le _, Nat.zero_le _⟩ rfl (Nat.le_of_ble_eq_true rfl) dX1_make_115 ?_
            refine b_ifeq (w := (thgN k)) (tgt := 127) hx hb dX1_make_118 (by decide) (fun _ => ?_) (fun h => absurd (h.symm.trans c_118) (by decide))
            refine lv_lconst (v := 0) hx hb dX1_make_127 (by decide) ?_
            refine md_last hC hM hS rfl ((3 * (nn μ)) + 2) rfl (by omega) dX1_make_128 (fun H locs hM hS => ?_)
            refine lv_iinc (v := 3) (lv' := [(3, .int 3), (0, .ref mo), (1, .int (nI k)), (2, .int n)]) hx hb dX1_make_129 hl (k := 0) rfl (by decide) (by decide) rfl (fun ls hl => ?_)
            refine lv_goto (tgt := 97) hx hb dX1_make_132 (by decide) ?_
            refine lv_iload_n hx hb dX1_make_97 rfl (lv_at hl 0 rfl) ?_
            refine lv_iconst (v := 3) hx hb dX1_make_98 (by decide) ?_
            refine lv_icmp_ge (tgt := 135) hx hb dX1_make_99 (by decide) (fun _ => ?_) (fun h => absurd h (by decide))
            refine lv_aload_n hx hb dX1_make_135 rfl (lv_at hl 1 rfl) ?_
            refine lv_dup hx hb dX1_make_136 rfl ?_
            refine md_get (v := .int (sS (setC (setC (setC (setA (setA (setA (setS μ 1 0) 0 (nn μ) (nI k)) 1 (nn μ) n) 2 (nn μ) 0) ((3 * (nn μ)) + 0) 0) ((3 * (nn μ)) + 1) 0) ((3 * (nn μ)) + 2) 0) 0)) hC hM 0 (by decide) rfl q473 rfl dX1_make_137 ?_
            refine w_top (congrArg Value.int (show sS _ 0 = nI (nn μ) from hW.1.1)) ?_
            refine lv_iconst (v := 1) hx hb dX1_make_140 (by decide) ?_
            refine lv_iadd hx hb dX1_make_141 ?_
            refine w_top (congrArg Value.int (nI_add (nn μ) 1)) ?_
            refine md_put hC hM hS 0 (by decide) q473 dX1_make_142 (fun H locs hM hS => ?_)
            refine lv_aload_n hx hb dX1_make_145 rfl (lv_at hl 1 rfl) ?_
            refine md_get (v := .int (sS (setS (setC (setC (setC (setA (setA (setA (setS μ 1 0) 0 (nn μ) (nI k)) 1 (nn μ) n) 2 (nn μ) 0) ((3 * (nn μ)) + 0) 0) ((3 * (nn μ)) + 1) 0) ((3 * (nn μ)) + 2) 0) 0 (nI ((nn μ) + 1))) 0)) hC hM 0 (by decide) rfl q473 rfl dX1_make_146 ?_
            refine w_top (congrArg Value.int (rfl)) ?_
            refine lv_iconst (v := 1) hx hb dX1_make_149 (by decide) ?_
            refine lv_isub hx hb dX1_make_150 ?_
            refine w_top (congrArg Value.int (pk_sub (a := (nn μ + 1)) (b := 1) (by omega))) ?_
            exact md_iret hC hr hlk hM hS (by rw [p_make_ok (μ := μ) (by omega) hall c_44]; simp only [*, if_true, if_false, Bool.false_eq_true]; first | done | rfl) (by rw [p_make_ok (μ := μ) (by omega) hall c_44]; simp only [*, if_true, if_false, Bool.false_eq_true]; first | done | rfl) dX1_make_151
          · refine lv_ldc2 (v := (-1)) hx hb hown (hts _ q573) dX1_make_121 ?_
            refine lv_goto (tgt := 128) hx hb dX1_make_124 (by decide) ?_
            refine md_last hC hM hS rfl ((3 * (nn μ)) + 0) rfl (by omega) dX1_make_128 (fun H locs hM hS => ?_)
            refine lv_iinc (v := 1) (lv' := [(3, .int 1), (0, .ref mo), (1, .int (nI k)), (2, .int n)]) hx hb dX1_make_129 hl (k := 0) rfl (by decide) (by decide) rfl (fun ls hl => ?_)
            refine lv_goto (tgt := 97) hx hb dX1_make_132 (by decide) ?_
            refine lv_iload_n hx hb dX1_make_97 rfl (lv_at hl 0 rfl) ?_
            refine lv_iconst (v := 3) hx hb dX1_make_98 (by decide) ?_
            refine lv_icmp_ge (tgt := 135) hx hb dX1_make_99 (by decide) (fun h => absurd h (by decide)) (fun _ => ?_)
            refine lv_aload_n hx hb dX1_make_102 rfl (lv_at hl 1 rfl) ?_
            refine md_get (v := .ref (mo + 4)) hC hM 4 (by decide) rfl q477 rfl dX1_make_103 ?_
            refine lv_iconst (v := 3) hx hb dX1_make_106 (by decide) ?_
            refine lv_aload_n hx hb dX1_make_107 rfl (lv_at hl 1 rfl) ?_
            refine md_get (v := .int (sS (setC (setA (setA (setA (setS μ 1 0) 0 (nn μ) (nI k)) 1 (nn μ) n) 2 (nn μ) 0) ((3 * (nn μ)) + 0) (-1)) 0)) hC hM 0 (by decide) rfl q473 rfl dX1_make_108 ?_
            refine w_top (congrArg Value.int (show sS _ 0 = nI (nn μ) from hW.1.1)) ?_
            refine lv_imul hx hb dX1_make_111 ?_
            refine w_top (congrArg Value.int (pk_mul 3 (nn μ))) ?_
            refine lv_iload_n hx hb dX1_make_112 rfl (lv_at hl 0 rfl) ?_
            refine lv_iadd hx hb dX1_make_113 ?_
            refine w_top (congrArg Value.int (nI_add (3 * (nn μ)) 1)) ?_
            refine lv_iload_n hx hb dX1_make_114 rfl (lv_at hl 2 rfl) ?_
            refine w_SC (As := [.int (nI k)]) hx hb hts hown hml hl.1 (k_X1_isOfThings l k (by omega)) q570 q571 q24 q572 rfl ⟨by decide, by decide, rfl⟩ (Nat.le_of_ble_eq_true rfl) (Nat.le_of_ble_eq_true rfl) ⟨Nat.zero_le _, Nat.zero_le _⟩ rfl (Nat.le_of_ble_eq_true rfl) dX1_make_115 ?_
            refine b_ifeq (w := (thgN k)) (tgt := 127) hx hb dX1_make_118 (by decide) (fun h => absurd (h.symm.trans c_118) (by decide)) (fun _ => ?_)
            refine lv_ldc2 (v := (-1)) hx hb hown (hts _ q573) dX1_make_121 ?_
            refine lv_goto (tgt := 128) hx hb dX1_make_124 (by decide) ?_
            refine md_last hC hM hS rfl ((3 * (nn μ)) + 1) rfl (by omega) dX1_make_128 (fun H locs hM hS => ?_)
            refine lv_iinc (v := 2) (lv' := [(3, .int 2), (0, .ref mo), (1, .int (nI k)), (2, .int n)]) hx hb dX1_make_129 hl (k := 0) rfl (by decide) (by decide) rfl (fun ls hl => ?_)
            refine lv_goto (tgt := 97) hx hb dX1_make_132 (by decide) ?_
            refine lv_iload_n hx hb dX1_make_97 rfl (lv_at hl 0 rfl) ?_
            refine lv_iconst (v := 3) hx hb dX1_make_98 (by decide) ?_
            refine lv_icmp_ge (tgt := 135) hx hb dX1_make_99 (by decide) (fun h => absurd h (by decide)) (fun _ => ?_)
            refine lv_aload_n hx hb dX1_make_102 rfl (lv_at hl 1 rfl) ?_
            refine md_get (v := .ref (mo + 4)) hC hM 4 (by decide) rfl q477 rfl dX1_make_103 ?_
            refine lv_iconst (v := 3) hx hb dX1_make_106 (by decide) ?_
            refine lv_aload_n hx hb dX1_make_107 rfl (lv_at hl 1 rfl) ?_
            refine md_get (v := .int (sS (setC (setC (setA (setA (setA (setS μ 1 0) 0 (nn μ) (nI k)) 1 (nn μ) n) 2 (nn μ) 0) ((3 * (nn μ)) + 0) (-1)) ((3 * (nn μ)) + 1) (-1)) 0)) hC hM 0 (by decide) rfl q473 rfl dX1_make_108 ?_
            refine w_top (congrArg Value.int (show sS _ 0 = nI (nn μ) from hW.1.1)) ?_
            refine lv_imul hx hb dX1_make_111 ?_
            refine w_top (congrArg Value.int (pk_mul 3 (nn μ))) ?_
            refine lv_iload_n hx hb dX1_make_112 rfl (lv_at hl 0 rfl) ?_
            refine lv_iadd hx hb dX1_make_113 ?_
            refine w_top (congrArg Value.int (nI_add (3 * (nn μ)) 2)) ?_
            refine lv_iload_n hx hb dX1_make_114 rfl (lv_at hl 2 rfl) ?_
            refine w_SC (As := [.int (nI k)]) hx hb hts hown hml hl.1 (k_X1_isOfThings l k (by omega)) q570 q571 q24 q572 rfl ⟨by decide, by decide, rfl⟩ (Nat.le_of_ble_eq_true rfl) (Nat.le_of_ble_eq_true rfl) ⟨Nat.zero_le _, Nat.zero_le _⟩ rfl (Nat.le_of_ble_eq_true rfl) dX1_make_115 ?_
            refine b_ifeq (w := (thgN k)) (tgt := 127) hx hb dX1_make_118 (by decide) (fun h => absurd (h.symm.trans c_118) (by decide)) (fun _ => ?_)
            refine lv_ldc2 (v := (-1)) hx hb hown (hts _ q573) dX1_make_121 ?_
            refine lv_goto (tgt := 128) hx hb dX1_make_124 (by decide) ?_
            refine md_last hC hM hS rfl ((3 * (nn μ)) + 2) rfl (by omega) dX1_make_128 (fun H locs hM hS => ?_)
            refine lv_iinc (v := 3) (lv' := [(3, .int 3), (0, .ref mo), (1, .int (nI k)), (2, .int n)]) hx hb dX1_make_129 hl (k := 0) rfl (by decide) (by decide) rfl (fun ls hl => ?_)
            refine lv_goto (tgt := 97) hx hb dX1_make_132 (by decide) ?_
            refine lv_iload_n hx hb dX1_make_97 rfl (lv_at hl 0 rfl) ?_
            refine lv_iconst (v := 3) hx hb dX1_make_98 (by decide) ?_
            refine lv_icmp_ge (tgt := 135) hx hb dX1_make_99 (by decide) (fun _ => ?_) (fun h => absurd h (by decide))
            refine lv_aload_n hx hb dX1_make_135 rfl (lv_at hl 1 rfl) ?_
            refine lv_dup hx hb dX1_make_136 rfl ?_
            refine md_get (v := .int (sS (setC (setC (setC (setA (setA (setA (setS μ 1 0) 0 (nn μ) (nI k)) 1 (nn μ) n) 2 (nn μ) 0) ((3 * (nn μ)) + 0) (-1)) ((3 * (nn μ)) + 1) (-1)) ((3 * (nn μ)) + 2) (-1)) 0)) hC hM 0 (by decide) rfl q473 rfl dX1_make_137 ?_
            refine w_top (congrArg Value.int (show sS _ 0 = nI (nn μ) from hW.1.1)) ?_
            refine lv_iconst (v := 1) hx hb dX1_make_140 (by decide) ?_
            refine lv_iadd hx hb dX1_make_141 ?_
            refine w_top (congrArg Value.int (nI_add (nn μ) 1)) ?_
            refine md_put hC hM hS 0 (by decide) q473 dX1_make_142 (fun H locs hM hS => ?_)
            refine lv_aload_n hx hb dX1_make_145 rfl (lv_at hl 1 rfl) ?_
            refine md_get (v := .int (sS (setS (setC (setC (setC (setA (setA (setA (setS μ 1 0) 0 (nn μ) (nI k)) 1 (nn μ) n) 2 (nn μ) 0) ((3 * (nn μ)) + 0) (-1)) ((3 * (nn μ)) + 1) (-1)) ((3 * (nn μ)) + 2) (-1)) 0 (nI ((nn μ) + 1))) 0)) hC hM 0 (by decide) rfl q473 rfl dX1_make_146 ?_
            refine w_top (congrArg Value.int (rfl)) ?_
            refine lv_iconst (v := 1) hx hb dX1_make_149 (by decide) ?_
            refine lv_isub hx hb dX1_make_150 ?_
            refine w_top (congrArg Value.int (pk_sub (a := (nn μ + 1)) (b := 1) (by omega))) ?_
            exact md_iret hC hr hlk hM hS (by rw [p_make_ok (μ := μ) (by omega) hall c_44]; simp only [*, if_true, if_false, Bool.false_eq_true]; first | done | rfl) (by rw [p_make_ok (μ := μ) (by omega) hall c_44]; simp only [*, if_true, if_false, Bool.false_eq_true]; first | done | rfl) dX1_make_151
        · refine lv_aload_n hx hb dX1_make_47 rfl (lv_at hl 0 rfl) ?_
          refine lv_bipush (v := (-3)) hx hb dX1_make_48 (by decide) ?_
          refine w_MC (As := [.int (-3)]) hC hM hS (fun _ h => h) hml hl.1 (k_X1_refuse l D tc mo (setS μ 1 0) (-3)) q566 q568 qs9 q24 q569 rfl ⟨rfl, by decide, by decide, rfl⟩ (Nat.le_of_ble_eq_true rfl) (Nat.le_of_ble_eq_true rfl) ⟨Nat.zero_le _, Nat.zero_le _⟩ rfl (Nat.le_of_ble_eq_true rfl) dX1_make_50 (fun H locs hM hS _ _ => ?_)
          exact md_iret hC hr hlk hM hS (by rw [p_make_full (μ := μ) hall c_44]; first | done | rfl) (by rw [p_make_full (μ := μ) hall c_44]; first | done | rfl) dX1_make_53
      · refine lv_aload_n hx hb dX1_make_31 rfl (lv_at hl 0 rfl) ?_
        refine lv_bipush (v := (-2)) hx hb dX1_make_32 (by decide) ?_
        refine w_MC (As := [.int (-2)]) hC hM hS (fun _ h => h) hml hl.1 (k_X1_refuse l D tc mo (setS μ 1 0) (-2)) q566 q568 qs9 q24 q569 rfl ⟨rfl, by decide, by decide, rfl⟩ (Nat.le_of_ble_eq_true rfl) (Nat.le_of_ble_eq_true rfl) ⟨Nat.zero_le _, Nat.zero_le _⟩ rfl (Nat.le_of_ble_eq_true rfl) dX1_make_34 (fun H locs hM hS _ _ => ?_)
        exact md_iret hC hr hlk hM hS (by rw [p_make_bad (μ := μ) (by first | (rw [show isIn kk 0 12 = false from c_12]; rfl) | (have h2 : isIn (nI k) 5 7 = oneN k := by {have h3 := isOne_eq (k := k) (by omega); cases h4 : isIn (nI k) 5 7 <;> cases h5 : oneN k <;> rw [h4, h5] at h3 <;> first | rfl | exact absurd h3 (by decide)}; rw [h2]; simp [*]))]; first | done | rfl) (by rw [p_make_bad (μ := μ) (by first | (rw [show isIn kk 0 12 = false from c_12]; rfl) | (have h2 : isIn (nI k) 5 7 = oneN k := by {have h3 := isOne_eq (k := k) (by omega); cases h4 : isIn (nI k) 5 7 <;> cases h5 : oneN k <;> rw [h4, h5] at h3 <;> first | rfl | exact absurd h3 (by decide)}; rw [h2]; simp [*]))]; first | done | rfl) dX1_make_37

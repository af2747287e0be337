/-! THE MODEL: its frames -/
set_option maxRecDepth 100000
set_option maxHeartbeats 4000000
theorem k_X1_begin (l : Launch) (D : va_G) (tc : Nat → ClassId) (mo : Nat) (μ : MS) (d : Nat) (t r : Int32) (hd9 : d < 9) (hd : sS μ 7 = nI d) : MC l yX1_begin cX1_begin 3 none 0 0 D tc mo [.int t, .int r] μ (p_begin μ d t r) none := by
  refine MC.of (by decide) rfl (Nat.le_of_ble_eq_true rfl) ?_
  intro p e s m below meth c hC hr hlk hml hM hS ls hl
  have hx := hC.1
  have hb := hC.2.1
  have hts := hC.2.2.1
  have hown := hC.2.2.2.1
  have hl : lv_has ls 3 [(0, .ref mo), (1, .int t), (2, .int r)] := hl
  refine lv_aload_n hx hb dX1_begin_0 rfl (lv_at hl 0 rfl) ?_
  refine md_get (v := .ref (mo + 15)) hC hM 21 (by decide) rfl q494 rfl dX1_begin_1 ?_
  refine lv_aload_n hx hb dX1_begin_4 rfl (lv_at hl 0 rfl) ?_
  refine md_get (v := .int (sS μ 7)) hC hM 25 (by decide) rfl q498 rfl dX1_begin_5 ?_
  refine w_top (congrArg Value.int (show sS _ 7 = nI d from hd)) ?_
  refine lv_iload_n hx hb dX1_begin_8 rfl (lv_at hl 1 rfl) ?_
  refine md_ast hC hM hS 13 (N := 9) rfl (by decide) rfl rfl d rfl (by omega) dX1_begin_9 (fun H locs hM hS => ?_)
  refine lv_aload_n hx hb dX1_begin_10 rfl (lv_at hl 0 rfl) ?_
  refine md_get (v := .ref (mo + 16)) hC hM 22 (by decide) rfl q495 rfl dX1_begin_11 ?_
  refine lv_aload_n hx hb dX1_begin_14 rfl (lv_at hl 0 rfl) ?_
  refine md_get (v := .int (sS (setA μ 13 d t) 7)) hC hM 25 (by decide) rfl q498 rfl dX1_begin_15 ?_
  refine w_top (congrArg Value.int (show sS _ 7 = nI d from hd)) ?_
  refine lv_iload_n hx hb dX1_begin_18 rfl (lv_at hl 2 rfl) ?_
  refine md_ast hC hM hS 14 (N := 9) rfl (by decide) rfl rfl d rfl (by omega) dX1_begin_19 (fun H locs hM hS => ?_)
  refine lv_aload_n hx hb dX1_begin_20 rfl (lv_at hl 0 rfl) ?_
  refine md_get (v := .ref (mo + 17)) hC hM 23 (by decide) rfl q496 rfl dX1_begin_21 ?_
  refine lv_aload_n hx hb dX1_begin_24 rfl (lv_at hl 0 rfl) ?_
  refine md_get (v := .int (sS (setA (setA μ 13 d t) 14 d r) 7)) hC hM 25 (by decide) rfl q498 rfl dX1_begin_25 ?_
  refine w_top (congrArg Value.int (show sS _ 7 = nI d from hd)) ?_
  refine lv_iconst (v := 0) hx hb dX1_begin_28 (by decide) ?_
  refine md_ast hC hM hS 15 (N := 9) rfl (by decide) rfl rfl d rfl (by omega) dX1_begin_29 (fun H locs hM hS => ?_)
  refine lv_aload_n hx hb dX1_begin_30 rfl (lv_at hl 0 rfl) ?_
  refine md_get (v := .ref (mo + 18)) hC hM 24 (by decide) rfl q497 rfl dX1_begin_31 ?_
  refine lv_aload_n hx hb dX1_begin_34 rfl (lv_at hl 0 rfl) ?_
  refine md_get (v := .int (sS (setA (setA (setA μ 13 d t) 14 d r) 15 d 0) 7)) hC hM 25 (by decide) rfl q498 rfl dX1_begin_35 ?_
  refine w_top (congrArg Value.int (show sS _ 7 = nI d from hd)) ?_
  refine lv_iconst (v := (-1)) hx hb dX1_begin_38 (by decide) ?_
  refine md_ast hC hM hS 16 (N := 9) rfl (by decide) rfl rfl d rfl (by omega) dX1_begin_39 (fun H locs hM hS => ?_)
  refine lv_aload_n hx hb dX1_begin_40 rfl (lv_at hl 0 rfl) ?_
  refine lv_dup hx hb dX1_begin_41 rfl ?_
  refine md_get (v := .int (sS (setA (setA (setA (setA μ 13 d t) 14 d r) 15 d 0) 16 d (-1)) 7)) hC hM 25 (by decide) rfl q498 rfl dX1_begin_42 ?_
  refine w_top (congrArg Value.int (show sS _ 7 = nI d from hd)) ?_
  refine lv_iconst (v := 1) hx hb dX1_begin_45 (by decide) ?_
  refine lv_iadd hx hb dX1_begin_46 ?_
  refine w_top (congrArg Value.int (nI_add d 1)) ?_
  refine md_put hC hM hS 7 (by decide) q498 dX1_begin_47 (fun H locs hM hS => ?_)
  exact md_vret hC hr hlk hM hS rfl dX1_begin_50
theorem k_X1_ends (l : Launch) (D : va_G) (tc : Nat → ClassId) (mo : Nat) (μ : MS) (d : Nat) (t : Int32) (hd9 : d < 9) (hd : sS μ 7 = nI (d + 1)) : MC l yX1_ends cX1_ends 2 none 0 0 D tc mo [.int t] μ (p_ends μ d t) none := by
  refine MC.of (by decide) rfl (Nat.le_of_ble_eq_true rfl) ?_
  intro p e s m below meth c hC hr hlk hml hM hS ls hl
  have hx := hC.1
  have hb := hC.2.1
  have hts := hC.2.2.1
  have hown := hC.2.2.2.1
  have hl : lv_has ls 2 [(0, .ref mo), (1, .int t)] := hl
  refine lv_aload_n hx hb dX1_ends_0 rfl (lv_at hl 0 rfl) ?_
  refine lv_dup hx hb dX1_ends_1 rfl ?_
  refine md_get (v := .int (sS μ 7)) hC hM 25 (by decide) rfl q498 rfl dX1_ends_2 ?_
  refine w_top (congrArg Value.int (show sS _ 7 = nI (d + 1) from hd)) ?_
  refine lv_iconst (v := 1) hx hb dX1_ends_5 (by decide) ?_
  refine lv_isub hx hb dX1_ends_6 ?_
  refine w_top (congrArg Value.int (pk_sub (a := (d + 1)) (b := 1) (by omega))) ?_
  refine w_top (y := .int (nI d)) rfl ?_
  refine md_put hC hM hS 7 (by decide) q498 dX1_ends_7 (fun H locs hM hS => ?_)
  refine lv_aload_n hx hb dX1_ends_10 rfl (lv_at hl 0 rfl) ?_
  refine lv_aload_n hx hb dX1_ends_11 rfl (lv_at hl 0 rfl) ?_
  refine md_get (v := .int (sS (setS μ 7 (nI d)) 7)) hC hM 25 (by decide) rfl q498 rfl dX1_ends_12 ?_
  refine w_top (congrArg Value.int (rfl)) ?_
  refine n_if_ne (a := d) (tgt := 22) hx hb dX1_ends_15 (by decide) (by omega) (fun c_15 => ?_) (fun c_15 => ?_)
  · refine lv_aload_n hx hb dX1_ends_22 rfl (lv_at hl 0 rfl) ?_
    refine md_get (v := .int (sS (setS μ 7 (nI d)) 6)) hC hM 20 (by decide) rfl q493 rfl dX1_ends_23 ?_
    refine md_put hC hM hS 6 (by decide) q493 dX1_ends_26 (fun H locs hM hS => ?_)
    exact md_vret hC hr hlk hM hS (by unfold p_ends; first | (rw [if_neg c_15]; first | done | rfl) | (rw [if_pos c_15]; first | done | rfl)) dX1_ends_29
  · refine lv_iload_n hx hb dX1_ends_18 rfl (lv_at hl 1 rfl) ?_
    refine lv_goto (tgt := 26) hx hb dX1_ends_19 (by decide) ?_
    refine md_put hC hM hS 6 (by decide) q493 dX1_ends_26 (fun H locs hM hS => ?_)
    exact md_vret hC hr hlk hM hS (by unfold p_ends; first | (rw [if_neg c_15]; first | done | rfl) | (rw [if_pos c_15]; first | done | rfl)) dX1_ends_29
theorem k_X1_split (l : Launch) (D : va_G) (tc : Nat → ClassId) (mo : Nat) (μ : MS) (d t r i : Nat) (hI : IV μ) (hd8 : d < 8) (ht : t < 60) (hr8 : r < 8) (hi : i ≤ sz μ t) (hd : sS μ 7 = nI (d + 1)) (h13 : sA μ 13 d = nI t) (h14 : sA μ 14 d = nI r) (h16 : sA μ 16 d = nI i) : MC l yX1_split cX1_split 4 none 1 22 D tc mo [.int (nI d)] μ (p_split μ d t r i) none := by
  refine MC.of (by decide) rfl (Nat.le_of_ble_eq_true rfl) ?_
  intro p e s m below meth c hC hr hlk hml hM hS ls hl
  have hx := hC.1
  have hb := hC.2.1
  have hts := hC.2.2.1
  have hown := hC.2.2.2.1
  have hl : lv_has ls 4 [(0, .ref mo), (1, .int (nI d))] := hl
  have hz3 := (hI.1.2.1 t ht).2.2.2
  refine lv_aload_n hx hb dX1_split_0 rfl (lv_at hl 0 rfl) ?_
  refine md_get (v := .ref (mo + 15)) hC hM 21 (by decide) rfl q494 rfl dX1_split_1 ?_
  refine lv_iload_n hx hb dX1_split_4 rfl (lv_at hl 1 rfl) ?_
  refine md_ald (v := (nI t)) hC hM 13 (N := 9) rfl (by decide) rfl rfl d rfl (by omega) h13 dX1_split_5 ?_
  refine lv_istore_n (lv' := [(2, .int (nI t)), (0, .ref mo), (1, .int (nI d))]) hx hb dX1_split_6 rfl hl (by decide) rfl (fun ls hl => ?_)
  refine lv_aload_n hx hb dX1_split_7 rfl (lv_at hl 1 rfl) ?_
  refine md_get (v := .ref (mo + 18)) hC hM 24 (by decide) rfl q497 rfl dX1_split_8 ?_
  refine lv_iload_n hx hb dX1_split_11 rfl (lv_at hl 2 rfl) ?_
  refine md_ald (v := (nI i)) hC hM 16 (N := 9) rfl (by decide) rfl rfl d rfl (by omega) h16 dX1_split_12 ?_
  refine lv_istore_n (lv' := [(3, .int (nI i)), (2, .int (nI t)), (0, .ref mo), (1, .int (nI d))]) hx hb dX1_split_13 rfl hl (by decide) rfl (fun ls hl => ?_)
  refine w_loop (σ := Nat) (fun x H locs ls => x ≤ sz μ t ∧ (p_next μ t (sz μ t) (sz μ t - x) x = p_next μ t (sz μ t) (sz μ t - i) i) ∧ Mod D tc mo μ H ∧ va_S (md_A mo) s.heap H locs ∧ lv_has ls 4 [(3, .int (nI x)), (0, .ref mo), (1, .int (nI d)), (2, .int (nI t))]) (fun x => sz μ t - x) ?_ i ⟨hi, rfl, hM, hS, lv_sub hl [0, 2, 3, 1] rfl⟩
  intro x H locs ls hL ih
  obtain ⟨hxz, hp, hM, hS, hl⟩ := hL
  refine lv_iload_n hx hb dX1_split_14 rfl (lv_at hl 0 rfl) ?_
  refine lv_aload_n hx hb dX1_split_15 rfl (lv_at hl 1 rfl) ?_
  refine md_get (v := .ref (mo + 2)) hC hM 2 (by decide) rfl q475 rfl dX1_split_16 ?_
  refine lv_iload_n hx hb dX1_split_19 rfl (lv_at hl 3 rfl) ?_
  refine md_ald (v := (nI (sz μ t))) hC hM 1 (N := 60) rfl (by decide) rfl rfl t rfl (by omega) ((hI.1.2.1 t ht).2.2.1) dX1_split_20 ?_
  refine n_icmp_ge (a := x) (b := (sz μ t)) (tgt := 47) hx hb dX1_split_21 (by decide) (by omega) (by omega) (fun c_21 => ?_) (fun c_21 => ?_)
  · refine lv_iload_n hx hb dX1_split_47 rfl (lv_at hl 0 rfl) ?_
    refine lv_aload_n hx hb dX1_split_48 rfl (lv_at hl 1 rfl) ?_
    refine md_get (v := .ref (mo + 2)) hC hM 2 (by decide) rfl q475 rfl dX1_split_49 ?_
    refine lv_iload_n hx hb dX1_split_52 rfl (lv_at hl 3 rfl) ?_
    refine md_ald (v := (nI (sz μ t))) hC hM 1 (N := 60) rfl (by decide) rfl rfl t rfl (by omega) ((hI.1.2.1 t ht).2.2.1) dX1_split_53 ?_
    have e1 : p_next μ t (sz μ t) (sz μ t - i) i = x := by rw [← hp, show sz μ t - x = 0 by omega]; rfl
    refine n_icmp_ge (a := x) (b := (sz μ t)) (tgt := 92) hx hb dX1_split_54 (by decide) (by omega) (by omega) (fun _ => ?_) (fun h => absurd h (by omega))
    refine lv_aload_n hx hb dX1_split_92 rfl (lv_at hl 1 rfl) ?_
    refine md_get (v := .ref (mo + 18)) hC hM 24 (by decide) rfl q497 rfl dX1_split_93 ?_
    refine lv_iload_n hx hb dX1_split_96 rfl (lv_at hl 2 rfl) ?_
    refine lv_iconst (v := (-1)) hx hb dX1_split_97 (by decide) ?_
    refine md_ast hC hM hS 16 (N := 9) rfl (by decide) rfl rfl d rfl (by omega) dX1_split_98 (fun H locs hM hS => ?_)
    refine lv_aload_n hx hb dX1_split_99 rfl (lv_at hl 1 rfl) ?_
    refine md_get (v := .ref (mo + 17)) hC hM 23 (by decide) rfl q496 rfl dX1_split_100 ?_
    refine lv_iload_n hx hb dX1_split_103 rfl (lv_at hl 2 rfl) ?_
    refine lv_dup2_11 hx hb dX1_split_104 rfl rfl ?_
    refine md_ald (v := (sA (setA μ 16 d (-1)) 15 d)) hC hM 15 (N := 9) rfl (by decide) rfl rfl d rfl (by omega) rfl dX1_split_105 ?_
    refine lv_iconst (v := 1) hx hb dX1_split_106 (by decide) ?_
    refine lv_iadd hx hb dX1_split_107 ?_
    refine md_ast hC hM hS 15 (N := 9) rfl (by decide) rfl rfl d rfl (by omega) dX1_split_108 (fun H locs hM hS => ?_)
    exact md_vret hC hr hlk hM hS (by unfold p_split; rw [e1]; first | (rw [if_pos (by omega)]; done) | (rw [if_pos (by omega)]; rfl) | (rw [if_neg (by omega)]; rfl)) dX1_split_109
  · refine lv_aload_n hx hb dX1_split_24 rfl (lv_at hl 1 rfl) ?_
    refine md_get (v := .ref (mo + 4)) hC hM 4 (by decide) rfl q477 rfl dX1_split_25 ?_
    refine lv_iconst (v := 3) hx hb dX1_split_28 (by decide) ?_
    refine lv_iload_n hx hb dX1_split_29 rfl (lv_at hl 3 rfl) ?_
    refine lv_imul hx hb dX1_split_30 ?_
    refine w_top (congrArg Value.int (pk_mul 3 t)) ?_
    refine lv_iload_n hx hb dX1_split_31 rfl (lv_at hl 0 rfl) ?_
    refine lv_iadd hx hb dX1_split_32 ?_
    refine w_top (congrArg Value.int (nI_add (3 * t) x)) ?_
    refine md_lald (v := (sC μ ((3 * t) + x))) hC hM rfl ((3 * t) + x) rfl (by omega) rfl dX1_split_33 ?_
    refine lv_ldc2 (v := (-1)) hx hb hown (hts _ q573) dX1_split_34 ?_
    refine W.lcmp hx hb dX1_split_37 ?_
    refine l_if_ne (x := (sC μ ((3 * t) + x))) (y := (-1)) (tgt := 47) hx hb dX1_split_38 (by decide) (fun c_38 => ?_) (fun c_38 => ?_)
    · refine lv_iload_n hx hb dX1_split_47 rfl (lv_at hl 0 rfl) ?_
      refine lv_aload_n hx hb dX1_split_48 rfl (lv_at hl 1 rfl) ?_
      refine md_get (v := .ref (mo + 2)) hC hM 2 (by decide) rfl q475 rfl dX1_split_49 ?_
      refine lv_iload_n hx hb dX1_split_52 rfl (lv_at hl 3 rfl) ?_
      refine md_ald (v := (nI (sz μ t))) hC hM 1 (N := 60) rfl (by decide) rfl rfl t rfl (by omega) ((hI.1.2.1 t ht).2.2.1) dX1_split_53 ?_
      have e1 : p_next μ t (sz μ t) (sz μ t - i) i = x := by rw [← hp, show sz μ t - x = (sz μ t - (x + 1)) + 1 by omega]; show (if sC μ (3 * t + x) = -1 then _ else _) = _; rw [if_neg c_38]
      refine n_icmp_ge (a := x) (b := (sz μ t)) (tgt := 92) hx hb dX1_split_54 (by decide) (by omega) (by omega) (fun h => absurd h (by omega)) (fun _ => ?_)
      refine lv_aload_n hx hb dX1_split_57 rfl (lv_at hl 1 rfl) ?_
      refine md_get (v := .ref (mo + 18)) hC hM 24 (by decide) rfl q497 rfl dX1_split_58 ?_
      refine lv_iload_n hx hb dX1_split_61 rfl (lv_at hl 2 rfl) ?_
      refine lv_iload_n hx hb dX1_split_62 rfl (lv_at hl 0 rfl) ?_
      refine lv_iconst (v := 1) hx hb dX1_split_63 (by decide) ?_
      refine lv_iadd hx hb dX1_split_64 ?_
      refine w_top (congrArg Value.int (nI_add x 1)) ?_
      refine md_ast hC hM hS 16 (N := 9) rfl (by decide) rfl rfl d rfl (by omega) dX1_split_65 (fun H locs hM hS => ?_)
      refine lv_aload_n hx hb dX1_split_66 rfl (lv_at hl 1 rfl) ?_
      refine lv_aload_n hx hb dX1_split_67 rfl (lv_at hl 1 rfl) ?_
      refine md_get (v := .ref (mo + 4)) hC hM 4 (by decide) rfl q477 rfl dX1_split_68 ?_
      refine lv_iconst (v := 3) hx hb dX1_split_71 (by decide) ?_
      refine lv_iload_n hx hb dX1_split_72 rfl (lv_at hl 3 rfl) ?_
      refine lv_imul hx hb dX1_split_73 ?_
      refine w_top (congrArg Value.int (pk_mul 3 t)) ?_
      refine lv_iload_n hx hb dX1_split_74 rfl (lv_at hl 0 rfl) ?_
      refine lv_iadd hx hb dX1_split_75 ?_
      refine w_top (congrArg Value.int (nI_add (3 * t) x)) ?_
      refine md_lald (v := (sC (setA μ 16 d (nI (x + 1))) ((3 * t) + x))) hC hM rfl ((3 * t) + x) rfl (by omega) rfl dX1_split_76 ?_
      refine lv_l2i hx hb dX1_split_77 rfl ?_
      refine lv_aload_n hx hb dX1_split_78 rfl (lv_at hl 1 rfl) ?_
      refine md_get (v := .ref (mo + 16)) hC hM 22 (by decide) rfl q495 rfl dX1_split_79 ?_
      refine lv_iload_n hx hb dX1_split_82 rfl (lv_at hl 2 rfl) ?_
      refine md_ald (v := (nI r)) hC hM 14 (N := 9) rfl (by decide) rfl rfl d rfl (by omega) h14 dX1_split_83 ?_
      refine lv_iconst (v := 1) hx hb dX1_split_84 (by decide) ?_
      refine lv_iadd hx hb dX1_split_85 ?_
      refine w_top (congrArg Value.int (nI_add r 1)) ?_
      refine w_MC (As := [.int ((sC (setA μ 16 d (nI (x + 1))) ((3 * t) + x)).toInt32), .int (nI (r + 1))]) hC hM hS (fun _ h => h) hml hl.1 (k_X1_begin l D tc mo (setA μ 16 d (nI (x + 1))) (d + 1) ((sC (setA μ 16 d (nI (x + 1))) ((3 * t) + x)).toInt32) (nI (r + 1)) (by omega) hd) q643 q645 qs13 q24 q646 rfl ⟨rfl, by decide, by decide, rfl⟩ (Nat.le_of_ble_eq_true rfl) (Nat.le_of_ble_eq_true rfl) ⟨Nat.zero_le _, Nat.zero_le _⟩ rfl (Nat.le_of_ble_eq_true rfl) dX1_split_86 (fun H locs hM hS _ _ => ?_)
      refine lv_goto (tgt := 109) hx hb dX1_split_89 (by decide) ?_
      exact md_vret hC hr hlk hM hS (by unfold p_split; rw [e1]; first | (rw [if_pos (by omega)]; done) | (rw [if_pos (by omega)]; rfl) | (rw [if_neg (by omega)]; rfl)) dX1_split_109
    · refine lv_iinc (v := (nI (x + 1))) (lv' := [(3, .int (nI (x + 1))), (0, .ref mo), (1, .int (nI d)), (2, .int (nI t))]) hx hb dX1_split_41 hl (k := 0) rfl (nI_1 x) (by decide) rfl (fun ls hl => ?_)
      refine lv_goto (tgt := 14) hx hb dX1_split_44 (by decide) ?_
      have e1 : p_next μ t (sz μ t) (sz μ t - (x + 1)) (x + 1) = p_next μ t (sz μ t) (sz μ t - i) i := by
        rw [show sz μ t - x = (sz μ t - (x + 1)) + 1 by omega] at hp
        rw [← hp]
        show _ = (if sC μ (3 * t + x) = -1 then _ else _)
        rw [if_pos c_38]
      exact ih (x + 1) H locs ls ⟨by omega, e1, hM, hS, lv_sub hl [0, 1, 2, 3] rfl⟩ (by show sz μ t - (x + 1) < sz μ t - x; omega)
theorem k_X1_work (l : Launch) (D : va_G) (tc : Nat → ClassId) (mo : Nat) (μ : MS) (d q t r : Nat) (hI : IV μ) (hd9 : d < 9) (hq : q < 32) (ht : t < 60) (hr8 : r < 8) (hd : sS μ 7 = nI (d + 1)) (h13 : sA μ 13 d = nI t) (h14 : sA μ 14 d = nI r) : MC l yX1_work cX1_work 5 none 5 110 D tc mo [.int (nI d), .int (nI q)] μ (p_work μ d q t r) none := by
  refine MC.of (by decide) rfl (Nat.le_of_ble_eq_true rfl) ?_
  intro p e s m below meth c hC hr hlk hml hM hS ls hl
  have hx := hC.1
  have hb := hC.2.1
  have hts := hC.2.2.1
  have hown := hC.2.2.2.1
  have hl : lv_has ls 5 [(0, .ref mo), (1, .int (nI d)), (2, .int (nI q))] := hl
  have hk12 := (hI.1.2.1 t ht).2.1
  have hz3 := (hI.1.2.1 t ht).2.2.2
  refine lv_aload_n hx hb dX1_work_0 rfl (lv_at hl 0 rfl) ?_
  refine md_get (v := .ref (mo + 15)) hC hM 21 (by decide) rfl q494 rfl dX1_work_1 ?_
  refine lv_iload_n hx hb dX1_work_4 rfl (lv_at hl 1 rfl) ?_
  refine md_ald (v := (nI t)) hC hM 13 (N := 9) rfl (by decide) rfl rfl d rfl (by omega) h13 dX1_work_5 ?_
  refine lv_istore_n (lv' := [(3, .int (nI t)), (0, .ref mo), (1, .int (nI d)), (2, .int (nI q))]) hx hb dX1_work_6 rfl hl (by decide) rfl (fun ls hl => ?_)
  refine lv_aload_n hx hb dX1_work_7 rfl (lv_at hl 1 rfl) ?_
  refine md_get (v := .ref (mo + 11)) hC hM 11 (by decide) rfl q484 rfl dX1_work_8 ?_
  refine lv_iload_n hx hb dX1_work_11 rfl (lv_at hl 3 rfl) ?_
  refine lv_dup2_11 hx hb dX1_work_12 rfl rfl ?_
  refine md_ald (v := (sA μ 9 q)) hC hM 9 (N := 32) rfl (by decide) rfl rfl q rfl (by omega) rfl dX1_work_13 ?_
  refine lv_iconst (v := 1) hx hb dX1_work_14 (by decide) ?_
  refine lv_iadd hx hb dX1_work_15 ?_
  refine md_ast hC hM hS 9 (N := 32) rfl (by decide) rfl rfl q rfl (by omega) dX1_work_16 (fun H locs hM hS => ?_)
  refine lv_aload_n hx hb dX1_work_17 rfl (lv_at hl 1 rfl) ?_
  refine lv_dup hx hb dX1_work_18 rfl ?_
  refine md_get (v := .int (sS (setA μ 9 q ((sA μ 9 q) + 1)) 8)) hC hM 26 (by decide) rfl q499 rfl dX1_work_19 ?_
  refine lv_iconst (v := 1) hx hb dX1_work_22 (by decide) ?_
  refine lv_iadd hx hb dX1_work_23 ?_
  refine md_put hC hM hS 8 (by decide) q499 dX1_work_24 (fun H locs hM hS => ?_)
  have hM : Mod D tc mo (p_wk μ q) H := hM
  refine lv_aload_n hx hb dX1_work_27 rfl (lv_at hl 1 rfl) ?_
  refine md_get (v := .ref (mo + 7)) hC hM 7 (by decide) rfl q480 rfl dX1_work_28 ?_
  refine lv_iload_n hx hb dX1_work_31 rfl (lv_at hl 3 rfl) ?_
  refine md_ald (v := (nI (ac μ q))) hC hM 5 (N := 32) rfl (by decide) rfl rfl q rfl (by omega) ((hI.1.2.2.2 q hq).2.2.1) dX1_work_32 ?_
  rcases (show ac μ q = 0 ∨ ac μ q = 1 ∨ ac μ q = 2 ∨ ac μ q = 3 ∨ ac μ q = 4 by have := (hI.1.2.2.2 q hq).2.2.2; omega) with ea | ea | ea | ea | ea
  · rw [ea]
    refine lv_tableIn (off := 31) (tgt := 64) hx hb dX1_work_33 (by decide) (by decide) rfl (by decide) ?_
    refine lv_aload_n hx hb dX1_work_64 rfl (lv_at hl 1 rfl) ?_
    refine md_get (v := .ref (mo + 9)) hC hM 9 (by decide) rfl q482 rfl dX1_work_65 ?_
    refine lv_iload_n hx hb dX1_work_68 rfl (lv_at hl 3 rfl) ?_
    refine lv_dup2_11 hx hb dX1_work_69 rfl rfl ?_
    refine md_ald (v := (sA (p_wk μ q) 7 q)) hC hM 7 (N := 32) rfl (by decide) rfl rfl q rfl (by omega) rfl dX1_work_70 ?_
    refine w_join (fun x => F0 m 93 ls (x :: .int (sA (p_wk μ q) 7 q) :: .int (nI q) :: .ref (mo + 9) :: [])) (.int (talI μ t)) ?_ (fun J => ?_)
    · refine lv_iadd hx hb dX1_work_93 ?_
      refine md_ast hC hM hS 7 (N := 32) rfl (by decide) rfl rfl q rfl (by omega) dX1_work_94 (fun H locs hM hS => ?_)
      refine lv_goto (tgt := 180) hx hb dX1_work_95 (by decide) ?_
      refine lv_aload_n hx hb dX1_work_180 rfl (lv_at hl 1 rfl) ?_
      refine md_get (v := .ref (mo + 17)) hC hM 23 (by decide) rfl q496 rfl dX1_work_181 ?_
      refine lv_iload_n hx hb dX1_work_184 rfl (lv_at hl 2 rfl) ?_
      refine lv_dup2_11 hx hb dX1_work_185 rfl rfl ?_
      refine md_ald (v := (sA (setA (p_wk μ q) 7 q ((sA (p_wk μ q) 7 q) + (talI μ t))) 15 d)) hC hM 15 (N := 9) rfl (by decide) rfl rfl d rfl (by omega) rfl dX1_work_186 ?_
      refine lv_iconst (v := 1) hx hb dX1_work_187 (by decide) ?_
      refine lv_iadd hx hb dX1_work_188 ?_
      refine md_ast hC hM hS 15 (N := 9) rfl (by decide) rfl rfl d rfl (by omega) dX1_work_189 (fun H locs hM hS => ?_)
      exact md_vret hC hr hlk hM hS (by unfold p_work; rw [if_pos ea]; first | done | rfl) dX1_work_190
    · refine lv_aload_n hx hb dX1_work_71 rfl (lv_at hl 1 rfl) ?_
      refine md_get (v := .ref (mo + 1)) hC hM 1 (by decide) rfl q474 rfl dX1_work_72 ?_
      refine lv_iload_n hx hb dX1_work_75 rfl (lv_at hl 0 rfl) ?_
      refine md_ald (v := (nI (kd μ t))) hC hM 0 (N := 60) rfl (by decide) rfl rfl t rfl (by omega) ((hI.1.2.1 t ht).1) dX1_work_76 ?_
      refine w_SC (As := [.int (nI (kd μ t))]) hx hb hts hown hml hl.1 (k_X1_isOne l (kd μ t) (by omega)) q563 q564 q24 q565 rfl ⟨by decide, by decide, rfl⟩ (Nat.le_of_ble_eq_true rfl) (Nat.le_of_ble_eq_true rfl) ⟨Nat.zero_le _, Nat.zero_le _⟩ rfl (Nat.le_of_ble_eq_true rfl) dX1_work_77 ?_
      refine b_ifeq (w := (oneN (kd μ t))) (tgt := 87) hx hb dX1_work_80 (by decide) (fun c_80 => ?_) (fun c_80 => ?_)
      · refine lv_aload_n hx hb dX1_work_87 rfl (lv_at hl 1 rfl) ?_
        refine md_get (v := .ref (mo + 2)) hC hM 2 (by decide) rfl q475 rfl dX1_work_88 ?_
        refine lv_iload_n hx hb dX1_work_91 rfl (lv_at hl 0 rfl) ?_
        refine md_ald (v := (nI (sz μ t))) hC hM 1 (N := 60) rfl (by decide) rfl rfl t rfl (by omega) ((hI.1.2.1 t ht).2.2.1) dX1_work_92 ?_
        exact J _ (by simp [talI, *])
      · refine lv_iconst (v := 1) hx hb dX1_work_83 (by decide) ?_
        refine lv_goto (tgt := 93) hx hb dX1_work_84 (by decide) ?_
        exact J _ (by simp [talI, *])
  · rw [ea]
    refine lv_tableIn (off := 65) (tgt := 98) hx hb dX1_work_33 (by decide) (by decide) rfl (by decide) ?_
    refine lv_aload_n hx hb dX1_work_98 rfl (lv_at hl 1 rfl) ?_
    refine lv_iload_n hx hb dX1_work_99 rfl (lv_at hl 0 rfl) ?_
    refine w_MC (As := [.int (nI t)]) hC hM hS (fun _ h => h) hml hl.1 (k_X1_turn l D tc mo (p_wk μ q) (SR_WF (wk_SR μ q) hI.1) t (by omega)) q663 q665 qs18 q24 q666 rfl ⟨rfl, by decide, by decide, rfl⟩ (Nat.le_of_ble_eq_true rfl) (Nat.le_of_ble_eq_true rfl) ⟨Nat.zero_le _, Nat.zero_le _⟩ rfl (Nat.le_of_ble_eq_true rfl) dX1_work_100 (fun H locs hM hS _ _ => ?_)
    refine lv_goto (tgt := 180) hx hb dX1_work_103 (by decide) ?_
    refine lv_aload_n hx hb dX1_work_180 rfl (lv_at hl 1 rfl) ?_
    refine md_get (v := .ref (mo + 17)) hC hM 23 (by decide) rfl q496 rfl dX1_work_181 ?_
    refine lv_iload_n hx hb dX1_work_184 rfl (lv_at hl 2 rfl) ?_
    refine lv_dup2_11 hx hb dX1_work_185 rfl rfl ?_
    refine md_ald (v := (sA (p_turn (p_wk μ q) t) 15 d)) hC hM 15 (N := 9) rfl (by decide) rfl rfl d rfl (by omega) rfl dX1_work_186 ?_
    refine lv_iconst (v := 1) hx hb dX1_work_187 (by decide) ?_
    refine lv_iadd hx hb dX1_work_188 ?_
    refine md_ast hC hM hS 15 (N := 9) rfl (by decide) rfl rfl d rfl (by omega) dX1_work_189 (fun H locs hM hS => ?_)
    exact md_vret hC hr hlk hM hS (by unfold p_work; rw [if_neg (by omega), if_pos ea]; first | done | rfl) dX1_work_190
  · rw [ea]
    refine lv_tableIn (off := 73) (tgt := 106) hx hb dX1_work_33 (by decide) (by decide) rfl (by decide) ?_
    refine lv_aload_n hx hb dX1_work_106 rfl (lv_at hl 1 rfl) ?_
    refine lv_iload_n hx hb dX1_work_107 rfl (lv_at hl 0 rfl) ?_
    refine w_MC (As := [.int (nI t)]) hC hM hS (fun _ h => h) hml hl.1 (k_X1_stampAll l D tc mo (p_wk μ q) (IV_sr (wk_SR μ q) rfl hI) t (by omega)) q667 q669 qs19 q24 q670 rfl ⟨rfl, by decide, by decide, rfl⟩ (Nat.le_of_ble_eq_true rfl) (Nat.le_of_ble_eq_true rfl) ⟨Nat.zero_le _, Nat.zero_le _⟩ rfl (Nat.le_of_ble_eq_true rfl) dX1_work_108 (fun H locs hM hS _ _ => ?_)
    refine lv_goto (tgt := 180) hx hb dX1_work_111 (by decide) ?_
    refine lv_aload_n hx hb dX1_work_180 rfl (lv_at hl 1 rfl) ?_
    refine md_get (v := .ref (mo + 17)) hC hM 23 (by decide) rfl q496 rfl dX1_work_181 ?_
    refine lv_iload_n hx hb dX1_work_184 rfl (lv_at hl 2 rfl) ?_
    refine lv_dup2_11 hx hb dX1_work_185 rfl rfl ?_
    refine md_ald (v := (sA (p_stampAll (p_wk μ q) t) 15 d)) hC hM 15 (N := 9) rfl (by decide) rfl rfl d rfl (by omega) rfl dX1_work_186 ?_
    refine lv_iconst (v := 1) hx hb dX1_work_187 (by decide) ?_
    refine lv_iadd hx hb dX1_work_188 ?_
    refine md_ast hC hM hS 15 (N := 9) rfl (by decide) rfl rfl d rfl (by omega) dX1_work_189 (fun H locs hM hS => ?_)
    exact md_vret hC hr hlk hM hS (by unfold p_work; rw [if_neg (by omega), if_neg (by omega), if_pos ea]; first | done | rfl) dX1_work_190
  · rw [ea]
    refine lv_tableIn (off := 81) (tgt := 114) hx hb dX1_work_33 (by decide) (by decide) rfl (by decide) ?_
    refine lv_aload_n hx hb dX1_work_114 rfl (lv_at hl 1 rfl) ?_
    refine md_get (v := .ref (mo + 1)) hC hM 1 (by decide) rfl q474 rfl dX1_work_115 ?_
    refine lv_iload_n hx hb dX1_work_118 rfl (lv_at hl 0 rfl) ?_
    refine md_ald (v := (nI (kd μ t))) hC hM 0 (N := 60) rfl (by decide) rfl rfl t rfl (by omega) ((hI.1.2.1 t ht).1) dX1_work_119 ?_
    refine w_SC (As := [.int (nI (kd μ t))]) hx hb hts hown hml hl.1 (k_X1_isOfThings l (kd μ t) (by omega)) q570 q571 q24 q572 rfl ⟨by decide, by decide, rfl⟩ (Nat.le_of_ble_eq_true rfl) (Nat.le_of_ble_eq_true rfl) ⟨Nat.zero_le _, Nat.zero_le _⟩ rfl (Nat.le_of_ble_eq_true rfl) dX1_work_120 ?_
    refine b_ifeq (w := (thgN (kd μ t))) (tgt := 180) hx hb dX1_work_123 (by decide) (fun c_123 => ?_) (fun c_123 => ?_)
    · refine lv_aload_n hx hb dX1_work_180 rfl (lv_at hl 1 rfl) ?_
      refine md_get (v := .ref (mo + 17)) hC hM 23 (by decide) rfl q496 rfl dX1_work_181 ?_
      refine lv_iload_n hx hb dX1_work_184 rfl (lv_at hl 2 rfl) ?_
      refine lv_dup2_11 hx hb dX1_work_185 rfl rfl ?_
      refine md_ald (v := (sA (p_wk μ q) 15 d)) hC hM 15 (N := 9) rfl (by decide) rfl rfl d rfl (by omega) rfl dX1_work_186 ?_
      refine lv_iconst (v := 1) hx hb dX1_work_187 (by decide) ?_
      refine lv_iadd hx hb dX1_work_188 ?_
      refine md_ast hC hM hS 15 (N := 9) rfl (by decide) rfl rfl d rfl (by omega) dX1_work_189 (fun H locs hM hS => ?_)
      exact md_vret hC hr hlk hM hS (by unfold p_work; rw [if_neg (by omega), if_neg (by omega), if_neg (by omega), if_pos ea]; first | (rw [if_neg (fun h => by rw [c_123] at h; exact absurd h.1 (by decide))]; first | done | rfl) | (rw [if_neg (fun h => absurd h.2 (by omega))]; first | done | rfl)) dX1_work_190
    · refine lv_aload_n hx hb dX1_work_126 rfl (lv_at hl 1 rfl) ?_
      refine md_get (v := .ref (mo + 16)) hC hM 22 (by decide) rfl q495 rfl dX1_work_127 ?_
      refine lv_iload_n hx hb dX1_work_130 rfl (lv_at hl 2 rfl) ?_
      refine md_ald (v := (nI r)) hC hM 14 (N := 9) rfl (by decide) rfl rfl d rfl (by omega) h14 dX1_work_131 ?_
      refine lv_bipush (v := 7) hx hb dX1_work_132 (by decide) ?_
      refine n_icmp_ge (a := r) (b := 7) (tgt := 180) hx hb dX1_work_134 (by decide) (by omega) (by omega) (fun c_134 => ?_) (fun c_134 => ?_)
      · refine lv_aload_n hx hb dX1_work_180 rfl (lv_at hl 1 rfl) ?_
        refine md_get (v := .ref (mo + 17)) hC hM 23 (by decide) rfl q496 rfl dX1_work_181 ?_
        refine lv_iload_n hx hb dX1_work_184 rfl (lv_at hl 2 rfl) ?_
        refine lv_dup2_11 hx hb dX1_work_185 rfl rfl ?_
        refine md_ald (v := (sA (p_wk μ q) 15 d)) hC hM 15 (N := 9) rfl (by decide) rfl rfl d rfl (by omega) rfl dX1_work_186 ?_
        refine lv_iconst (v := 1) hx hb dX1_work_187 (by decide) ?_
        refine lv_iadd hx hb dX1_work_188 ?_
        refine md_ast hC hM hS 15 (N := 9) rfl (by decide) rfl rfl d rfl (by omega) dX1_work_189 (fun H locs hM hS => ?_)
        exact md_vret hC hr hlk hM hS (by unfold p_work; rw [if_neg (by omega), if_neg (by omega), if_neg (by omega), if_pos ea]; first | (rw [if_neg (fun h => by rw [c_123] at h; exact absurd h.1 (by decide))]; first | done | rfl) | (rw [if_neg (fun h => absurd h.2 (by omega))]; first | done | rfl)) dX1_work_190
      · refine lv_aload_n hx hb dX1_work_137 rfl (lv_at hl 1 rfl) ?_
        refine md_get (v := .ref (mo + 18)) hC hM 24 (by decide) rfl q497 rfl dX1_work_138 ?_
        refine lv_iload_n hx hb dX1_work_141 rfl (lv_at hl 2 rfl) ?_
        refine lv_iconst (v := 0) hx hb dX1_work_142 (by decide) ?_
        refine md_ast hC hM hS 16 (N := 9) rfl (by decide) rfl rfl d rfl (by omega) dX1_work_143 (fun H locs hM hS => ?_)
        exact md_vret hC hr hlk hM hS (by unfold p_work; rw [if_neg (by omega), if_neg (by omega), if_neg (by omega), if_pos ea]; rw [if_pos ⟨c_123, by omega⟩]; first | done | rfl) dX1_work_144
  · rw [ea]
    refine lv_tableOut (tgt := 145) hx hb dX1_work_33 (by decide) (by decide) ?_
    refine lv_aload_n hx hb dX1_work_145 rfl (lv_at hl 1 rfl) ?_
    refine md_get (v := .ref (mo + 10)) hC hM 10 (by decide) rfl q483 rfl dX1_work_146 ?_
    refine lv_iload_n hx hb dX1_work_149 rfl (lv_at hl 3 rfl) ?_
    refine md_ald (v := (sA (p_wk μ q) 8 q)) hC hM 8 (N := 32) rfl (by decide) rfl rfl q rfl (by omega) rfl dX1_work_150 ?_
    refine lv_istore (lv' := [(4, .int (sA (p_wk μ q) 8 q)), (3, .int (nI t)), (0, .ref mo), (1, .int (nI d)), (2, .int (nI q))]) hx hb dX1_work_151 hl (by decide) rfl (fun ls hl => ?_)
    refine lv_aload_n hx hb dX1_work_153 rfl (lv_at hl 2 rfl) ?_
    refine md_get (v := .ref (mo + 10)) hC hM 10 (by decide) rfl q483 rfl dX1_work_154 ?_
    refine lv_iload_n hx hb dX1_work_157 rfl (lv_at hl 4 rfl) ?_
    refine lv_iload_n hx hb dX1_work_158 rfl (lv_at hl 1 rfl) ?_
    refine md_ast hC hM hS 8 (N := 32) rfl (by decide) rfl rfl q rfl (by omega) dX1_work_159 (fun H locs hM hS => ?_)
    refine lv_iload hx hb dX1_work_160 (lv_at hl 0 rfl) ?_
    refine lv_iconst (v := (-1)) hx hb dX1_work_162 (by decide) ?_
    refine lv_icmp_ne (tgt := 172) hx hb dX1_work_163 (by decide) (fun c_163 => ?_) (fun c_163 => ?_)
    · refine lv_aload_n hx hb dX1_work_172 rfl (lv_at hl 2 rfl) ?_
      refine md_get (v := .ref (mo + 15)) hC hM 21 (by decide) rfl q494 rfl dX1_work_173 ?_
      refine lv_iload_n hx hb dX1_work_176 rfl (lv_at hl 3 rfl) ?_
      refine lv_iload hx hb dX1_work_177 (lv_at hl 0 rfl) ?_
      refine md_ast hC hM hS 13 (N := 9) rfl (by decide) rfl rfl d rfl (by omega) dX1_work_179 (fun H locs hM hS => ?_)
      refine lv_aload_n hx hb dX1_work_180 rfl (lv_at hl 2 rfl) ?_
      refine md_get (v := .ref (mo + 17)) hC hM 23 (by decide) rfl q496 rfl dX1_work_181 ?_
      refine lv_iload_n hx hb dX1_work_184 rfl (lv_at hl 3 rfl) ?_
      refine lv_dup2_11 hx hb dX1_work_185 rfl rfl ?_
      refine md_ald (v := (sA (setA (setA (p_wk μ q) 8 q (nI t)) 13 d (sA (p_wk μ q) 8 q)) 15 d)) hC hM 15 (N := 9) rfl (by decide) rfl rfl d rfl (by omega) rfl dX1_work_186 ?_
      refine lv_iconst (v := 1) hx hb dX1_work_187 (by decide) ?_
      refine lv_iadd hx hb dX1_work_188 ?_
      refine md_ast hC hM hS 15 (N := 9) rfl (by decide) rfl rfl d rfl (by omega) dX1_work_189 (fun H locs hM hS => ?_)
      exact md_vret hC hr hlk hM hS (by unfold p_work; rw [if_neg (by omega), if_neg (by omega), if_neg (by omega), if_neg (by omega)]; rw [if_neg (show ¬ sA μ 8 q = -1 from c_163)]; first | done | rfl) dX1_work_190
    · refine lv_aload_n hx hb dX1_work_166 rfl (lv_at hl 2 rfl) ?_
      refine lv_iconst (v := (-1)) hx hb dX1_work_167 (by decide) ?_
      refine w_MC (As := [.int (-1)]) hC hM hS (fun _ h => h) hml hl.1 (k_X1_ends l D tc mo (setA (p_wk μ q) 8 q (nI t)) d (-1) (by omega) hd) q651 q653 qs15 q24 q654 rfl ⟨rfl, by decide, by decide, rfl⟩ (Nat.le_of_ble_eq_true rfl) (Nat.le_of_ble_eq_true rfl) ⟨Nat.zero_le _, Nat.zero_le _⟩ rfl (Nat.le_of_ble_eq_true rfl) dX1_work_168 (fun H locs hM hS _ _ => ?_)
      exact md_vret hC hr hlk hM hS (by unfold p_work; rw [if_neg (by omega), if_neg (by omega), if_neg (by omega), if_neg (by omega)]; rw [if_pos (show sA μ 8 q = -1 from c_163)]; first | done | rfl) dX1_work_171
theorem k_X1_comes (l : Launch) (D : va_G) (tc : Nat → ClassId) (mo : Nat) (μ : MS) (d t r k : Nat) (hI : IV μ) (hd9 : d < 9) (ht : t < 60) (hr8 : r < 8) (hk : k < 4) (hd : sS μ 7 = nI (d + 1)) (h13 : sA μ 13 d = nI t) (h14 : sA μ 14 d = nI r) (h15 : sA μ 15 d = nI k) : MC l yX1_comes cX1_comes 3 none 6 134 D tc mo [.int (nI d)] μ (p_comes μ d (4 * r + k) t r) none := by
  refine MC.of (by decide) rfl (Nat.le_of_ble_eq_true rfl) ?_
  intro p e s m below meth c hC hr hlk hml hM hS ls hl
  have hx := hC.1
  have hb := hC.2.1
  have hts := hC.2.2.1
  have hown := hC.2.2.2.1
  have hl : lv_has ls 3 [(0, .ref mo), (1, .int (nI d))] := hl
  have hk12 := (hI.1.2.1 t ht).2.1
  have hf13 := (hI.1.2.2.2 (4 * r + k) (by omega)).2.1
  refine lv_iconst (v := 4) hx hb dX1_comes_0 (by decide) ?_
  refine lv_aload_n hx hb dX1_comes_1 rfl (lv_at hl 0 rfl) ?_
  refine md_get (v := .ref (mo + 16)) hC hM 22 (by decide) rfl q495 rfl dX1_comes_2 ?_
  refine lv_iload_n hx hb dX1_comes_5 rfl (lv_at hl 1 rfl) ?_
  refine md_ald (v := (nI r)) hC hM 14 (N := 9) rfl (by decide) rfl rfl d rfl (by omega) h14 dX1_comes_6 ?_
  refine lv_imul hx hb dX1_comes_7 ?_
  refine w_top (congrArg Value.int (pk_mul 4 r)) ?_
  refine lv_aload_n hx hb dX1_comes_8 rfl (lv_at hl 0 rfl) ?_
  refine md_get (v := .ref (mo + 17)) hC hM 23 (by decide) rfl q496 rfl dX1_comes_9 ?_
  refine lv_iload_n hx hb dX1_comes_12 rfl (lv_at hl 1 rfl) ?_
  refine md_ald (v := (nI k)) hC hM 15 (N := 9) rfl (by decide) rfl rfl d rfl (by omega) h15 dX1_comes_13 ?_
  refine lv_iadd hx hb dX1_comes_14 ?_
  refine w_top (congrArg Value.int (nI_add (4 * r) k)) ?_
  refine lv_istore_n (lv' := [(2, .int (nI ((4 * r) + k))), (0, .ref mo), (1, .int (nI d))]) hx hb dX1_comes_15 rfl hl (by decide) rfl (fun ls hl => ?_)
  refine lv_aload_n hx hb dX1_comes_16 rfl (lv_at hl 1 rfl) ?_
  refine md_get (v := .ref (mo + 1)) hC hM 1 (by decide) rfl q474 rfl dX1_comes_17 ?_
  refine lv_aload_n hx hb dX1_comes_20 rfl (lv_at hl 1 rfl) ?_
  refine md_get (v := .ref (mo + 15)) hC hM 21 (by decide) rfl q494 rfl dX1_comes_21 ?_
  refine lv_iload_n hx hb dX1_comes_24 rfl (lv_at hl 2 rfl) ?_
  refine md_ald (v := (nI t)) hC hM 13 (N := 9) rfl (by decide) rfl rfl d rfl (by omega) h13 dX1_comes_25 ?_
  refine md_ald (v := (nI (kd μ t))) hC hM 0 (N := 60) rfl (by decide) rfl rfl t rfl (by omega) ((hI.1.2.1 t ht).1) dX1_comes_26 ?_
  refine lv_aload_n hx hb dX1_comes_27 rfl (lv_at hl 1 rfl) ?_
  refine md_get (v := .ref (mo + 6)) hC hM 6 (by decide) rfl q479 rfl dX1_comes_28 ?_
  refine lv_iload_n hx hb dX1_comes_31 rfl (lv_at hl 0 rfl) ?_
  refine md_ald (v := (nI (fm μ (4 * r + k)))) hC hM 4 (N := 32) rfl (by decide) rfl rfl ((4 * r) + k) rfl (by omega) ((hI.1.2.2.2 (4 * r + k) (by omega)).1) dX1_comes_32 ?_
  refine w_SC (As := [.int (nI (kd μ t)), .int (nI (fm μ (4 * r + k)))]) hx hb hts hown hml hl.1 (k_X1_goes l (kd μ t) (fm μ (4 * r + k)) (by omega) (by first | omega | exact wantN_lt _ | exact holdN_lt _)) q606 q607 q24 q608 rfl ⟨by decide, by decide, rfl⟩ (Nat.le_of_ble_eq_true rfl) (Nat.le_of_ble_eq_true rfl) ⟨Nat.zero_le _, Nat.zero_le _⟩ rfl (Nat.le_of_ble_eq_true rfl) dX1_comes_33 ?_
  refine b_ifeq (w := (goesN (kd μ t) (fm μ (4 * r + k)))) (tgt := 48) hx hb dX1_comes_36 (by decide) (fun c_36 => ?_) (fun c_36 => ?_)
  · refine lv_aload_n hx hb dX1_comes_48 rfl (lv_at hl 1 rfl) ?_
    refine md_get (v := .ref (mo + 8)) hC hM 8 (by decide) rfl q481 rfl dX1_comes_49 ?_
    refine lv_iload_n hx hb dX1_comes_52 rfl (lv_at hl 0 rfl) ?_
    refine md_zald (v := (sA μ 6 ((4 * r) + k))) hC hM 6 (N := 32) rfl (by decide) rfl rfl ((4 * r) + k) rfl (by omega) rfl dX1_comes_53 ?_
    refine lv_if_ne (tgt := 66) hx hb dX1_comes_54 (by decide) (fun c_54 => ?_) (fun c_54 => ?_)
    · refine lv_aload_n hx hb dX1_comes_66 rfl (lv_at hl 1 rfl) ?_
      refine md_get (v := .ref (mo + 17)) hC hM 23 (by decide) rfl q496 rfl dX1_comes_67 ?_
      refine lv_iload_n hx hb dX1_comes_70 rfl (lv_at hl 2 rfl) ?_
      refine lv_dup2_11 hx hb dX1_comes_71 rfl rfl ?_
      refine md_ald (v := (sA μ 15 d)) hC hM 15 (N := 9) rfl (by decide) rfl rfl d rfl (by omega) rfl dX1_comes_72 ?_
      refine lv_iconst (v := 1) hx hb dX1_comes_73 (by decide) ?_
      refine lv_iadd hx hb dX1_comes_74 ?_
      refine md_ast hC hM hS 15 (N := 9) rfl (by decide) rfl rfl d rfl (by omega) dX1_comes_75 (fun H locs hM hS => ?_)
      refine lv_goto (tgt := 123) hx hb dX1_comes_76 (by decide) ?_
      exact md_vret hC hr hlk hM hS (by unfold p_comes; rw [if_neg (by rw [c_36]; decide)]; first | (rw [if_neg (fun h => c_54 h.1)]; first | done | rfl) | (rw [if_neg (fun h => c_63 h.2)]; first | done | rfl)) dX1_comes_123
    · refine lv_aload_n hx hb dX1_comes_57 rfl (lv_at hl 1 rfl) ?_
      refine md_get (v := .ref (mo + 14)) hC hM 14 (by decide) rfl q487 rfl dX1_comes_58 ?_
      refine lv_iload_n hx hb dX1_comes_61 rfl (lv_at hl 0 rfl) ?_
      refine md_zald (v := (sA μ 12 ((4 * r) + k))) hC hM 12 (N := 32) rfl (by decide) rfl rfl ((4 * r) + k) rfl (by omega) rfl dX1_comes_62 ?_
      refine lv_if_eq (tgt := 79) hx hb dX1_comes_63 (by decide) (fun c_63 => ?_) (fun c_63 => ?_)
      · refine lv_aload_n hx hb dX1_comes_79 rfl (lv_at hl 1 rfl) ?_
        refine md_get (v := .ref (mo + 12)) hC hM 12 (by decide) rfl q485 rfl dX1_comes_80 ?_
        refine lv_iload_n hx hb dX1_comes_83 rfl (lv_at hl 0 rfl) ?_
        refine lv_dup2_11 hx hb dX1_comes_84 rfl rfl ?_
        refine md_ald (v := (sA μ 10 ((4 * r) + k))) hC hM 10 (N := 32) rfl (by decide) rfl rfl ((4 * r) + k) rfl (by omega) rfl dX1_comes_85 ?_
        refine lv_iconst (v := 1) hx hb dX1_comes_86 (by decide) ?_
        refine lv_iadd hx hb dX1_comes_87 ?_
        refine md_ast hC hM hS 10 (N := 32) rfl (by decide) rfl rfl ((4 * r) + k) rfl (by omega) dX1_comes_88 (fun H locs hM hS => ?_)
        refine lv_aload_n hx hb dX1_comes_89 rfl (lv_at hl 1 rfl) ?_
        refine md_get (v := .ref (mo + 14)) hC hM 14 (by decide) rfl q487 rfl dX1_comes_90 ?_
        refine lv_iload_n hx hb dX1_comes_93 rfl (lv_at hl 0 rfl) ?_
        refine lv_iconst (v := 1) hx hb dX1_comes_94 (by decide) ?_
        refine md_zast hC hM hS 12 (N := 32) rfl (by decide) rfl rfl ((4 * r) + k) rfl (by omega) (by decide) dX1_comes_95 (fun H locs hM hS => ?_)
        refine lv_aload_n hx hb dX1_comes_96 rfl (lv_at hl 1 rfl) ?_
        refine md_get (v := .ref (mo + 13)) hC hM 13 (by decide) rfl q486 rfl dX1_comes_97 ?_
        refine lv_iload_n hx hb dX1_comes_100 rfl (lv_at hl 0 rfl) ?_
        refine lv_aload_n hx hb dX1_comes_101 rfl (lv_at hl 1 rfl) ?_
        refine md_get (v := .ref (mo + 15)) hC hM 21 (by decide) rfl q494 rfl dX1_comes_102 ?_
        refine lv_iload_n hx hb dX1_comes_105 rfl (lv_at hl 2 rfl) ?_
        refine md_ald (v := (nI t)) hC hM 13 (N := 9) rfl (by decide) rfl rfl d rfl (by omega) h13 dX1_comes_106 ?_
        refine md_ast hC hM hS 11 (N := 32) rfl (by decide) rfl rfl ((4 * r) + k) rfl (by omega) dX1_comes_107 (fun H locs hM hS => ?_)
        refine lv_aload_n hx hb dX1_comes_108 rfl (lv_at hl 1 rfl) ?_
        refine lv_dup hx hb dX1_comes_109 rfl ?_
        refine md_get (v := .int (sS (setA (setA (setA μ 10 ((4 * r) + k) ((sA μ 10 ((4 * r) + k)) + 1)) 12 ((4 * r) + k) 1) 11 ((4 * r) + k) (nI t)) 5)) hC hM 19 (by decide) rfl q492 rfl dX1_comes_110 ?_
        refine lv_iconst (v := 1) hx hb dX1_comes_113 (by decide) ?_
        refine lv_iadd hx hb dX1_comes_114 ?_
        refine md_put hC hM hS 5 (by decide) q492 dX1_comes_115 (fun H locs hM hS => ?_)
        refine lv_aload_n hx hb dX1_comes_118 rfl (lv_at hl 1 rfl) ?_
        refine lv_iconst (v := (-1)) hx hb dX1_comes_119 (by decide) ?_
        refine w_MC (As := [.int (-1)]) hC hM hS (fun _ h => h) hml hl.1 (k_X1_ends l D tc mo (setS (setA (setA (setA μ 10 ((4 * r) + k) ((sA μ 10 ((4 * r) + k)) + 1)) 12 ((4 * r) + k) 1) 11 ((4 * r) + k) (nI t)) 5 ((sS (setA (setA (setA μ 10 ((4 * r) + k) ((sA μ 10 ((4 * r) + k)) + 1)) 12 ((4 * r) + k) 1) 11 ((4 * r) + k) (nI t)) 5) + 1)) d (-1) (by omega) hd) q651 q653 qs15 q24 q654 rfl ⟨rfl, by decide, by decide, rfl⟩ (Nat.le_of_ble_eq_true rfl) (Nat.le_of_ble_eq_true rfl) ⟨Nat.zero_le _, Nat.zero_le _⟩ rfl (Nat.le_of_ble_eq_true rfl) dX1_comes_120 (fun H locs hM hS _ _ => ?_)
        exact md_vret hC hr hlk hM hS (by unfold p_comes; rw [if_neg (by rw [c_36]; decide), if_pos ⟨c_54, c_63⟩]; first | done | rfl) dX1_comes_123
      · refine lv_aload_n hx hb dX1_comes_66 rfl (lv_at hl 1 rfl) ?_
        refine md_get (v := .ref (mo + 17)) hC hM 23 (by decide) rfl q496 rfl dX1_comes_67 ?_
        refine lv_iload_n hx hb dX1_comes_70 rfl (lv_at hl 2 rfl) ?_
        refine lv_dup2_11 hx hb dX1_comes_71 rfl rfl ?_
        refine md_ald (v := (sA μ 15 d)) hC hM 15 (N := 9) rfl (by decide) rfl rfl d rfl (by omega) rfl dX1_comes_72 ?_
        refine lv_iconst (v := 1) hx hb dX1_comes_73 (by decide) ?_
        refine lv_iadd hx hb dX1_comes_74 ?_
        refine md_ast hC hM hS 15 (N := 9) rfl (by decide) rfl rfl d rfl (by omega) dX1_comes_75 (fun H locs hM hS => ?_)
        refine lv_goto (tgt := 123) hx hb dX1_comes_76 (by decide) ?_
        exact md_vret hC hr hlk hM hS (by unfold p_comes; rw [if_neg (by rw [c_36]; decide)]; first | (rw [if_neg (fun h => c_54 h.1)]; first | done | rfl) | (rw [if_neg (fun h => c_63 h.2)]; first | done | rfl)) dX1_comes_123
  · refine lv_aload_n hx hb dX1_comes_39 rfl (lv_at hl 1 rfl) ?_
    refine lv_iload_n hx hb dX1_comes_40 rfl (lv_at hl 2 rfl) ?_
    refine lv_iload_n hx hb dX1_comes_41 rfl (lv_at hl 0 rfl) ?_
    refine w_MC (As := [.int (nI d), .int (nI ((4 * r) + k))]) hC hM hS (fun _ h => h) hml hl.1 (k_X1_work l D tc mo μ d (4 * r + k) t r hI (by omega) (by omega) ht hr8 hd h13 h14) q659 q661 qs17 q24 q662 rfl ⟨rfl, by decide, by decide, rfl⟩ (Nat.le_of_ble_eq_true rfl) (Nat.le_of_ble_eq_true rfl) ⟨Nat.zero_le _, Nat.zero_le _⟩ rfl (Nat.le_of_ble_eq_true rfl) dX1_comes_42 (fun H locs hM hS _ _ => ?_)
    refine lv_goto (tgt := 123) hx hb dX1_comes_45 (by decide) ?_
    exact md_vret hC hr hlk hM hS (by unfold p_comes; rw [if_pos c_36]) dX1_comes_123

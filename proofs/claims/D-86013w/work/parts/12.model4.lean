/-! THE MODEL: turning, stamping -/
set_option maxRecDepth 100000
set_option maxHeartbeats 4000000
theorem k_X1_turn (l : Launch) (D : va_G) (tc : Nat → ClassId) (mo : Nat) (μ : MS) (hW : WF μ) (t : Nat) (ht : t < 60) : MC l yX1_turn cX1_turn 5 none 0 0 D tc mo [.int (nI t)] μ (p_turn μ t) none := by
  refine MC.of (by decide) rfl (Nat.le_of_ble_eq_true rfl) ?_
  intro p e s m below meth c hC hr hlk hml hM hS ls hl
  have hx := hC.1
  have hb := hC.2.1
  have hts := hC.2.2.1
  have hown := hC.2.2.2.1
  have hl : lv_has ls 5 [(0, .ref mo), (1, .int (nI t))] := hl
  have hk12 := (hW.2.1 t ht).2.1
  have hz3 := (hW.2.1 t ht).2.2.2
  refine lv_iconst (v := 0) hx hb dX1_turn_0 (by decide) ?_
  refine lv_istore_n (lv' := [(2, .int 0), (0, .ref mo), (1, .int (nI t))]) hx hb dX1_turn_1 rfl hl (by decide) rfl (fun ls hl => ?_)
  refine w_loop (σ := Nat × MS) (fun x H locs ls => x.1 ≤ sz μ t / 2 ∧ (p_turnL t (sz μ t) (sz μ t / 2 - x.1) x.1 x.2 = p_turn μ t) ∧ (sA x.2 1 = sA μ 1) ∧ Mod D tc mo x.2 H ∧ va_S (md_A mo) s.heap H locs ∧ lv_has ls 5 [(2, .int (nI x.1)), (0, .ref mo), (1, .int (nI t))]) (fun x => sz μ t / 2 - x.1) ?_ (0, μ) ⟨Nat.zero_le _, rfl, rfl, hM, hS, lv_sub hl [0, 1, 2] rfl⟩
  intro x H locs ls hI ih
  obtain ⟨i, ν⟩ := x
  obtain ⟨hi, hp, hs1, hM, hS, hl⟩ := hI
  have hi : i ≤ sz μ t / 2 := hi
  have hp : p_turnL t (sz μ t) (sz μ t / 2 - i) i ν = p_turn μ t := hp
  have hs1 : sA ν 1 = sA μ 1 := hs1
  have hM : Mod D tc mo ν H := hM
  have hl : lv_has ls 5 [(2, .int (nI i)), (0, .ref mo), (1, .int (nI t))] := hl
  refine lv_iload_n hx hb dX1_turn_2 rfl (lv_at hl 0 rfl) ?_
  refine lv_aload_n hx hb dX1_turn_3 rfl (lv_at hl 1 rfl) ?_
  refine md_get (v := .ref (mo + 2)) hC hM 2 (by decide) rfl q475 rfl dX1_turn_4 ?_
  refine lv_iload_n hx hb dX1_turn_7 rfl (lv_at hl 2 rfl) ?_
  refine md_ald (v := (nI (sz μ t))) hC hM 1 (N := 60) rfl (by decide) rfl rfl t rfl (by omega) ((congrFun hs1 t).trans (hW.2.1 t ht).2.2.1) dX1_turn_8 ?_
  refine lv_iconst (v := 2) hx hb dX1_turn_9 (by decide) ?_
  refine lv_idiv hx hb dX1_turn_10 (by decide) ?_
  refine w_top (congrArg Value.int (pk_div (a := (sz μ t)) (d := 2) (by omega) (by decide) (by decide))) ?_
  refine n_icmp_ge (a := i) (b := ((sz μ t) / 2)) (tgt := 80) hx hb dX1_turn_11 (by decide) (by omega) (by omega) (fun c_11 => ?_) (fun c_11 => ?_)
  · exact md_vret hC hr hlk hM hS (by rw [show sz μ t / 2 - i = 0 by omega] at hp; exact hp) dX1_turn_80
  · refine lv_aload_n hx hb dX1_turn_14 rfl (lv_at hl 1 rfl) ?_
    refine md_get (v := .ref (mo + 4)) hC hM 4 (by decide) rfl q477 rfl dX1_turn_15 ?_
    refine lv_iconst (v := 3) hx hb dX1_turn_18 (by decide) ?_
    refine lv_iload_n hx hb dX1_turn_19 rfl (lv_at hl 2 rfl) ?_
    refine lv_imul hx hb dX1_turn_20 ?_
    refine w_top (congrArg Value.int (pk_mul 3 t)) ?_
    refine lv_iload_n hx hb dX1_turn_21 rfl (lv_at hl 0 rfl) ?_
    refine lv_iadd hx hb dX1_turn_22 ?_
    refine w_top (congrArg Value.int (nI_add (3 * t) i)) ?_
    refine md_lald (v := (sC ν ((3 * t) + i))) hC hM rfl ((3 * t) + i) rfl (by omega) rfl dX1_turn_23 ?_
    refine lv_lstore_n (lv' := [(3, .long (sC ν ((3 * t) + i))), (2, .int (nI i)), (0, .ref mo), (1, .int (nI t))]) hx hb dX1_turn_24 rfl hl (by decide) rfl (fun ls hl => ?_)
    refine lv_aload_n hx hb dX1_turn_25 rfl (lv_at hl 2 rfl) ?_
    refine md_get (v := .ref (mo + 4)) hC hM 4 (by decide) rfl q477 rfl dX1_turn_26 ?_
    refine lv_iconst (v := 3) hx hb dX1_turn_29 (by decide) ?_
    refine lv_iload_n hx hb dX1_turn_30 rfl (lv_at hl 3 rfl) ?_
    refine lv_imul hx hb dX1_turn_31 ?_
    refine w_top (congrArg Value.int (pk_mul 3 t)) ?_
    refine lv_iload_n hx hb dX1_turn_32 rfl (lv_at hl 1 rfl) ?_
    refine lv_iadd hx hb dX1_turn_33 ?_
    refine w_top (congrArg Value.int (nI_add (3 * t) i)) ?_
    refine lv_aload_n hx hb dX1_turn_34 rfl (lv_at hl 2 rfl) ?_
    refine md_get (v := .ref (mo + 4)) hC hM 4 (by decide) rfl q477 rfl dX1_turn_35 ?_
    refine lv_iconst (v := 3) hx hb dX1_turn_38 (by decide) ?_
    refine lv_iload_n hx hb dX1_turn_39 rfl (lv_at hl 3 rfl) ?_
    refine lv_imul hx hb dX1_turn_40 ?_
    refine w_top (congrArg Value.int (pk_mul 3 t)) ?_
    refine lv_aload_n hx hb dX1_turn_41 rfl (lv_at hl 2 rfl) ?_
    refine md_get (v := .ref (mo + 2)) hC hM 2 (by decide) rfl q475 rfl dX1_turn_42 ?_
    refine lv_iload_n hx hb dX1_turn_45 rfl (lv_at hl 3 rfl) ?_
    refine md_ald (v := (nI (sz μ t))) hC hM 1 (N := 60) rfl (by decide) rfl rfl t rfl (by omega) ((congrFun hs1 t).trans (hW.2.1 t ht).2.2.1) dX1_turn_46 ?_
    refine lv_iadd hx hb dX1_turn_47 ?_
    refine w_top (congrArg Value.int (nI_add (3 * t) (sz μ t))) ?_
    refine lv_iconst (v := 1) hx hb dX1_turn_48 (by decide) ?_
    refine lv_isub hx hb dX1_turn_49 ?_
    refine w_top (congrArg Value.int (pk_sub (a := ((3 * t) + (sz μ t))) (b := 1) (by omega))) ?_
    refine lv_iload_n hx hb dX1_turn_50 rfl (lv_at hl 1 rfl) ?_
    refine lv_isub hx hb dX1_turn_51 ?_
    refine w_top (congrArg Value.int (pk_sub (a := (((3 * t) + (sz μ t)) - 1)) (b := i) (by omega))) ?_
    refine md_lald (v := (sC ν ((((3 * t) + (sz μ t)) - 1) - i))) hC hM rfl ((((3 * t) + (sz μ t)) - 1) - i) rfl (by omega) rfl dX1_turn_52 ?_
    refine md_last hC hM hS rfl ((3 * t) + i) rfl (by omega) dX1_turn_53 (fun H locs hM hS => ?_)
    refine lv_aload_n hx hb dX1_turn_54 rfl (lv_at hl 2 rfl) ?_
    refine md_get (v := .ref (mo + 4)) hC hM 4 (by decide) rfl q477 rfl dX1_turn_55 ?_
    refine lv_iconst (v := 3) hx hb dX1_turn_58 (by decide) ?_
    refine lv_iload_n hx hb dX1_turn_59 rfl (lv_at hl 3 rfl) ?_
    refine lv_imul hx hb dX1_turn_60 ?_
    refine w_top (congrArg Value.int (pk_mul 3 t)) ?_
    refine lv_aload_n hx hb dX1_turn_61 rfl (lv_at hl 2 rfl) ?_
    refine md_get (v := .ref (mo + 2)) hC hM 2 (by decide) rfl q475 rfl dX1_turn_62 ?_
    refine lv_iload_n hx hb dX1_turn_65 rfl (lv_at hl 3 rfl) ?_
    refine md_ald (v := (nI (sz μ t))) hC hM 1 (N := 60) rfl (by decide) rfl rfl t rfl (by omega) ((congrFun hs1 t).trans (hW.2.1 t ht).2.2.1) dX1_turn_66 ?_
    refine lv_iadd hx hb dX1_turn_67 ?_
    refine w_top (congrArg Value.int (nI_add (3 * t) (sz μ t))) ?_
    refine lv_iconst (v := 1) hx hb dX1_turn_68 (by decide) ?_
    refine lv_isub hx hb dX1_turn_69 ?_
    refine w_top (congrArg Value.int (pk_sub (a := ((3 * t) + (sz μ t))) (b := 1) (by omega))) ?_
    refine lv_iload_n hx hb dX1_turn_70 rfl (lv_at hl 1 rfl) ?_
    refine lv_isub hx hb dX1_turn_71 ?_
    refine w_top (congrArg Value.int (pk_sub (a := (((3 * t) + (sz μ t)) - 1)) (b := i) (by omega))) ?_
    refine lv_lload_n hx hb dX1_turn_72 rfl (lv_at hl 0 rfl) ?_
    refine md_last hC hM hS rfl ((((3 * t) + (sz μ t)) - 1) - i) rfl (by omega) dX1_turn_73 (fun H locs hM hS => ?_)
    refine lv_iinc (v := (nI (i + 1))) (lv' := [(2, .int (nI (i + 1))), (3, .long (sC ν ((3 * t) + i))), (0, .ref mo), (1, .int (nI t))]) hx hb dX1_turn_74 hl (k := 1) rfl (nI_1 i) (by decide) rfl (fun ls hl => ?_)
    refine lv_goto (tgt := 2) hx hb dX1_turn_77 (by decide) ?_
    exact ih (i + 1, (setC (setC ν ((3 * t) + i) (sC ν ((((3 * t) + (sz μ t)) - 1) - i))) ((((3 * t) + (sz μ t)) - 1) - i) (sC ν ((3 * t) + i)))) H locs ls ⟨by show i + 1 ≤ sz μ t / 2; omega, by rw [show sz μ t / 2 - i = (sz μ t / 2 - (i + 1)) + 1 by omega] at hp; exact hp, hs1, hM, hS, lv_sub hl [0, 2, 3] rfl⟩ (by show sz μ t / 2 - (i + 1) < sz μ t / 2 - i; omega)
theorem k_X1_stampLow (l : Launch) (D : va_G) (tc : Nat → ClassId) (mo : Nat) (μ : MS) (hW : WF μ) (t : Nat) (ht : t < 60) : MC l yX1_stampLow cX1_stampLow 5 none 2 42 D tc mo [.int (nI t)] μ (p_stampLow μ t) none := by
  refine MC.of (by decide) rfl (Nat.le_of_ble_eq_true rfl) ?_
  intro p e s m below meth c hC hr hlk hml hM hS ls hl
  have hx := hC.1
  have hb := hC.2.1
  have hts := hC.2.2.1
  have hown := hC.2.2.2.1
  have hl : lv_has ls 5 [(0, .ref mo), (1, .int (nI t))] := hl
  have hk12 := (hW.2.1 t ht).2.1
  have hz3 := (hW.2.1 t ht).2.2.2
  refine lv_aload_n hx hb dX1_stampLow_0 rfl (lv_at hl 0 rfl) ?_
  refine md_get (v := .ref (mo + 3)) hC hM 3 (by decide) rfl q476 rfl dX1_stampLow_1 ?_
  refine lv_iload_n hx hb dX1_stampLow_4 rfl (lv_at hl 1 rfl) ?_
  refine lv_dup2_11 hx hb dX1_stampLow_5 rfl rfl ?_
  refine md_ald (v := (sA μ 2 t)) hC hM 2 (N := 60) rfl (by decide) rfl rfl t rfl (by omega) rfl dX1_stampLow_6 ?_
  refine w_join (fun x => F0 m 39 ls (x :: .int (sA μ 2 t) :: .int (nI t) :: .ref (mo + 3) :: [])) (.int (stN (kd μ t))) ?_ (fun J => ?_)
  · refine lv_iadd hx hb dX1_stampLow_39 ?_
    refine md_ast hC hM hS 2 (N := 60) rfl (by decide) rfl rfl t rfl (by omega) dX1_stampLow_40 (fun H locs hM hS => ?_)
    refine lv_iconst (v := 0) hx hb dX1_stampLow_41 (by decide) ?_
    refine lv_istore_n (lv' := [(2, .int 0), (0, .ref mo), (1, .int (nI t))]) hx hb dX1_stampLow_42 rfl hl (by decide) rfl (fun ls hl => ?_)
    cases hnum : numN (kd μ t)
    · refine lv_iload_n hx hb dX1_stampLow_43 rfl (lv_at hl 0 rfl) ?_
      refine lv_aload_n hx hb dX1_stampLow_44 rfl (lv_at hl 1 rfl) ?_
      refine md_get (v := .ref (mo + 2)) hC hM 2 (by decide) rfl q475 rfl dX1_stampLow_45 ?_
      refine lv_iload_n hx hb dX1_stampLow_48 rfl (lv_at hl 2 rfl) ?_
      refine md_ald (v := (nI (sz μ t))) hC hM 1 (N := 60) rfl (by decide) rfl rfl t rfl (by omega) ((hW.2.1 t ht).2.2.1) dX1_stampLow_49 ?_
      refine n_icmp_ge (a := 0) (b := (sz μ t)) (tgt := 120) hx hb dX1_stampLow_50 (by decide) (by omega) (by omega) (fun c_50 => ?_) (fun c_50 => ?_)
      · exact md_vret hC hr hlk hM hS (by unfold p_stampLow; rw [hnum]; rfl) dX1_stampLow_120
      · refine lv_aload_n hx hb dX1_stampLow_53 rfl (lv_at hl 1 rfl) ?_
        refine md_get (v := .ref (mo + 1)) hC hM 1 (by decide) rfl q474 rfl dX1_stampLow_54 ?_
        refine lv_iload_n hx hb dX1_stampLow_57 rfl (lv_at hl 2 rfl) ?_
        refine md_ald (v := (nI (kd μ t))) hC hM 0 (N := 60) rfl (by decide) rfl rfl t rfl (by omega) ((hW.2.1 t ht).1) dX1_stampLow_58 ?_
        refine w_SC (As := [.int (nI (kd μ t))]) hx hb hts hown hml hl.1 (k_X1_isOfNumbers l (kd μ t) (by omega)) q582 q583 q24 q584 rfl ⟨by decide, by decide, rfl⟩ (Nat.le_of_ble_eq_true rfl) (Nat.le_of_ble_eq_true rfl) ⟨Nat.zero_le _, Nat.zero_le _⟩ rfl (Nat.le_of_ble_eq_true rfl) dX1_stampLow_59 ?_
        refine b_ifeq (w := (numN (kd μ t))) (tgt := 120) hx hb dX1_stampLow_62 (by decide) (fun _ => ?_) (fun h => absurd (h.symm.trans hnum) (by decide))
        exact md_vret hC hr hlk hM hS (by unfold p_stampLow; rw [hnum]; rfl) dX1_stampLow_120
    · refine w_loop (σ := Nat × MS) (fun x H locs ls => x.1 ≤ sz μ t ∧ (p_numL (kd μ t) t (sz μ t - x.1) x.1 x.2 = p_stampLow μ t) ∧ (sA x.2 0 = sA μ 0) ∧ (sA x.2 1 = sA μ 1) ∧ Mod D tc mo x.2 H ∧ va_S (md_A mo) s.heap H locs ∧ lv_has ls 5 [(2, .int (nI x.1)), (0, .ref mo), (1, .int (nI t))]) (fun x => sz μ t - x.1) ?_ (0, (setA μ 2 t ((sA μ 2 t) + (stN (kd μ t))))) ⟨Nat.zero_le _, by unfold p_stampLow; rw [hnum]; rfl, rfl, rfl, hM, hS, lv_sub hl [0, 1, 2] rfl⟩
      intro x H locs ls hI ih
      obtain ⟨i, ν⟩ := x
      obtain ⟨hi, hp, hs0, hs1, hM, hS, hl⟩ := hI
      have hi : i ≤ sz μ t := hi
      have hp : p_numL (kd μ t) t (sz μ t - i) i ν = p_stampLow μ t := hp
      have hs0 : sA ν 0 = sA μ 0 := hs0
      have hs1 : sA ν 1 = sA μ 1 := hs1
      have hM : Mod D tc mo ν H := hM
      have hl : lv_has ls 5 [(2, .int (nI i)), (0, .ref mo), (1, .int (nI t))] := hl
      refine lv_iload_n hx hb dX1_stampLow_43 rfl (lv_at hl 0 rfl) ?_
      refine lv_aload_n hx hb dX1_stampLow_44 rfl (lv_at hl 1 rfl) ?_
      refine md_get (v := .ref (mo + 2)) hC hM 2 (by decide) rfl q475 rfl dX1_stampLow_45 ?_
      refine lv_iload_n hx hb dX1_stampLow_48 rfl (lv_at hl 2 rfl) ?_
      refine md_ald (v := (nI (sz μ t))) hC hM 1 (N := 60) rfl (by decide) rfl rfl t rfl (by omega) ((congrFun hs1 t).trans (hW.2.1 t ht).2.2.1) dX1_stampLow_49 ?_
      refine n_icmp_ge (a := i) (b := (sz μ t)) (tgt := 120) hx hb dX1_stampLow_50 (by decide) (by omega) (by omega) (fun c_50 => ?_) (fun c_50 => ?_)
      · exact md_vret hC hr hlk hM hS (by rw [show sz μ t - i = 0 by omega] at hp; exact hp) dX1_stampLow_120
      · refine lv_aload_n hx hb dX1_stampLow_53 rfl (lv_at hl 1 rfl) ?_
        refine md_get (v := .ref (mo + 1)) hC hM 1 (by decide) rfl q474 rfl dX1_stampLow_54 ?_
        refine lv_iload_n hx hb dX1_stampLow_57 rfl (lv_at hl 2 rfl) ?_
        refine md_ald (v := (nI (kd μ t))) hC hM 0 (N := 60) rfl (by decide) rfl rfl t rfl (by omega) ((congrFun hs0 t).trans (hW.2.1 t ht).1) dX1_stampLow_58 ?_
        refine w_SC (As := [.int (nI (kd μ t))]) hx hb hts hown hml hl.1 (k_X1_isOfNumbers l (kd μ t) (by omega)) q582 q583 q24 q584 rfl ⟨by decide, by decide, rfl⟩ (Nat.le_of_ble_eq_true rfl) (Nat.le_of_ble_eq_true rfl) ⟨Nat.zero_le _, Nat.zero_le _⟩ rfl (Nat.le_of_ble_eq_true rfl) dX1_stampLow_59 ?_
        refine b_ifeq (w := (numN (kd μ t))) (tgt := 120) hx hb dX1_stampLow_62 (by decide) (fun h => absurd (h.symm.trans hnum) (by decide)) (fun _ => ?_)
        refine lv_aload_n hx hb dX1_stampLow_65 rfl (lv_at hl 1 rfl) ?_
        refine md_get (v := .ref (mo + 4)) hC hM 4 (by decide) rfl q477 rfl dX1_stampLow_66 ?_
        refine lv_iconst (v := 3) hx hb dX1_stampLow_69 (by decide) ?_
        refine lv_iload_n hx hb dX1_stampLow_70 rfl (lv_at hl 2 rfl) ?_
        refine lv_imul hx hb dX1_stampLow_71 ?_
        refine w_top (congrArg Value.int (pk_mul 3 t)) ?_
        refine lv_iload_n hx hb dX1_stampLow_72 rfl (lv_at hl 0 rfl) ?_
        refine lv_iadd hx hb dX1_stampLow_73 ?_
        refine w_top (congrArg Value.int (nI_add (3 * t) i)) ?_
        refine md_lald (v := (sC ν ((3 * t) + i))) hC hM rfl ((3 * t) + i) rfl (by omega) rfl dX1_stampLow_74 ?_
        refine lv_lstore_n (lv' := [(3, .long (sC ν ((3 * t) + i))), (2, .int (nI i)), (0, .ref mo), (1, .int (nI t))]) hx hb dX1_stampLow_75 rfl hl (by decide) rfl (fun ls hl => ?_)
        refine lv_aload_n hx hb dX1_stampLow_76 rfl (lv_at hl 2 rfl) ?_
        refine md_get (v := .ref (mo + 4)) hC hM 4 (by decide) rfl q477 rfl dX1_stampLow_77 ?_
        refine lv_iconst (v := 3) hx hb dX1_stampLow_80 (by decide) ?_
        refine lv_iload_n hx hb dX1_stampLow_81 rfl (lv_at hl 3 rfl) ?_
        refine lv_imul hx hb dX1_stampLow_82 ?_
        refine w_top (congrArg Value.int (pk_mul 3 t)) ?_
        refine lv_iload_n hx hb dX1_stampLow_83 rfl (lv_at hl 1 rfl) ?_
        refine lv_iadd hx hb dX1_stampLow_84 ?_
        refine w_top (congrArg Value.int (nI_add (3 * t) i)) ?_
        refine w_join (fun x => F0 m 113 ls (x :: .int (nI ((3 * t) + i)) :: .ref (mo + 4) :: [])) (.long (nextN (kd μ t) (sC ν (3 * t + i)))) ?_ (fun J => ?_)
        · refine md_last hC hM hS rfl ((3 * t) + i) rfl (by omega) dX1_stampLow_113 (fun H locs hM hS => ?_)
          refine lv_iinc (v := (nI (i + 1))) (lv' := [(2, .int (nI (i + 1))), (3, .long (sC ν ((3 * t) + i))), (0, .ref mo), (1, .int (nI t))]) hx hb dX1_stampLow_114 hl (k := 1) rfl (nI_1 i) (by decide) rfl (fun ls hl => ?_)
          refine lv_goto (tgt := 43) hx hb dX1_stampLow_117 (by decide) ?_
          exact ih (i + 1, (setC ν ((3 * t) + i) (nextN (kd μ t) (sC ν (3 * t + i))))) H locs ls ⟨by show i + 1 ≤ sz μ t; omega, by rw [show sz μ t - i = (sz μ t - (i + 1)) + 1 by omega] at hp; exact hp, hs0, hs1, hM, hS, lv_sub hl [0, 2, 3] rfl⟩ (by show sz μ t - (i + 1) < sz μ t - i; omega)
        · refine lv_aload_n hx hb dX1_stampLow_85 rfl (lv_at hl 2 rfl) ?_
          refine md_get (v := .ref (mo + 1)) hC hM 1 (by decide) rfl q474 rfl dX1_stampLow_86 ?_
          refine lv_iload_n hx hb dX1_stampLow_89 rfl (lv_at hl 3 rfl) ?_
          refine md_ald (v := (nI (kd μ t))) hC hM 0 (N := 60) rfl (by decide) rfl rfl t rfl (by omega) ((congrFun hs0 t).trans (hW.2.1 t ht).1) dX1_stampLow_90 ?_
          refine lv_iconst (v := 3) hx hb dX1_stampLow_91 (by decide) ?_
          refine n_icmp_ne (a := (kd μ t)) (b := 3) (tgt := 101) hx hb dX1_stampLow_92 (by decide) (by omega) (by omega) (fun c_92 => ?_) (fun c_92 => ?_)
          · refine lv_aload_n hx hb dX1_stampLow_101 rfl (lv_at hl 2 rfl) ?_
            refine md_get (v := .ref (mo + 1)) hC hM 1 (by decide) rfl q474 rfl dX1_stampLow_102 ?_
            refine lv_iload_n hx hb dX1_stampLow_105 rfl (lv_at hl 3 rfl) ?_
            refine md_ald (v := (nI (kd μ t))) hC hM 0 (N := 60) rfl (by decide) rfl rfl t rfl (by omega) ((congrFun hs0 t).trans (hW.2.1 t ht).1) dX1_stampLow_106 ?_
            refine lv_lload_n hx hb dX1_stampLow_107 rfl (lv_at hl 0 rfl) ?_
            refine lv_lconst (v := 1) hx hb dX1_stampLow_108 (by decide) ?_
            refine lv_ladd hx hb dX1_stampLow_109 ?_
            refine w_SC (As := [.int (nI (kd μ t)), .long ((sC ν ((3 * t) + i)) + 1)]) hx hb hts hown hml hl.1 (k_X1_kept l (kd μ t) ((sC ν ((3 * t) + i)) + 1) (by omega)) q589 q590 q24 q591 rfl ⟨by decide, by decide, rfl⟩ (Nat.le_of_ble_eq_true rfl) (Nat.le_of_ble_eq_true rfl) ⟨Nat.zero_le _, Nat.zero_le _⟩ rfl (Nat.le_of_ble_eq_true rfl) dX1_stampLow_110 ?_
            exact J _ (by simp [nextN, *])
          · refine lv_lconst (v := 1) hx hb dX1_stampLow_95 (by decide) ?_
            refine lv_lload_n hx hb dX1_stampLow_96 rfl (lv_at hl 0 rfl) ?_
            refine lv_lsub hx hb dX1_stampLow_97 ?_
            refine lv_goto (tgt := 113) hx hb dX1_stampLow_98 (by decide) ?_
            exact J _ (by simp [nextN, *])
  · refine lv_aload_n hx hb dX1_stampLow_7 rfl (lv_at hl 0 rfl) ?_
    refine md_get (v := .ref (mo + 1)) hC hM 1 (by decide) rfl q474 rfl dX1_stampLow_8 ?_
    refine lv_iload_n hx hb dX1_stampLow_11 rfl (lv_at hl 1 rfl) ?_
    refine md_ald (v := (nI (kd μ t))) hC hM 0 (N := 60) rfl (by decide) rfl rfl t rfl (by omega) ((hW.2.1 t ht).1) dX1_stampLow_12 ?_
    refine lv_bipush (v := 6) hx hb dX1_stampLow_13 (by decide) ?_
    refine n_icmp_ne (a := (kd μ t)) (b := 6) (tgt := 22) hx hb dX1_stampLow_15 (by decide) (by omega) (by omega) (fun c_15 => ?_) (fun c_15 => ?_)
    · refine lv_aload_n hx hb dX1_stampLow_22 rfl (lv_at hl 0 rfl) ?_
      refine md_get (v := .ref (mo + 1)) hC hM 1 (by decide) rfl q474 rfl dX1_stampLow_23 ?_
      refine lv_iload_n hx hb dX1_stampLow_26 rfl (lv_at hl 1 rfl) ?_
      refine md_ald (v := (nI (kd μ t))) hC hM 0 (N := 60) rfl (by decide) rfl rfl t rfl (by omega) ((hW.2.1 t ht).1) dX1_stampLow_27 ?_
      refine w_SC (As := [.int (nI (kd μ t))]) hx hb hts hown hml hl.1 (k_X1_isOne l (kd μ t) (by omega)) q563 q564 q24 q565 rfl ⟨by decide, by decide, rfl⟩ (Nat.le_of_ble_eq_true rfl) (Nat.le_of_ble_eq_true rfl) ⟨Nat.zero_le _, Nat.zero_le _⟩ rfl (Nat.le_of_ble_eq_true rfl) dX1_stampLow_28 ?_
      refine b_ifeq (w := (oneN (kd μ t))) (tgt := 38) hx hb dX1_stampLow_31 (by decide) (fun c_31 => ?_) (fun c_31 => ?_)
      · refine lv_iconst (v := 0) hx hb dX1_stampLow_38 (by decide) ?_
        exact J _ (by simp [stN, *])
      · refine lv_iconst (v := 1) hx hb dX1_stampLow_34 (by decide) ?_
        refine lv_goto (tgt := 39) hx hb dX1_stampLow_35 (by decide) ?_
        exact J _ (by simp [stN, *])
    · refine lv_iconst (v := 2) hx hb dX1_stampLow_18 (by decide) ?_
      refine lv_goto (tgt := 39) hx hb dX1_stampLow_19 (by decide) ?_
      exact J _ (by simp [stN, *])
theorem k_X1_stampRow (l : Launch) (D : va_G) (tc : Nat → ClassId) (mo : Nat) (μ : MS) (hW : IV μ) (t : Nat) (ht : t < 60) : MC l yX1_stampRow cX1_stampRow 3 none 3 66 D tc mo [.int (nI t)] μ (p_stampRow μ t) none := by
  refine MC.of (by decide) rfl (Nat.le_of_ble_eq_true rfl) ?_
  intro p e s m below meth c hC hr hlk hml hM hS ls hl
  have hx := hC.1
  have hb := hC.2.1
  have hts := hC.2.2.1
  have hown := hC.2.2.2.1
  have hl : lv_has ls 3 [(0, .ref mo), (1, .int (nI t))] := hl
  have hk12 := (hW.1.2.1 t ht).2.1
  have hz3 := (hW.1.2.1 t ht).2.2.2
  refine lv_aload_n hx hb dX1_stampRow_0 rfl (lv_at hl 0 rfl) ?_
  refine lv_iload_n hx hb dX1_stampRow_1 rfl (lv_at hl 1 rfl) ?_
  refine w_MC (As := [.int (nI t)]) hC hM hS (fun _ h => h) hml hl.1 (k_X1_stampLow l D tc mo μ hW.1 t (by omega)) q675 q677 qs21 q24 q678 rfl ⟨rfl, by decide, by decide, rfl⟩ (Nat.le_of_ble_eq_true rfl) (Nat.le_of_ble_eq_true rfl) ⟨Nat.zero_le _, Nat.zero_le _⟩ rfl (Nat.le_of_ble_eq_true rfl) dX1_stampRow_2 (fun H locs hM hS _ _ => ?_)
  refine lv_iconst (v := 0) hx hb dX1_stampRow_5 (by decide) ?_
  refine lv_istore_n (lv' := [(2, .int 0), (0, .ref mo), (1, .int (nI t))]) hx hb dX1_stampRow_6 rfl hl (by decide) rfl (fun ls hl => ?_)
  have hsr := stampLow_SR μ t
  have hIv := stampLow_IV hW ht
  cases hnum : thgN (kd μ t)
  · refine lv_iload_n hx hb dX1_stampRow_7 rfl (lv_at hl 0 rfl) ?_
    refine lv_aload_n hx hb dX1_stampRow_8 rfl (lv_at hl 1 rfl) ?_
    refine md_get (v := .ref (mo + 2)) hC hM 2 (by decide) rfl q475 rfl dX1_stampRow_9 ?_
    refine lv_iload_n hx hb dX1_stampRow_12 rfl (lv_at hl 2 rfl) ?_
    refine md_ald (v := (nI (sz μ t))) hC hM 1 (N := 60) rfl (by decide) rfl rfl t rfl (by omega) ((congrFun hsr.2.2.1 t).trans (hW.1.2.1 t ht).2.2.1) dX1_stampRow_13 ?_
    refine n_icmp_ge (a := 0) (b := (sz μ t)) (tgt := 67) hx hb dX1_stampRow_14 (by decide) (by omega) (by omega) (fun c_14 => ?_) (fun c_14 => ?_)
    · exact md_vret hC hr hlk hM hS (by unfold p_stampRow; rw [hnum]; rfl) dX1_stampRow_67
    · refine lv_aload_n hx hb dX1_stampRow_17 rfl (lv_at hl 1 rfl) ?_
      refine md_get (v := .ref (mo + 1)) hC hM 1 (by decide) rfl q474 rfl dX1_stampRow_18 ?_
      refine lv_iload_n hx hb dX1_stampRow_21 rfl (lv_at hl 2 rfl) ?_
      refine md_ald (v := (nI (kd μ t))) hC hM 0 (N := 60) rfl (by decide) rfl rfl t rfl (by omega) ((congrFun hsr.2.1 t).trans (hW.1.2.1 t ht).1) dX1_stampRow_22 ?_
      refine w_SC (As := [.int (nI (kd μ t))]) hx hb hts hown hml hl.1 (k_X1_isOfThings l (kd μ t) (by omega)) q570 q571 q24 q572 rfl ⟨by decide, by decide, rfl⟩ (Nat.le_of_ble_eq_true rfl) (Nat.le_of_ble_eq_true rfl) ⟨Nat.zero_le _, Nat.zero_le _⟩ rfl (Nat.le_of_ble_eq_true rfl) dX1_stampRow_23 ?_
      refine b_ifeq (w := (thgN (kd μ t))) (tgt := 67) hx hb dX1_stampRow_26 (by decide) (fun _ => ?_) (fun h => absurd (h.symm.trans hnum) (by decide))
      exact md_vret hC hr hlk hM hS (by unfold p_stampRow; rw [hnum]; rfl) dX1_stampRow_67
  · refine w_loop (σ := Nat × MS) (fun x H locs ls => x.1 ≤ sz μ t ∧ (p_rowL p_stampLow t (sz μ t - x.1) x.1 x.2 = p_stampRow μ t) ∧ (SR μ x.2) ∧ (IV x.2) ∧ Mod D tc mo x.2 H ∧ va_S (md_A mo) s.heap H locs ∧ lv_has ls 3 [(2, .int (nI x.1)), (0, .ref mo), (1, .int (nI t))]) (fun x => sz μ t - x.1) ?_ (0, (p_stampLow μ t)) ⟨Nat.zero_le _, by unfold p_stampRow; rw [hnum]; rfl, hsr, hIv, hM, hS, lv_sub hl [0, 1, 2] rfl⟩
    intro x H locs ls hI ih
    obtain ⟨i, ν⟩ := x
    obtain ⟨hi, hp, hsr, hIv, hM, hS, hl⟩ := hI
    have hi : i ≤ sz μ t := hi
    have hp : p_rowL p_stampLow t (sz μ t - i) i ν = p_stampRow μ t := hp
    have hsr : SR μ ν := hsr
    have hIv : IV ν := hIv
    have hM : Mod D tc mo ν H := hM
    have hl : lv_has ls 3 [(2, .int (nI i)), (0, .ref mo), (1, .int (nI t))] := hl
    refine lv_iload_n hx hb dX1_stampRow_7 rfl (lv_at hl 0 rfl) ?_
    refine lv_aload_n hx hb dX1_stampRow_8 rfl (lv_at hl 1 rfl) ?_
    refine md_get (v := .ref (mo + 2)) hC hM 2 (by decide) rfl q475 rfl dX1_stampRow_9 ?_
    refine lv_iload_n hx hb dX1_stampRow_12 rfl (lv_at hl 2 rfl) ?_
    refine md_ald (v := (nI (sz μ t))) hC hM 1 (N := 60) rfl (by decide) rfl rfl t rfl (by omega) ((congrFun hsr.2.2.1 t).trans (hW.1.2.1 t ht).2.2.1) dX1_stampRow_13 ?_
    refine n_icmp_ge (a := i) (b := (sz μ t)) (tgt := 67) hx hb dX1_stampRow_14 (by decide) (by omega) (by omega) (fun c_14 => ?_) (fun c_14 => ?_)
    · exact md_vret hC hr hlk hM hS (by exact rowL_end (by omega) hp) dX1_stampRow_67
    · refine lv_aload_n hx hb dX1_stampRow_17 rfl (lv_at hl 1 rfl) ?_
      refine md_get (v := .ref (mo + 1)) hC hM 1 (by decide) rfl q474 rfl dX1_stampRow_18 ?_
      refine lv_iload_n hx hb dX1_stampRow_21 rfl (lv_at hl 2 rfl) ?_
      refine md_ald (v := (nI (kd μ t))) hC hM 0 (N := 60) rfl (by decide) rfl rfl t rfl (by omega) ((congrFun hsr.2.1 t).trans (hW.1.2.1 t ht).1) dX1_stampRow_22 ?_
      refine w_SC (As := [.int (nI (kd μ t))]) hx hb hts hown hml hl.1 (k_X1_isOfThings l (kd μ t) (by omega)) q570 q571 q24 q572 rfl ⟨by decide, by decide, rfl⟩ (Nat.le_of_ble_eq_true rfl) (Nat.le_of_ble_eq_true rfl) ⟨Nat.zero_le _, Nat.zero_le _⟩ rfl (Nat.le_of_ble_eq_true rfl) dX1_stampRow_23 ?_
      refine b_ifeq (w := (thgN (kd μ t))) (tgt := 67) hx hb dX1_stampRow_26 (by decide) (fun h => absurd (h.symm.trans hnum) (by decide)) (fun _ => ?_)
      refine lv_aload_n hx hb dX1_stampRow_29 rfl (lv_at hl 1 rfl) ?_
      refine md_get (v := .ref (mo + 4)) hC hM 4 (by decide) rfl q477 rfl dX1_stampRow_30 ?_
      refine lv_iconst (v := 3) hx hb dX1_stampRow_33 (by decide) ?_
      refine lv_iload_n hx hb dX1_stampRow_34 rfl (lv_at hl 2 rfl) ?_
      refine lv_imul hx hb dX1_stampRow_35 ?_
      refine w_top (congrArg Value.int (pk_mul 3 t)) ?_
      refine lv_iload_n hx hb dX1_stampRow_36 rfl (lv_at hl 0 rfl) ?_
      refine lv_iadd hx hb dX1_stampRow_37 ?_
      refine w_top (congrArg Value.int (nI_add (3 * t) i)) ?_
      refine md_lald (v := (sC ν ((3 * t) + i))) hC hM rfl ((3 * t) + i) rfl (by omega) rfl dX1_stampRow_38 ?_
      refine lv_ldc2 (v := (-1)) hx hb hown (hts _ q573) dX1_stampRow_39 ?_
      refine W.lcmp hx hb dX1_stampRow_42 ?_
      refine l_if_eq (x := (sC ν ((3 * t) + i))) (y := (-1)) (tgt := 61) hx hb dX1_stampRow_43 (by decide) (fun c_43 => ?_) (fun c_43 => ?_)
      · refine lv_iinc (v := (nI (i + 1))) (lv' := [(2, .int (nI (i + 1))), (0, .ref mo), (1, .int (nI t))]) hx hb dX1_stampRow_61 hl (k := 0) rfl (nI_1 i) (by decide) rfl (fun ls hl => ?_)
        refine lv_goto (tgt := 7) hx hb dX1_stampRow_64 (by decide) ?_
        exact ih (i + 1, ν) H locs ls ⟨by show i + 1 ≤ sz μ t; omega, rowL_skip (by omega) hp c_43, hsr, hIv, hM, hS, lv_sub hl [0, 1, 2] rfl⟩ (by show sz μ t - (i + 1) < sz μ t - i; omega)
      · refine lv_aload_n hx hb dX1_stampRow_46 rfl (lv_at hl 1 rfl) ?_
        refine lv_aload_n hx hb dX1_stampRow_47 rfl (lv_at hl 1 rfl) ?_
        refine md_get (v := .ref (mo + 4)) hC hM 4 (by decide) rfl q477 rfl dX1_stampRow_48 ?_
        refine lv_iconst (v := 3) hx hb dX1_stampRow_51 (by decide) ?_
        refine lv_iload_n hx hb dX1_stampRow_52 rfl (lv_at hl 2 rfl) ?_
        refine lv_imul hx hb dX1_stampRow_53 ?_
        refine w_top (congrArg Value.int (pk_mul 3 t)) ?_
        refine lv_iload_n hx hb dX1_stampRow_54 rfl (lv_at hl 0 rfl) ?_
        refine lv_iadd hx hb dX1_stampRow_55 ?_
        refine w_top (congrArg Value.int (nI_add (3 * t) i)) ?_
        refine md_lald (v := (sC ν ((3 * t) + i))) hC hM rfl ((3 * t) + i) rfl (by omega) rfl dX1_stampRow_56 ?_
        refine lv_l2i hx hb dX1_stampRow_57 rfl ?_
        rcases CV_thg hIv ht (show i < 3 by omega) (by rw [SR_kd hsr]; exact hnum) with ex | ⟨x, qx, ex, -⟩
        · exact absurd ex c_43
        have hn60 := hIv.1.1.2
        refine w_top (y := .int (nI x)) (by rw [ex, lN_i]) ?_
        refine w_MC (As := [.int (nI x)]) hC hM hS (fun _ h => h) hml hl.1 (k_X1_stampLow l D tc mo ν hIv.1 x (by omega)) q675 q677 qs21 q24 q678 rfl ⟨rfl, by decide, by decide, rfl⟩ (Nat.le_of_ble_eq_true rfl) (Nat.le_of_ble_eq_true rfl) ⟨Nat.zero_le _, Nat.zero_le _⟩ rfl (Nat.le_of_ble_eq_true rfl) dX1_stampRow_58 (fun H locs hM hS _ _ => ?_)
        refine lv_iinc (v := (nI (i + 1))) (lv' := [(2, .int (nI (i + 1))), (0, .ref mo), (1, .int (nI t))]) hx hb dX1_stampRow_61 hl (k := 0) rfl (nI_1 i) (by decide) rfl (fun ls hl => ?_)
        refine lv_goto (tgt := 7) hx hb dX1_stampRow_64 (by decide) ?_
        exact ih (i + 1, (p_stampLow ν x)) H locs ls ⟨by show i + 1 ≤ sz μ t; omega, rowL_do (by omega) hp c_43 (by omega) ex, hsr.tr (stampLow_SR _ _), stampLow_IV hIv (by omega), hM, hS, lv_sub hl [0, 1, 2] rfl⟩ (by show sz μ t - (i + 1) < sz μ t - i; omega)
theorem k_X1_stampAll (l : Launch) (D : va_G) (tc : Nat → ClassId) (mo : Nat) (μ : MS) (hW : IV μ) (t : Nat) (ht : t < 60) : MC l yX1_stampAll cX1_stampAll 3 none 4 88 D tc mo [.int (nI t)] μ (p_stampAll μ t) none := by
  refine MC.of (by decide) rfl (Nat.le_of_ble_eq_true rfl) ?_
  intro p e s m below meth c hC hr hlk hml hM hS ls hl
  have hx := hC.1
  have hb := hC.2.1
  have hts := hC.2.2.1
  have hown := hC.2.2.2.1
  have hl : lv_has ls 3 [(0, .ref mo), (1, .int (nI t))] := hl
  have hk12 := (hW.1.2.1 t ht).2.1
  have hz3 := (hW.1.2.1 t ht).2.2.2
  refine lv_aload_n hx hb dX1_stampAll_0 rfl (lv_at hl 0 rfl) ?_
  refine md_get (v := .ref (mo + 1)) hC hM 1 (by decide) rfl q474 rfl dX1_stampAll_1 ?_
  refine lv_iload_n hx hb dX1_stampAll_4 rfl (lv_at hl 1 rfl) ?_
  refine md_ald (v := (nI (kd μ t))) hC hM 0 (N := 60) rfl (by decide) rfl rfl t rfl (by omega) ((hW.1.2.1 t ht).1) dX1_stampAll_5 ?_
  refine lv_bipush (v := 11) hx hb dX1_stampAll_6 (by decide) ?_
  refine n_icmp_ge (a := (kd μ t)) (b := 11) (tgt := 17) hx hb dX1_stampAll_8 (by decide) (by omega) (by omega) (fun c_8 => ?_) (fun c_8 => ?_)
  · refine lv_iconst (v := 0) hx hb dX1_stampAll_17 (by decide) ?_
    refine lv_istore_n (lv' := [(2, .int 0), (0, .ref mo), (1, .int (nI t))]) hx hb dX1_stampAll_18 rfl hl (by decide) rfl (fun ls hl => ?_)
    have hnum : thgN (kd μ t) = true := by simp [thgN]; omega
    refine w_loop (σ := Nat × MS) (fun x H locs ls => x.1 ≤ sz μ t ∧ (p_rowL p_stampRow t (sz μ t - x.1) x.1 x.2 = p_stampAll μ t) ∧ (SR μ x.2) ∧ (IV x.2) ∧ Mod D tc mo x.2 H ∧ va_S (md_A mo) s.heap H locs ∧ lv_has ls 3 [(2, .int (nI x.1)), (0, .ref mo), (1, .int (nI t))]) (fun x => sz μ t - x.1) ?_ (0, μ) ⟨Nat.zero_le _, by unfold p_stampAll; rw [if_neg (by omega)]; rfl, SR.rf, hW, hM, hS, lv_sub hl [0, 1, 2] rfl⟩
    intro x H locs ls hI ih
    obtain ⟨i, ν⟩ := x
    obtain ⟨hi, hp, hsr, hIv, hM, hS, hl⟩ := hI
    have hi : i ≤ sz μ t := hi
    have hp : p_rowL p_stampRow t (sz μ t - i) i ν = p_stampAll μ t := hp
    have hsr : SR μ ν := hsr
    have hIv : IV ν := hIv
    have hM : Mod D tc mo ν H := hM
    have hl : lv_has ls 3 [(2, .int (nI i)), (0, .ref mo), (1, .int (nI t))] := hl
    refine lv_iload_n hx hb dX1_stampAll_19 rfl (lv_at hl 0 rfl) ?_
    refine lv_aload_n hx hb dX1_stampAll_20 rfl (lv_at hl 1 rfl) ?_
    refine md_get (v := .ref (mo + 2)) hC hM 2 (by decide) rfl q475 rfl dX1_stampAll_21 ?_
    refine lv_iload_n hx hb dX1_stampAll_24 rfl (lv_at hl 2 rfl) ?_
    refine md_ald (v := (nI (sz μ t))) hC hM 1 (N := 60) rfl (by decide) rfl rfl t rfl (by omega) ((congrFun hsr.2.2.1 t).trans (hW.1.2.1 t ht).2.2.1) dX1_stampAll_25 ?_
    refine n_icmp_ge (a := i) (b := (sz μ t)) (tgt := 67) hx hb dX1_stampAll_26 (by decide) (by omega) (by omega) (fun c_26 => ?_) (fun c_26 => ?_)
    · exact md_vret hC hr hlk hM hS (by exact rowL_end (by omega) hp) dX1_stampAll_67
    · refine lv_aload_n hx hb dX1_stampAll_29 rfl (lv_at hl 1 rfl) ?_
      refine md_get (v := .ref (mo + 4)) hC hM 4 (by decide) rfl q477 rfl dX1_stampAll_30 ?_
      refine lv_iconst (v := 3) hx hb dX1_stampAll_33 (by decide) ?_
      refine lv_iload_n hx hb dX1_stampAll_34 rfl (lv_at hl 2 rfl) ?_
      refine lv_imul hx hb dX1_stampAll_35 ?_
      refine w_top (congrArg Value.int (pk_mul 3 t)) ?_
      refine lv_iload_n hx hb dX1_stampAll_36 rfl (lv_at hl 0 rfl) ?_
      refine lv_iadd hx hb dX1_stampAll_37 ?_
      refine w_top (congrArg Value.int (nI_add (3 * t) i)) ?_
      refine md_lald (v := (sC ν ((3 * t) + i))) hC hM rfl ((3 * t) + i) rfl (by omega) rfl dX1_stampAll_38 ?_
      refine lv_ldc2 (v := (-1)) hx hb hown (hts _ q573) dX1_stampAll_39 ?_
      refine W.lcmp hx hb dX1_stampAll_42 ?_
      refine l_if_eq (x := (sC ν ((3 * t) + i))) (y := (-1)) (tgt := 61) hx hb dX1_stampAll_43 (by decide) (fun c_43 => ?_) (fun c_43 => ?_)
      · refine lv_iinc (v := (nI (i + 1))) (lv' := [(2, .int (nI (i + 1))), (0, .ref mo), (1, .int (nI t))]) hx hb dX1_stampAll_61 hl (k := 0) rfl (nI_1 i) (by decide) rfl (fun ls hl => ?_)
        refine lv_goto (tgt := 19) hx hb dX1_stampAll_64 (by decide) ?_
        exact ih (i + 1, ν) H locs ls ⟨by show i + 1 ≤ sz μ t; omega, rowL_skip (by omega) hp c_43, hsr, hIv, hM, hS, lv_sub hl [0, 1, 2] rfl⟩ (by show sz μ t - (i + 1) < sz μ t - i; omega)
      · refine lv_aload_n hx hb dX1_stampAll_46 rfl (lv_at hl 1 rfl) ?_
        refine lv_aload_n hx hb dX1_stampAll_47 rfl (lv_at hl 1 rfl) ?_
        refine md_get (v := .ref (mo + 4)) hC hM 4 (by decide) rfl q477 rfl dX1_stampAll_48 ?_
        refine lv_iconst (v := 3) hx hb dX1_stampAll_51 (by decide) ?_
        refine lv_iload_n hx hb dX1_stampAll_52 rfl (lv_at hl 2 rfl) ?_
        refine lv_imul hx hb dX1_stampAll_53 ?_
        refine w_top (congrArg Value.int (pk_mul 3 t)) ?_
        refine lv_iload_n hx hb dX1_stampAll_54 rfl (lv_at hl 0 rfl) ?_
        refine lv_iadd hx hb dX1_stampAll_55 ?_
        refine w_top (congrArg Value.int (nI_add (3 * t) i)) ?_
        refine md_lald (v := (sC ν ((3 * t) + i))) hC hM rfl ((3 * t) + i) rfl (by omega) rfl dX1_stampAll_56 ?_
        refine lv_l2i hx hb dX1_stampAll_57 rfl ?_
        rcases CV_thg hIv ht (show i < 3 by omega) (by rw [SR_kd hsr]; exact hnum) with ex | ⟨x, qx, ex, -⟩
        · exact absurd ex c_43
        have hn60 := hIv.1.1.2
        refine w_top (y := .int (nI x)) (by rw [ex, lN_i]) ?_
        refine w_MC (As := [.int (nI x)]) hC hM hS (fun _ h => h) hml hl.1 (k_X1_stampRow l D tc mo ν hIv x (by omega)) q671 q673 qs20 q24 q674 rfl ⟨rfl, by decide, by decide, rfl⟩ (Nat.le_of_ble_eq_true rfl) (Nat.le_of_ble_eq_true rfl) ⟨Nat.zero_le _, Nat.zero_le _⟩ rfl (Nat.le_of_ble_eq_true rfl) dX1_stampAll_58 (fun H locs hM hS _ _ => ?_)
        refine lv_iinc (v := (nI (i + 1))) (lv' := [(2, .int (nI (i + 1))), (0, .ref mo), (1, .int (nI t))]) hx hb dX1_stampAll_61 hl (k := 0) rfl (nI_1 i) (by decide) rfl (fun ls hl => ?_)
        refine lv_goto (tgt := 19) hx hb dX1_stampAll_64 (by decide) ?_
        exact ih (i + 1, (p_stampRow ν x)) H locs ls ⟨by show i + 1 ≤ sz μ t; omega, rowL_do (by omega) hp c_43 (by omega) ex, hsr.tr (stampRow_SR _ _), stampRow_IV hIv (by omega), hM, hS, lv_sub hl [0, 1, 2] rfl⟩ (by show sz μ t - (i + 1) < sz μ t - i; omega)
  · refine lv_aload_n hx hb dX1_stampAll_11 rfl (lv_at hl 0 rfl) ?_
    refine lv_iload_n hx hb dX1_stampAll_12 rfl (lv_at hl 1 rfl) ?_
    refine w_MC (As := [.int (nI t)]) hC hM hS (fun _ h => h) hml hl.1 (k_X1_stampRow l D tc mo μ hW t (by omega)) q671 q673 qs20 q24 q674 rfl ⟨rfl, by decide, by decide, rfl⟩ (Nat.le_of_ble_eq_true rfl) (Nat.le_of_ble_eq_true rfl) ⟨Nat.zero_le _, Nat.zero_le _⟩ rfl (Nat.le_of_ble_eq_true rfl) dX1_stampAll_13 (fun H locs hM hS _ _ => ?_)
    exact md_vret hC hr hlk hM hS (by unfold p_stampAll; rw [if_pos (by omega)]) dX1_stampAll_16

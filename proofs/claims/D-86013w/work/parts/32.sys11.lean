/-! SYSTEM 11: hand -/
set_option maxRecDepth 100000
set_option maxHeartbeats 4000000
theorem clrL_setS : ∀ (n i : Nat) (μ : MS) (k : Nat) (v : Int32), p_clrL n i (setS μ k v) = setS (p_clrL n i μ) k v
  | 0, _, _, _, _ => rfl
  | n + 1, i, μ, k, v => clrL_setS n (i + 1) (setA μ 12 i 0) k v
theorem hand0_12 {μ : MS} {q : Nat} (hq : q < 32) : sA (p_hand0 μ) 12 q = 0 := by
  unfold p_hand0
  rw [clrL_12, if_pos (by omega)]
theorem hand0_PX {g b : Nat} {μ : MS} (h : PX g b μ) : PX (g + 1) b (p_hand0 μ) := by
  refine ⟨hand0_IX h.1, SR_ZV (hand0_SR μ) h.2.1, fun q hq => ?_, fun q hq _ => hand0_12 hq, DB_sr (hand0_SR μ) (clrL_C _ _ _) h.2.2.2.2⟩
  have h1 := h.2.2.1 q hq
  rw [hand0_12 hq, show sA (p_hand0 μ) 10 = sA μ 10 from clrL_A _ _ _ _ (by decide), if_pos rfl]
  refine ⟨h1.1, ?_⟩
  have h2 := h1.2
  split at h2 <;> omega
theorem hand0_cnt (μ : MS) : cnt (p_hand0 μ) = 0 := by
  unfold cnt
  rw [List.length_eq_zero_iff, List.filter_eq_nil_iff]
  intro q hq
  rw [hand0_12 (List.mem_range.mp hq)]
  decide
theorem cst_le8 : ∀ d : Nat, d < 9 → cst d ≤ cst 8 := by decide
theorem oB_qI {β : Nat → Nat} {o : Option Nat} (h : ∀ y, o = some y → y < 60) : oB β o = qI β (plI o) := by
  cases o with
  | none => rfl
  | some y => exact (qI_N (by have := h y rfl; omega)).symm
theorem k_X0_hand (l : Launch) (hst : l.stackTraces = false) (D : va_G) (tc : Nat → ClassId) (x mo : Nat) (β : Nat → Nat) (μ : MS) (g b : Nat) (hg : g < 1073741823) (hB : b + cst 8 < 2 ^ 51) (hP : PX g b μ) (t r : Int32) : YC l yX0_hand cX0_hand 4 (some .int) 43 11226 96 32000 D tc x mo β [.ref (β 0), .int t, .int r] μ ((p_hand μ t r).1) (some (.int ((p_hand μ t r).2))) := by
  refine YC.of (by decide) rfl (Nat.le_of_ble_eq_true rfl) ?_
  intro p e s m below meth c hC hX hZ hr hlk hml hM hS ls hl
  have hx := hC.1
  have hb := hC.2.1
  have hts := hC.2.2.1
  have hown := hC.2.2.2.1
  have hl : lv_has ls 4 [(0, .ref (β 0)), (1, .int t), (2, .int r)] := hl
  have hI := hP.1
  have hn := hI.1.1.1.2
  have hW := hI.1.1
  refine lv_aload_n hx hb dX0_hand_0 rfl (lv_at hl 0 rfl) ?_
  refine lv_iconst (v := 0) hx hb dX0_hand_1 (by decide) ?_
  refine sy_mput hC hM hS 1 2 (by decide) (by decide) (w := 0) rfl rfl q52 rfl rfl rfl rfl dX0_hand_2 (fun H locs hM hS => ?_)
  refine lv_aload_n hx hb dX0_hand_5 rfl (lv_at hl 0 rfl) ?_
  refine lv_iload_n hx hb dX0_hand_6 rfl (lv_at hl 1 rfl) ?_
  refine w_YV (As := [.int t]) hC hX hZ hM hS hml hl.1 (sy_mainR hC.2.2.2.2 hM) (k_X0_isItem l hst D tc x mo β (setS μ 1 0) t) q245 q247 qs2 q23 q248 rfl ⟨by decide, by decide, rfl⟩ (Nat.le_of_ble_eq_true rfl) (Nat.le_of_ble_eq_true rfl) ⟨(Nat.le_of_ble_eq_true rfl), (Nat.le_of_ble_eq_true rfl)⟩ rfl (Nat.le_of_ble_eq_true rfl) dX0_hand_7 (fun H locs hM hS => ?_)
  refine b_ifeq (w := (isItem (setS μ 1 0) t)) (tgt := 20) hx hb dX0_hand_10 (by decide) (fun c_10 => ?_) (fun c_10 => ?_)
  · refine lv_aload_n hx hb dX0_hand_20 rfl (lv_at hl 0 rfl) ?_
    refine lv_bipush (v := (-2)) hx hb dX0_hand_21 (by decide) ?_
    refine w_YV (As := [.int (-2)]) hC hX hZ hM hS hml hl.1 (sy_mainR hC.2.2.2.2 hM) (k_X0_no l hst D tc x mo β (setS μ 1 0) (-2)) q92 q94 qs0 q23 q95 rfl ⟨by decide, by decide, rfl⟩ (Nat.le_of_ble_eq_true rfl) (Nat.le_of_ble_eq_true rfl) ⟨(Nat.le_of_ble_eq_true rfl), (Nat.le_of_ble_eq_true rfl)⟩ rfl (Nat.le_of_ble_eq_true rfl) dX0_hand_23 (fun H locs hM hS => ?_)
    exact sy_iret hC hr hlk hM hS (by rw [p_hand_bad (μ := μ) (by first | (rw [show isItem μ t = false from c_10]; rfl) | (rw [show isIn r 0 7 = false from c_17]; simp))]; first | done | rfl) (by rw [p_hand_bad (μ := μ) (by first | (rw [show isItem μ t = false from c_10]; rfl) | (rw [show isIn r 0 7 = false from c_17]; simp))]) (Nat.le_of_ble_eq_true rfl) (Nat.le_of_ble_eq_true rfl) dX0_hand_26
  · refine lv_iload_n hx hb dX0_hand_13 rfl (lv_at hl 2 rfl) ?_
    refine w_SC (As := [.int r]) hx hb hts hown hml hl.1 (k_X0_isRoom l r) q333 q334 q23 q335 rfl ⟨by decide, by decide, rfl⟩ (Nat.le_of_ble_eq_true rfl) (Nat.le_of_ble_eq_true rfl) ⟨Nat.zero_le _, Nat.zero_le _⟩ rfl (Nat.le_of_ble_eq_true rfl) dX0_hand_14 ?_
    refine b_ifne (w := (isIn r 0 7)) (tgt := 27) hx hb dX0_hand_17 (by decide) (fun c_17 => ?_) (fun c_17 => ?_)
    · obtain ⟨j, hj, hn8, rfl⟩ := item_of (μ := μ) hW c_10
      have hi_j : isItem μ (nI j) = true := isItem_of hW hj
      obtain ⟨a, ha, rfl⟩ := isIn_nat (n := 7) (by decide) c_17
      have hall : (isItem μ (nI j) && isIn (nI a) 0 7) = true := by rw [hi_j, show isIn (nI a) 0 7 = true from c_17]; rfl
      refine lv_iconst (v := 0) hx hb dX0_hand_27 (by decide) ?_
      refine lv_istore_n (lv' := [(3, .int 0), (0, .ref (β 0)), (1, .int (nI j)), (2, .int (nI a))]) hx hb dX0_hand_28 rfl hl (by decide) rfl (fun ls hl => ?_)
      refine w_loop (σ := Nat × MS) (fun y9 H locs ls => y9.1 ≤ 32 ∧ (p_clrL (32 - y9.1) y9.1 y9.2 = p_clrL 32 0 (setS μ 1 0)) ∧ (SR μ y9.2) ∧ Sys D tc x mo β y9.2 H ∧ va_S (sy_A x mo) s.heap H locs ∧ lv_has ls 4 [(3, .int (nI y9.1)), (0, .ref (β 0)), (1, .int (nI j)), (2, .int (nI a))]) (fun y9 => 32 - y9.1) ?_ (0, (setS μ 1 0)) ⟨Nat.zero_le _, rfl, ⟨rfl, rfl, rfl, rfl, rfl, rfl, rfl⟩, hM, hS, lv_sub hl [0, 1, 2, 3] rfl⟩
      intro y9 H locs ls hI9 ih
      obtain ⟨i, ν⟩ := y9
      obtain ⟨hi, hp, hsr, hM, hS, hl⟩ := hI9
      have hi : i ≤ 32 := hi
      have hp : p_clrL (32 - i) i ν = p_clrL 32 0 (setS μ 1 0) := hp
      have hsr : SR μ ν := hsr
      have hM : Sys D tc x mo β ν H := hM
      have hl : lv_has ls 4 [(3, .int (nI i)), (0, .ref (β 0)), (1, .int (nI j)), (2, .int (nI a))] := hl
      refine lv_iload_n hx hb dX0_hand_29 rfl (lv_at hl 0 rfl) ?_
      refine lv_bipush (v := 32) hx hb dX0_hand_30 (by decide) ?_
      refine n_icmp_ge (a := i) (b := 32) (tgt := 60) hx hb dX0_hand_32 (by decide) (by omega) (by omega) (fun c_32 => ?_) (fun c_32 => ?_)
      · refine lv_aload_n hx hb dX0_hand_60 rfl (lv_at hl 1 rfl) ?_
        refine lv_iconst (v := 0) hx hb dX0_hand_61 (by decide) ?_
        refine sy_mput hC hM hS 8 9 (by decide) (by decide) (w := 0) rfl rfl q59 rfl rfl rfl rfl dX0_hand_62 (fun H locs hM hS => ?_)
        have e0 : ν = p_clrL 32 0 (setS μ 1 0) := by have h9 := hp; rw [show 32 - i = 0 by omega] at h9; exact h9
        have hM : Sys D tc x mo β (p_hand0 μ) H := by unfold p_hand0; rw [clrL_setS, ← e0]; exact hM
        have hs0 := hand0_SR μ
        have hj : j < nn (p_hand0 μ) := by rw [SR_nn hs0]; exact hj
        have hn : nn (p_hand0 μ) ≤ 60 := by rw [SR_nn hs0]; exact hn
        obtain ⟨d, hd⟩ : ∃ d : Nat, 8 - a = d + 1 := ⟨7 - a, by omega⟩
        have hc8 := cst_le8 (d + 1) (by omega)
        refine lv_aload_n hx hb dX0_hand_65 rfl (lv_at hl 1 rfl) ?_
        refine lv_aload_n hx hb dX0_hand_66 rfl (lv_at hl 1 rfl) ?_
        refine lv_aload_n hx hb dX0_hand_67 rfl (lv_at hl 1 rfl) ?_
        refine sy_mget (v := .ref (β 1)) hC hM 0 (by decide) rfl rfl q50 rfl dX0_hand_68 ?_
        refine lv_iload_n hx hb dX0_hand_71 rfl (lv_at hl 2 rfl) ?_
        refine sy_itald hC hM j rfl hj hn dX0_hand_72 ?_
        refine sy_iget hC hM hj hn q147 dX0_hand_73 ?_
        refine lv_iload_n hx hb dX0_hand_76 rfl (lv_at hl 3 rfl) ?_
        refine w_YV (As := [.ref (β (64 + j)), .int (nI a)]) hC hX hZ hM hS hml hl.1 (sy_mainR hC.2.2.2.2 hM) (TH_all l hst D tc x mo β (g + 1) (b + cst 8) (by omega) hB d a (by omega) b (p_hand0 μ) j 32 (by omega) (hand0_PX hP) hj (by rw [hand0_cnt]; exact Nat.le_trans (cnt_le _) (by decide))) q384 q386 qs5 q23 q387 rfl ⟨by decide, by decide, rfl⟩ (by show _ ≤ 43; omega) (by show _ ≤ 11226; omega) ⟨(Nat.le_of_ble_eq_true rfl), (Nat.le_of_ble_eq_true rfl)⟩ rfl (Nat.le_of_ble_eq_true rfl) dX0_hand_77 (fun H locs hM hS => ?_)
        refine w_top (y := va_rf (qI β (plI (thr (d + 1) a (p_hand0 μ) j).2))) (by rw [oB_qI (fun y e => by have := (thr_PX (g := g + 1) (B := b + cst 8) (by omega) (by omega) (d + 1) a (by omega) b (p_hand0 μ) j (by omega) (hand0_PX hP) hj).2.2.2 y e; omega)]) ?_
        refine sy_mput hC hM hS 6 10 (by decide) (by decide) (w := (plI (thr (d + 1) a (p_hand0 μ) j).2)) rfl rfl q60 rfl rfl (nar_rf _) (fit_rf _) dX0_hand_80 (fun H locs hM hS => ?_)
        refine lv_aload_n hx hb dX0_hand_83 rfl (lv_at hl 1 rfl) ?_
        refine sy_mget (v := .int (sS (setS ((thr (d + 1) a (p_hand0 μ) j).1) 6 (plI (thr (d + 1) a (p_hand0 μ) j).2)) 8)) hC hM 9 (by decide) rfl rfl q59 rfl dX0_hand_84 ?_
        exact sy_iret hC hr hlk hM hS (by rw [p_hand_ok (μ := μ) (t := j) (r := a) (by omega) (by omega) hall, hd]) (by rw [p_hand_ok (μ := μ) (t := j) (r := a) (by omega) (by omega) hall, hd]; first | done | rfl) (Nat.le_of_ble_eq_true rfl) (Nat.le_of_ble_eq_true rfl) dX0_hand_87
      · refine lv_aload_n hx hb dX0_hand_35 rfl (lv_at hl 1 rfl) ?_
        refine sy_mget (v := .ref (β 2)) hC hM 7 (by decide) rfl rfl q57 rfl dX0_hand_36 ?_
        refine lv_iload_n hx hb dX0_hand_39 rfl (lv_at hl 0 rfl) ?_
        refine sy_dkald hC hM i rfl (by omega) dX0_hand_40 ?_
        have hq : i < 32 := by omega
        by_cases hlv : i % 4 < dk ν (i / 4)
        · refine w_top (y := .ref (β (124 + i))) (by rw [show dkA β ν i = some (β (124 + i)) from if_pos hlv]; rfl) ?_
          refine lv_ifnull hx hb dX0_hand_41 ?_
          refine lv_aload_n hx hb dX0_hand_44 rfl (lv_at hl 1 rfl) ?_
          refine sy_mget (v := .ref (β 2)) hC hM 7 (by decide) rfl rfl q57 rfl dX0_hand_45 ?_
          refine lv_iload_n hx hb dX0_hand_48 rfl (lv_at hl 0 rfl) ?_
          refine sy_dkald hC hM i rfl (by omega) dX0_hand_49 ?_
          refine w_top (y := .ref (β (124 + i))) (by rw [show dkA β ν i = some (β (124 + i)) from if_pos hlv]; rfl) ?_
          refine lv_iconst (v := 0) hx hb dX0_hand_50 (by decide) ?_
          refine sy_dput hC hM hS hq hlv 12 8 (by decide) (by decide) (w := 0) (deskF_set (by simp)) q349 rfl rfl (nar_z (by decide)) (fit_z (by decide)) dX0_hand_51 (fun H locs hM hS => ?_)
          refine lv_iinc (v := (nI (i + 1))) (lv' := [(3, .int (nI (i + 1))), (0, .ref (β 0)), (1, .int (nI j)), (2, .int (nI a))]) hx hb dX0_hand_54 hl (k := 0) rfl (nI_1 i) (by decide) rfl (fun ls hl => ?_)
          refine lv_goto (tgt := 29) hx hb dX0_hand_57 (by decide) ?_
          exact ih (i + 1, (setA ν 12 i 0)) H locs ls ⟨by show i + 1 ≤ 32; omega, (by have h9 := hp; rw [show 32 - i = 32 - (i + 1) + 1 by omega] at h9; exact h9), (hsr.tr ⟨rfl, rfl, rfl, rfl, rfl, rfl, rfl⟩), hM, hS, lv_sub hl [0, 1, 2, 3] rfl⟩ (by show 32 - (i + 1) < 32 - i; omega)
        · refine w_top (y := .null) (by rw [show dkA β ν i = none from if_neg hlv]; rfl) ?_
          have hM : Sys D tc x mo β (setA ν 12 i 0) H := hM.pD0 (by decide) (fun z => hlv z.2)
          refine lv_ifnullN (tgt := 54) hx hb dX0_hand_41 (by decide) ?_
          refine lv_iinc (v := (nI (i + 1))) (lv' := [(3, .int (nI (i + 1))), (0, .ref (β 0)), (1, .int (nI j)), (2, .int (nI a))]) hx hb dX0_hand_54 hl (k := 0) rfl (nI_1 i) (by decide) rfl (fun ls hl => ?_)
          refine lv_goto (tgt := 29) hx hb dX0_hand_57 (by decide) ?_
          exact ih (i + 1, (setA ν 12 i 0)) H locs ls ⟨by show i + 1 ≤ 32; omega, (by have h9 := hp; rw [show 32 - i = 32 - (i + 1) + 1 by omega] at h9; exact h9), (hsr.tr ⟨rfl, rfl, rfl, rfl, rfl, rfl, rfl⟩), hM, hS, lv_sub hl [0, 1, 2, 3] rfl⟩ (by show 32 - (i + 1) < 32 - i; omega)
    · refine lv_aload_n hx hb dX0_hand_20 rfl (lv_at hl 0 rfl) ?_
      refine lv_bipush (v := (-2)) hx hb dX0_hand_21 (by decide) ?_
      refine w_YV (As := [.int (-2)]) hC hX hZ hM hS hml hl.1 (sy_mainR hC.2.2.2.2 hM) (k_X0_no l hst D tc x mo β (setS μ 1 0) (-2)) q92 q94 qs0 q23 q95 rfl ⟨by decide, by decide, rfl⟩ (Nat.le_of_ble_eq_true rfl) (Nat.le_of_ble_eq_true rfl) ⟨(Nat.le_of_ble_eq_true rfl), (Nat.le_of_ble_eq_true rfl)⟩ rfl (Nat.le_of_ble_eq_true rfl) dX0_hand_23 (fun H locs hM hS => ?_)
      exact sy_iret hC hr hlk hM hS (by rw [p_hand_bad (μ := μ) (by first | (rw [show isItem μ t = false from c_10]; rfl) | (rw [show isIn r 0 7 = false from c_17]; simp))]; first | done | rfl) (by rw [p_hand_bad (μ := μ) (by first | (rw [show isItem μ t = false from c_10]; rfl) | (rw [show isIn r 0 7 = false from c_17]; simp))]) (Nat.le_of_ble_eq_true rfl) (Nat.le_of_ble_eq_true rfl) dX0_hand_26

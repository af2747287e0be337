/-! SYSTEM 7: put, get, lay, at, is, stamps, told, out, change, takes -/
set_option maxRecDepth 100000
set_option maxHeartbeats 4000000
theorem fit_z {v : Int32} (h : v = 0 ∨ v = 1) : fits .boolean (.int v) = true := by rcases h with rfl | rfl <;> decide +kernel
theorem p_no2 (μ : MS) : p_no (setS μ 1 0) (-2) = setS (setS μ 1 0) 1 (-2) := by
  refine ms_ext (fun k => ?_) (fun _ _ => rfl) (fun _ => rfl)
  unfold p_no
  simp only [sS_setS]
  by_cases h4 : k = 4
  · subst h4; simp
  by_cases h3 : k = 3
  · subst h3; simp
  by_cases h2 : k = 2
  · subst h2; simp
  simp [h4, h3, h2]
theorem setA_comm {μ : MS} {a b i j : Nat} {u v : Int32} (h : a ≠ b) : setA (setA μ a i u) b j v = setA (setA μ b j v) a i u := by
  refine ms_ext (fun _ => rfl) (fun c k => ?_) (fun _ => rfl)
  simp only [sA_setA]
  by_cases h1 : c = b ∧ k = j
  · rw [if_pos h1, if_neg (fun q => h (q.1.symm.trans h1.1)), if_pos h1]
  · rw [if_neg h1]
    by_cases h2 : c = a ∧ k = i
    · rw [if_pos h2, if_pos h2]
    · rw [if_neg h2, if_neg h2, if_neg h1]
theorem goes13 : ∀ k : Nat, k < 13 → goesN k 13 = oneN k := by decide
theorem one3 : ∀ k : Nat, k < 13 → oneN k = true → k = 5 ∨ k = 6 ∨ k = 7 := by decide
theorem lN_int {n : Nat} : (nI n).toInt64 = lN n ∨ True := Or.inr trivial
theorem nI_lN {n : Nat} (h : n < 2147483648) : (nI n).toInt64 = lN n := by
  apply Int64.toInt_inj.mp
  rw [Int32.toInt_toInt64, nI_toInt (by omega), lN_toInt (by omega)]
theorem m1_64 : (-1 : Int32).toInt64 = -1 := by decide
theorem lN_32 {n : Nat} (h : n < 2147483648) : (lN n).toInt32 = nI n := by
  apply Int32.toInt_inj.mp
  rw [Int64.toInt_toInt32, lN_toInt (by omega), nI_toInt (by omega)]
  apply Int.bmod_eq_of_le <;> omega
theorem cv_le {μ : MS} {j : Nat} {v : Int64} (h : CVp μ j v) (hk : kd μ j = 0 ∨ kd μ j = 1) : v ≤ 2147483647 := by
  refine Int64.le_iff_toInt_le.mpr ?_
  have e : (2147483647 : Int64).toInt = 2147483647 := by decide
  rw [e]
  unfold CVp at h
  rcases hk with hk | hk
  · rw [hk, if_neg (by decide), if_pos rfl] at h
    omega
  · rw [hk, if_neg (by decide), if_neg (by decide), if_pos rfl] at h
    omega
theorem cv_01 {μ : MS} {j : Nat} {v : Int64} (h : CVp μ j v) (hk : kd μ j = 3) : v = 0 ∨ v = 1 := by
  unfold CVp at h
  rw [hk, if_neg (by decide), if_neg (by decide), if_neg (by decide), if_pos rfl] at h
  exact h
theorem k_X0_put (l : Launch) (hst : l.stackTraces = false) (D : va_G) (tc : Nat → ClassId) (x mo : Nat) (β : Nat → Nat) (μ : MS) (hI : IX μ) (t i v : Int32) : YW l yX0_put cX0_put 5 (some .int) [(20, 35, 36, 93), (20, 35, 45, 95)] 9 10322 3 1000 D tc x mo β [.ref (β 0), .int t, .int i, .int v] μ ((p_put μ t i v).1) (some (.int ((p_put μ t i v).2))) := by
  refine YW.of (by decide) rfl (Nat.le_of_ble_eq_true rfl) ?_
  intro p e s m below meth c hC hX hZ hr hlk hml htab hM hS ls hl
  have hx := hC.1
  have hb := hC.2.1
  have hts := hC.2.2.1
  have hown := hC.2.2.2.1
  have hl : lv_has ls 5 [(0, .ref (β 0)), (1, .int t), (2, .int i), (3, .int v)] := hl
  have hn := hI.1.1.1.2
  have hW := hI.1.1
  have hn0 : sS μ 0 = nI (nn μ) := hI.1.1.1.1
  refine lv_aload_n hx hb dX0_put_0 rfl (lv_at hl 0 rfl) ?_
  refine lv_iconst (v := 0) hx hb dX0_put_1 (by decide) ?_
  refine sy_mput hC hM hS 1 2 (by decide) (by decide) (w := 0) rfl rfl q52 rfl rfl rfl rfl dX0_put_2 (fun H locs hM hS => ?_)
  refine lv_aload_n hx hb dX0_put_5 rfl (lv_at hl 0 rfl) ?_
  refine lv_iload_n hx hb dX0_put_6 rfl (lv_at hl 1 rfl) ?_
  refine w_YV (As := [.int t]) hC hX hZ hM hS hml hl.1 (sy_mainR hC.2.2.2.2 hM) (k_X0_isItem l hst D tc x mo β (setS μ 1 0) t) q245 q247 qs2 q23 q248 rfl ⟨by decide, by decide, rfl⟩ (Nat.le_of_ble_eq_true rfl) (Nat.le_of_ble_eq_true rfl) ⟨(Nat.le_of_ble_eq_true rfl), (Nat.le_of_ble_eq_true rfl)⟩ rfl (Nat.le_of_ble_eq_true rfl) dX0_put_7 (fun H locs hM hS => ?_)
  refine b_ifne (w := (isItem (setS μ 1 0) t)) (tgt := 20) hx hb dX0_put_10 (by decide) (fun c_10 => ?_) (fun c_10 => ?_)
  · obtain ⟨j, hj, hn8, rfl⟩ := item_of (μ := μ) hW c_10
    have h12_j := (hW.2.1 j (by omega)).2.1
    have h3 := (hW.2.1 j (by omega)).2.2.2
    have hi_j : isItem μ (nI j) = true := isItem_of hW hj
    refine lv_aload_n hx hb dX0_put_20 rfl (lv_at hl 0 rfl) ?_
    refine sy_mget (v := .ref (β 1)) hC hM 0 (by decide) rfl rfl q50 rfl dX0_put_21 ?_
    refine lv_iload_n hx hb dX0_put_24 rfl (lv_at hl 1 rfl) ?_
    refine sy_itald hC hM j rfl hj hn dX0_put_25 ?_
    refine sy_iget hC hM hj hn q147 dX0_put_26 ?_
    refine lv_iload_n hx hb dX0_put_29 rfl (lv_at hl 2 rfl) ?_
    refine lv_iload_n hx hb dX0_put_30 rfl (lv_at hl 3 rfl) ?_
    cases hnum : numN (kd μ j)
    · refine w_YX (As := [.ref (β (64 + j)), .int i, .int v]) hC hX hZ hM hS hml hl.1 (k_X0_set_cce l hst D tc x mo β (setS μ 1 0) j hj hn hnum h12_j i v) q249 q250 q23 q251 rfl ⟨by decide, by decide, rfl⟩ (Nat.le_of_ble_eq_true rfl) (Nat.le_of_ble_eq_true rfl) ⟨(Nat.le_of_ble_eq_true rfl), (Nat.le_of_ble_eq_true rfl)⟩ rfl (Nat.le_of_ble_eq_true rfl) dX0_put_31 (fun H locs q9 ce hM hS hce hcv hcl => ?_)
      refine w_catch (i := 0) hC hX htab (pre := []) (z := ⟨20, 35, 36, 93⟩) (suf := [⟨20, 35, 45, 95⟩]) rfl (fun z hz => by cases hz) rfl (by decide) q155 (by decide) hce hcv hcl ?_
      refine lv_astore (lv' := [(4, .ref q9), (0, .ref (β 0)), (1, .int (nI j)), (2, .int i), (3, .int v)]) hx hb dX0_put_36 hl (by decide) rfl (fun ls hl => ?_)
      refine lv_aload_n hx hb dX0_put_38 rfl (lv_at hl 1 rfl) ?_
      refine lv_bipush (v := (-4)) hx hb dX0_put_39 (by decide) ?_
      refine w_YV (As := [.int (-4)]) hC hX hZ hM hS hml hl.1 (sy_mainR hC.2.2.2.2 hM) (k_X0_no l hst D tc x mo β (setS μ 1 0) (-4)) q92 q94 qs0 q23 q95 rfl ⟨by decide, by decide, rfl⟩ (Nat.le_of_ble_eq_true rfl) (Nat.le_of_ble_eq_true rfl) ⟨(Nat.le_of_ble_eq_true rfl), (Nat.le_of_ble_eq_true rfl)⟩ rfl (Nat.le_of_ble_eq_true rfl) dX0_put_41 (fun H locs hM hS => ?_)
      exact sy_iret hC hr hlk hM hS (by rw [p_put_why (μ := μ) (by omega) hi_j (by rw [hnum, wpl_f]; decide), hnum, wpl_f]) (by rw [p_put_why (μ := μ) (by omega) hi_j (by rw [hnum, wpl_f]; decide), hnum, wpl_f]) (Nat.le_of_ble_eq_true rfl) (Nat.le_of_ble_eq_true rfl) dX0_put_44
    · cases hin : isIn i 0 (nI (sz μ j) - 1)
      · have hout : ¬ vp_in i (sz μ j) := vx_in_no hin (by omega)
        refine w_YX (As := [.ref (β (64 + j)), .int i, .int v]) hC hX hZ hM hS hml hl.1 (k_X0_set_oob l hst D tc x mo β (setS μ 1 0) j hj hn hnum h3 i v hout) q249 q250 q23 q251 rfl ⟨by decide, by decide, rfl⟩ (Nat.le_of_ble_eq_true rfl) (Nat.le_of_ble_eq_true rfl) ⟨(Nat.le_of_ble_eq_true rfl), (Nat.le_of_ble_eq_true rfl)⟩ rfl (Nat.le_of_ble_eq_true rfl) dX0_put_31 (fun H locs q9 ce hM hS hce hcv hcl => ?_)
        refine w_catch (i := 1) hC hX htab (pre := [⟨20, 35, 36, 93⟩]) (z := ⟨20, 35, 45, 95⟩) (suf := []) rfl (fun z hz => by rw [List.mem_singleton.mp hz]; exact ⟨by decide, 0, by decide, by decide, q155⟩) rfl (by decide) q226 (by decide) hce hcv hcl ?_
        refine lv_astore (lv' := [(4, .ref q9), (0, .ref (β 0)), (1, .int (nI j)), (2, .int i), (3, .int v)]) hx hb dX0_put_45 hl (by decide) rfl (fun ls hl => ?_)
        refine lv_aload_n hx hb dX0_put_47 rfl (lv_at hl 1 rfl) ?_
        refine lv_bipush (v := (-5)) hx hb dX0_put_48 (by decide) ?_
        refine w_YV (As := [.int (-5)]) hC hX hZ hM hS hml hl.1 (sy_mainR hC.2.2.2.2 hM) (k_X0_no l hst D tc x mo β (setS μ 1 0) (-5)) q92 q94 qs0 q23 q95 rfl ⟨by decide, by decide, rfl⟩ (Nat.le_of_ble_eq_true rfl) (Nat.le_of_ble_eq_true rfl) ⟨(Nat.le_of_ble_eq_true rfl), (Nat.le_of_ble_eq_true rfl)⟩ rfl (Nat.le_of_ble_eq_true rfl) dX0_put_50 (fun H locs hM hS => ?_)
        exact sy_iret hC hr hlk hM hS (by rw [p_put_why (μ := μ) (by omega) hi_j (by rw [hnum, (hW.2.1 j (by omega)).2.2.1, wpl_i hin]; decide), hnum, (hW.2.1 j (by omega)).2.2.1, wpl_i hin]) (by rw [p_put_why (μ := μ) (by omega) hi_j (by rw [hnum, (hW.2.1 j (by omega)).2.2.1, wpl_i hin]; decide), hnum, (hW.2.1 j (by omega)).2.2.1, wpl_i hin]) (Nat.le_of_ble_eq_true rfl) (Nat.le_of_ble_eq_true rfl) dX0_put_53
      · obtain ⟨a, ha, rfl⟩ := isIn_pred (by omega) hin
        refine w_YS (As := [.ref (β (64 + j)), .int (nI a), .int v]) hC hX hZ hM hS hml hl.1 (k_X0_set_ok l hst D tc x mo β (setS μ 1 0) j hj hn hnum h3 a ha v) q249 q250 q23 q251 rfl ⟨by decide, by decide, rfl⟩ (Nat.le_of_ble_eq_true rfl) (Nat.le_of_ble_eq_true rfl) ⟨(Nat.le_of_ble_eq_true rfl), (Nat.le_of_ble_eq_true rfl)⟩ rfl (Nat.le_of_ble_eq_true rfl) dX0_put_31 (fun H locs hM hS => ?_)
        refine lv_iconst (v := 1) hx hb dX0_put_34 (by decide) ?_
        exact sy_iret hC hr hlk hM hS (by rw [p_put_ok (μ := μ) (by omega) (by omega) hi_j (by rw [hnum, (hW.2.1 j (by omega)).2.2.1]; exact wpl_t hin)]; first | done | rfl) (by rw [p_put_ok (μ := μ) (by omega) (by omega) hi_j (by rw [hnum, (hW.2.1 j (by omega)).2.2.1]; exact wpl_t hin)]; first | done | rfl) (Nat.le_of_ble_eq_true rfl) (Nat.le_of_ble_eq_true rfl) dX0_put_35
  · refine lv_aload_n hx hb dX0_put_13 rfl (lv_at hl 0 rfl) ?_
    refine lv_bipush (v := (-2)) hx hb dX0_put_14 (by decide) ?_
    refine w_YV (As := [.int (-2)]) hC hX hZ hM hS hml hl.1 (sy_mainR hC.2.2.2.2 hM) (k_X0_no l hst D tc x mo β (setS μ 1 0) (-2)) q92 q94 qs0 q23 q95 rfl ⟨by decide, by decide, rfl⟩ (Nat.le_of_ble_eq_true rfl) (Nat.le_of_ble_eq_true rfl) ⟨(Nat.le_of_ble_eq_true rfl), (Nat.le_of_ble_eq_true rfl)⟩ rfl (Nat.le_of_ble_eq_true rfl) dX0_put_16 (fun H locs hM hS => ?_)
    exact sy_iret hC hr hlk hM hS (by rw [p_put_bad (μ := μ) c_10]) (by rw [p_put_bad (μ := μ) c_10]) (Nat.le_of_ble_eq_true rfl) (Nat.le_of_ble_eq_true rfl) dX0_put_19
theorem k_X0_get (l : Launch) (hst : l.stackTraces = false) (D : va_G) (tc : Nat → ClassId) (x mo : Nat) (β : Nat → Nat) (μ : MS) (hI : IX μ) (b : Nat) (hb52 : b < 2 ^ 52) (hD : DB b μ) (t i : Int32) : YW l yX0_get cX0_get 5 (some .int) [(24, 37, 38, 93), (24, 37, 46, 95)] 9 10321 3 1000 D tc x mo β [.ref (β 0), .int t, .int i] μ ((p_get μ t i).1) (some (.int ((p_get μ t i).2))) := by
  refine YW.of (by decide) rfl (Nat.le_of_ble_eq_true rfl) ?_
  intro p e s m below meth c hC hX hZ hr hlk hml htab hM hS ls hl
  have hx := hC.1
  have hb := hC.2.1
  have hts := hC.2.2.1
  have hown := hC.2.2.2.1
  have hl : lv_has ls 5 [(0, .ref (β 0)), (1, .int t), (2, .int i)] := hl
  have hn := hI.1.1.1.2
  have hW := hI.1.1
  have hn0 : sS μ 0 = nI (nn μ) := hI.1.1.1.1
  refine lv_aload_n hx hb dX0_get_0 rfl (lv_at hl 0 rfl) ?_
  refine lv_iconst (v := 0) hx hb dX0_get_1 (by decide) ?_
  refine sy_mput hC hM hS 1 2 (by decide) (by decide) (w := 0) rfl rfl q52 rfl rfl rfl rfl dX0_get_2 (fun H locs hM hS => ?_)
  refine lv_aload_n hx hb dX0_get_5 rfl (lv_at hl 0 rfl) ?_
  refine lv_iload_n hx hb dX0_get_6 rfl (lv_at hl 1 rfl) ?_
  refine w_YV (As := [.int t]) hC hX hZ hM hS hml hl.1 (sy_mainR hC.2.2.2.2 hM) (k_X0_isItem l hst D tc x mo β (setS μ 1 0) t) q245 q247 qs2 q23 q248 rfl ⟨by decide, by decide, rfl⟩ (Nat.le_of_ble_eq_true rfl) (Nat.le_of_ble_eq_true rfl) ⟨(Nat.le_of_ble_eq_true rfl), (Nat.le_of_ble_eq_true rfl)⟩ rfl (Nat.le_of_ble_eq_true rfl) dX0_get_7 (fun H locs hM hS => ?_)
  refine b_ifne (w := (isItem (setS μ 1 0) t)) (tgt := 21) hx hb dX0_get_10 (by decide) (fun c_10 => ?_) (fun c_10 => ?_)
  · obtain ⟨j, hj, hn8, rfl⟩ := item_of (μ := μ) hW c_10
    have h12_j := (hW.2.1 j (by omega)).2.1
    have h3 := (hW.2.1 j (by omega)).2.2.2
    have hi_j : isItem μ (nI j) = true := isItem_of hW hj
    refine lv_bipush (v := (-4)) hx hb dX0_get_21 (by decide) ?_
    refine lv_istore_n (lv' := [(3, .int (-4)), (0, .ref (β 0)), (1, .int (nI j)), (2, .int i)]) hx hb dX0_get_23 rfl hl (by decide) rfl (fun ls hl => ?_)
    refine lv_aload_n hx hb dX0_get_24 rfl (lv_at hl 1 rfl) ?_
    refine sy_mget (v := .ref (β 1)) hC hM 0 (by decide) rfl rfl q50 rfl dX0_get_25 ?_
    refine lv_iload_n hx hb dX0_get_28 rfl (lv_at hl 2 rfl) ?_
    refine sy_itald hC hM j rfl hj hn dX0_get_29 ?_
    refine sy_iget hC hM hj hn q147 dX0_get_30 ?_
    refine lv_iload_n hx hb dX0_get_33 rfl (lv_at hl 3 rfl) ?_
    cases hnum : numN (kd μ j)
    · refine w_YX (As := [.ref (β (64 + j)), .int i]) hC hX hZ hM hS hml hl.1 (k_X0_number_cce l hst D tc x mo β (setS μ 1 0) j hj hn hnum h12_j i) q260 q261 q23 q262 rfl ⟨by decide, by decide, rfl⟩ (Nat.le_of_ble_eq_true rfl) (Nat.le_of_ble_eq_true rfl) ⟨(Nat.le_of_ble_eq_true rfl), (Nat.le_of_ble_eq_true rfl)⟩ rfl (Nat.le_of_ble_eq_true rfl) dX0_get_34 (fun H locs q9 ce hM hS hce hcv hcl => ?_)
      refine w_catch (i := 0) hC hX htab (pre := []) (z := ⟨24, 37, 38, 93⟩) (suf := [⟨24, 37, 46, 95⟩]) rfl (fun z hz => by cases hz) rfl (by decide) q155 (by decide) hce hcv hcl ?_
      refine lv_astore (lv' := [(4, .ref q9), (3, .int (-4)), (0, .ref (β 0)), (1, .int (nI j)), (2, .int i)]) hx hb dX0_get_38 hl (by decide) rfl (fun ls hl => ?_)
      refine lv_bipush (v := (-4)) hx hb dX0_get_40 (by decide) ?_
      refine lv_istore_n (lv' := [(3, .int (-4)), (4, .ref q9), (0, .ref (β 0)), (1, .int (nI j)), (2, .int i)]) hx hb dX0_get_42 rfl hl (by decide) rfl (fun ls hl => ?_)
      refine lv_goto (tgt := 51) hx hb dX0_get_43 (by decide) ?_
      refine lv_aload_n hx hb dX0_get_51 rfl (lv_at hl 2 rfl) ?_
      refine lv_iload_n hx hb dX0_get_52 rfl (lv_at hl 0 rfl) ?_
      refine w_YV (As := [.int (-4)]) hC hX hZ hM hS hml hl.1 (sy_mainR hC.2.2.2.2 hM) (k_X0_no l hst D tc x mo β (setS μ 1 0) (-4)) q92 q94 qs0 q23 q95 rfl ⟨by decide, by decide, rfl⟩ (Nat.le_of_ble_eq_true rfl) (Nat.le_of_ble_eq_true rfl) ⟨(Nat.le_of_ble_eq_true rfl), (Nat.le_of_ble_eq_true rfl)⟩ rfl (Nat.le_of_ble_eq_true rfl) dX0_get_53 (fun H locs hM hS => ?_)
      refine lv_istore_n (lv' := [(3, .int (-4)), (4, .ref q9), (0, .ref (β 0)), (1, .int (nI j)), (2, .int i)]) hx hb dX0_get_56 rfl hl (by decide) rfl (fun ls hl => ?_)
      refine lv_iconst (v := 0) hx hb dX0_get_57 (by decide) ?_
      exact sy_iret hC hr hlk hM hS (by rw [p_get_why (μ := μ) (by omega) hi_j (by rw [hnum, wpl_f]; decide), hnum, wpl_f]) (by rw [p_get_why (μ := μ) (by omega) hi_j (by rw [hnum, wpl_f]; decide)]) (Nat.le_of_ble_eq_true rfl) (Nat.le_of_ble_eq_true rfl) dX0_get_58
    · cases hin : isIn i 0 (nI (sz μ j) - 1)
      · have hout : ¬ vp_in i (sz μ j) := vx_in_no hin (by omega)
        refine w_YX (As := [.ref (β (64 + j)), .int i]) hC hX hZ hM hS hml hl.1 (k_X0_number_oob l hst D tc x mo β (setS μ 1 0) j hj hn hnum h3 i hout) q260 q261 q23 q262 rfl ⟨by decide, by decide, rfl⟩ (Nat.le_of_ble_eq_true rfl) (Nat.le_of_ble_eq_true rfl) ⟨(Nat.le_of_ble_eq_true rfl), (Nat.le_of_ble_eq_true rfl)⟩ rfl (Nat.le_of_ble_eq_true rfl) dX0_get_34 (fun H locs q9 ce hM hS hce hcv hcl => ?_)
        refine w_catch (i := 1) hC hX htab (pre := [⟨24, 37, 38, 93⟩]) (z := ⟨24, 37, 46, 95⟩) (suf := []) rfl (fun z hz => by rw [List.mem_singleton.mp hz]; exact ⟨by decide, 0, by decide, by decide, q155⟩) rfl (by decide) q226 (by decide) hce hcv hcl ?_
        refine lv_astore (lv' := [(4, .ref q9), (3, .int (-4)), (0, .ref (β 0)), (1, .int (nI j)), (2, .int i)]) hx hb dX0_get_46 hl (by decide) rfl (fun ls hl => ?_)
        refine lv_bipush (v := (-5)) hx hb dX0_get_48 (by decide) ?_
        refine lv_istore_n (lv' := [(3, .int (-5)), (4, .ref q9), (0, .ref (β 0)), (1, .int (nI j)), (2, .int i)]) hx hb dX0_get_50 rfl hl (by decide) rfl (fun ls hl => ?_)
        refine lv_aload_n hx hb dX0_get_51 rfl (lv_at hl 2 rfl) ?_
        refine lv_iload_n hx hb dX0_get_52 rfl (lv_at hl 0 rfl) ?_
        refine w_YV (As := [.int (-5)]) hC hX hZ hM hS hml hl.1 (sy_mainR hC.2.2.2.2 hM) (k_X0_no l hst D tc x mo β (setS μ 1 0) (-5)) q92 q94 qs0 q23 q95 rfl ⟨by decide, by decide, rfl⟩ (Nat.le_of_ble_eq_true rfl) (Nat.le_of_ble_eq_true rfl) ⟨(Nat.le_of_ble_eq_true rfl), (Nat.le_of_ble_eq_true rfl)⟩ rfl (Nat.le_of_ble_eq_true rfl) dX0_get_53 (fun H locs hM hS => ?_)
        refine lv_istore_n (lv' := [(3, .int (-5)), (4, .ref q9), (0, .ref (β 0)), (1, .int (nI j)), (2, .int i)]) hx hb dX0_get_56 rfl hl (by decide) rfl (fun ls hl => ?_)
        refine lv_iconst (v := 0) hx hb dX0_get_57 (by decide) ?_
        exact sy_iret hC hr hlk hM hS (by rw [p_get_why (μ := μ) (by omega) hi_j (by rw [hnum, (hW.2.1 j (by omega)).2.2.1, wpl_i hin]; decide), hnum, (hW.2.1 j (by omega)).2.2.1, wpl_i hin]) (by rw [p_get_why (μ := μ) (by omega) hi_j (by rw [hnum, (hW.2.1 j (by omega)).2.2.1, wpl_i hin]; decide)]) (Nat.le_of_ble_eq_true rfl) (Nat.le_of_ble_eq_true rfl) dX0_get_58
      · obtain ⟨a, ha, rfl⟩ := isIn_pred (by omega) hin
        refine w_YS (As := [.ref (β (64 + j)), .int (nI a)]) hC hX hZ hM hS hml hl.1 (k_X0_number_ok l hst D tc x mo β (setS μ 1 0) j hj hn hnum h3 a ha (fun q => cv_le (hI.1.2 j (by omega) a (by omega)) q) (fun q => cv_01 (hI.1.2 j (by omega) a (by omega)) q) (fun q => by have h9 := hD j (by omega) q a (by omega); exact ⟨h9.1, by show (sC μ (3 * j + a)).toInt.natAbs < 2 ^ 53; omega⟩)) q260 q261 q23 q262 rfl ⟨by decide, by decide, rfl⟩ (Nat.le_of_ble_eq_true rfl) (Nat.le_of_ble_eq_true rfl) ⟨(Nat.le_of_ble_eq_true rfl), (Nat.le_of_ble_eq_true rfl)⟩ rfl (Nat.le_of_ble_eq_true rfl) dX0_get_34 (fun H locs hM hS => ?_)
        exact sy_iret hC hr hlk hM hS (by rw [p_get_ok (μ := μ) (by omega) (by omega) hi_j (by rw [hnum, (hW.2.1 j (by omega)).2.2.1]; exact wpl_t hin)]; first | done | rfl) (by rw [p_get_ok (μ := μ) (by omega) (by omega) hi_j (by rw [hnum, (hW.2.1 j (by omega)).2.2.1]; exact wpl_t hin)]; first | done | rfl) (Nat.le_of_ble_eq_true rfl) (Nat.le_of_ble_eq_true rfl) dX0_get_37
  · refine lv_aload_n hx hb dX0_get_13 rfl (lv_at hl 0 rfl) ?_
    refine lv_bipush (v := (-2)) hx hb dX0_get_14 (by decide) ?_
    refine sy_mput hC hM hS 1 2 (by decide) (by decide) (w := (-2)) rfl rfl q52 rfl rfl rfl rfl dX0_get_16 (fun H locs hM hS => ?_)
    refine lv_iconst (v := 0) hx hb dX0_get_19 (by decide) ?_
    exact sy_iret hC hr hlk hM hS (by rw [p_get_bad (μ := μ) c_10, p_no2]) (by rw [p_get_bad (μ := μ) c_10]) (Nat.le_of_ble_eq_true rfl) (Nat.le_of_ble_eq_true rfl) dX0_get_20
theorem k_X0_at (l : Launch) (hst : l.stackTraces = false) (D : va_G) (tc : Nat → ClassId) (x mo : Nat) (β : Nat → Nat) (μ : MS) (hI : IX μ) (t i : Int32) : YW l yX0_at cX0_at 4 (some .int) [(20, 37, 38, 93), (20, 37, 46, 95)] 9 10321 3 1000 D tc x mo β [.ref (β 0), .int t, .int i] μ ((p_at μ t i).1) (some (.int ((p_at μ t i).2))) := by
  refine YW.of (by decide) rfl (Nat.le_of_ble_eq_true rfl) ?_
  intro p e s m below meth c hC hX hZ hr hlk hml htab hM hS ls hl
  have hx := hC.1
  have hb := hC.2.1
  have hts := hC.2.2.1
  have hown := hC.2.2.2.1
  have hl : lv_has ls 4 [(0, .ref (β 0)), (1, .int t), (2, .int i)] := hl
  have hn := hI.1.1.1.2
  have hW := hI.1.1
  have hn0 : sS μ 0 = nI (nn μ) := hI.1.1.1.1
  refine lv_aload_n hx hb dX0_at_0 rfl (lv_at hl 0 rfl) ?_
  refine lv_iconst (v := 0) hx hb dX0_at_1 (by decide) ?_
  refine sy_mput hC hM hS 1 2 (by decide) (by decide) (w := 0) rfl rfl q52 rfl rfl rfl rfl dX0_at_2 (fun H locs hM hS => ?_)
  refine lv_aload_n hx hb dX0_at_5 rfl (lv_at hl 0 rfl) ?_
  refine lv_iload_n hx hb dX0_at_6 rfl (lv_at hl 1 rfl) ?_
  refine w_YV (As := [.int t]) hC hX hZ hM hS hml hl.1 (sy_mainR hC.2.2.2.2 hM) (k_X0_isItem l hst D tc x mo β (setS μ 1 0) t) q245 q247 qs2 q23 q248 rfl ⟨by decide, by decide, rfl⟩ (Nat.le_of_ble_eq_true rfl) (Nat.le_of_ble_eq_true rfl) ⟨(Nat.le_of_ble_eq_true rfl), (Nat.le_of_ble_eq_true rfl)⟩ rfl (Nat.le_of_ble_eq_true rfl) dX0_at_7 (fun H locs hM hS => ?_)
  refine b_ifne (w := (isItem (setS μ 1 0) t)) (tgt := 20) hx hb dX0_at_10 (by decide) (fun c_10 => ?_) (fun c_10 => ?_)
  · obtain ⟨j, hj, hn8, rfl⟩ := item_of (μ := μ) hW c_10
    have h12_j := (hW.2.1 j (by omega)).2.1
    have h3 := (hW.2.1 j (by omega)).2.2.2
    have hi_j : isItem μ (nI j) = true := isItem_of hW hj
    refine lv_aload_n hx hb dX0_at_20 rfl (lv_at hl 0 rfl) ?_
    refine lv_aload_n hx hb dX0_at_21 rfl (lv_at hl 0 rfl) ?_
    refine sy_mget (v := .ref (β 1)) hC hM 0 (by decide) rfl rfl q50 rfl dX0_at_22 ?_
    refine lv_iload_n hx hb dX0_at_25 rfl (lv_at hl 1 rfl) ?_
    refine sy_itald hC hM j rfl hj hn dX0_at_26 ?_
    refine sy_iget hC hM hj hn q147 dX0_at_27 ?_
    refine lv_iload_n hx hb dX0_at_30 rfl (lv_at hl 2 rfl) ?_
    cases hnum : thgN (kd μ j)
    · refine w_YX (As := [.ref (β (64 + j)), .int i]) hC hX hZ hM hS hml hl.1 (k_X0_part_cce l hst D tc x mo β (setS μ 1 0) j hj hn hnum h12_j i) q291 q292 q23 q293 rfl ⟨by decide, by decide, rfl⟩ (Nat.le_of_ble_eq_true rfl) (Nat.le_of_ble_eq_true rfl) ⟨(Nat.le_of_ble_eq_true rfl), (Nat.le_of_ble_eq_true rfl)⟩ rfl (Nat.le_of_ble_eq_true rfl) dX0_at_31 (fun H locs q9 ce hM hS hce hcv hcl => ?_)
      refine w_catch (i := 0) hC hX htab (pre := []) (z := ⟨20, 37, 38, 93⟩) (suf := [⟨20, 37, 46, 95⟩]) rfl (fun z hz => by cases hz) rfl (by decide) q155 (by decide) hce hcv hcl ?_
      refine lv_astore_n (lv' := [(3, .ref q9), (0, .ref (β 0)), (1, .int (nI j)), (2, .int i)]) hx hb dX0_at_38 rfl hl (by decide) rfl (fun ls hl => ?_)
      refine lv_aload_n hx hb dX0_at_39 rfl (lv_at hl 1 rfl) ?_
      refine lv_bipush (v := (-4)) hx hb dX0_at_40 (by decide) ?_
      refine w_YV (As := [.int (-4)]) hC hX hZ hM hS hml hl.1 (sy_mainR hC.2.2.2.2 hM) (k_X0_no l hst D tc x mo β (setS μ 1 0) (-4)) q92 q94 qs0 q23 q95 rfl ⟨by decide, by decide, rfl⟩ (Nat.le_of_ble_eq_true rfl) (Nat.le_of_ble_eq_true rfl) ⟨(Nat.le_of_ble_eq_true rfl), (Nat.le_of_ble_eq_true rfl)⟩ rfl (Nat.le_of_ble_eq_true rfl) dX0_at_42 (fun H locs hM hS => ?_)
      exact sy_iret hC hr hlk hM hS (by rw [p_at_why (μ := μ) (by omega) hi_j (by rw [hnum, wpl_f]; decide), hnum, wpl_f]) (by rw [p_at_why (μ := μ) (by omega) hi_j (by rw [hnum, wpl_f]; decide), hnum, wpl_f]) (Nat.le_of_ble_eq_true rfl) (Nat.le_of_ble_eq_true rfl) dX0_at_45
    · cases hin : isIn i 0 (nI (sz μ j) - 1)
      · have hout : ¬ vp_in i (sz μ j) := vx_in_no hin (by omega)
        refine w_YX (As := [.ref (β (64 + j)), .int i]) hC hX hZ hM hS hml hl.1 (k_X0_part_oob l hst D tc x mo β (setS μ 1 0) j hj hn hnum h12_j h3 i hout) q291 q292 q23 q293 rfl ⟨by decide, by decide, rfl⟩ (Nat.le_of_ble_eq_true rfl) (Nat.le_of_ble_eq_true rfl) ⟨(Nat.le_of_ble_eq_true rfl), (Nat.le_of_ble_eq_true rfl)⟩ rfl (Nat.le_of_ble_eq_true rfl) dX0_at_31 (fun H locs q9 ce hM hS hce hcv hcl => ?_)
        refine w_catch (i := 1) hC hX htab (pre := [⟨20, 37, 38, 93⟩]) (z := ⟨20, 37, 46, 95⟩) (suf := []) rfl (fun z hz => by rw [List.mem_singleton.mp hz]; exact ⟨by decide, 0, by decide, by decide, q155⟩) rfl (by decide) q226 (by decide) hce hcv hcl ?_
        refine lv_astore_n (lv' := [(3, .ref q9), (0, .ref (β 0)), (1, .int (nI j)), (2, .int i)]) hx hb dX0_at_46 rfl hl (by decide) rfl (fun ls hl => ?_)
        refine lv_aload_n hx hb dX0_at_47 rfl (lv_at hl 1 rfl) ?_
        refine lv_bipush (v := (-5)) hx hb dX0_at_48 (by decide) ?_
        refine w_YV (As := [.int (-5)]) hC hX hZ hM hS hml hl.1 (sy_mainR hC.2.2.2.2 hM) (k_X0_no l hst D tc x mo β (setS μ 1 0) (-5)) q92 q94 qs0 q23 q95 rfl ⟨by decide, by decide, rfl⟩ (Nat.le_of_ble_eq_true rfl) (Nat.le_of_ble_eq_true rfl) ⟨(Nat.le_of_ble_eq_true rfl), (Nat.le_of_ble_eq_true rfl)⟩ rfl (Nat.le_of_ble_eq_true rfl) dX0_at_50 (fun H locs hM hS => ?_)
        exact sy_iret hC hr hlk hM hS (by rw [p_at_why (μ := μ) (by omega) hi_j (by rw [hnum, (hW.2.1 j (by omega)).2.2.1, wpl_i hin]; decide), hnum, (hW.2.1 j (by omega)).2.2.1, wpl_i hin]) (by rw [p_at_why (μ := μ) (by omega) hi_j (by rw [hnum, (hW.2.1 j (by omega)).2.2.1, wpl_i hin]; decide), hnum, (hW.2.1 j (by omega)).2.2.1, wpl_i hin]) (Nat.le_of_ble_eq_true rfl) (Nat.le_of_ble_eq_true rfl) dX0_at_53
      · obtain ⟨a, ha, rfl⟩ := isIn_pred (by omega) hin
        refine w_YS (As := [.ref (β (64 + j)), .int (nI a)]) hC hX hZ hM hS hml hl.1 (k_X0_part_ok l hst D tc x mo β (setS μ 1 0) j hj hn hnum h12_j h3 a ha) q291 q292 q23 q293 rfl ⟨by decide, by decide, rfl⟩ (Nat.le_of_ble_eq_true rfl) (Nat.le_of_ble_eq_true rfl) ⟨(Nat.le_of_ble_eq_true rfl), (Nat.le_of_ble_eq_true rfl)⟩ rfl (Nat.le_of_ble_eq_true rfl) dX0_at_31 (fun H locs hM hS => ?_)
        rcases CV_thg hI.1 (show j < 60 by omega) (show a < 3 by omega) hnum with e8 | ⟨y8, hy8, e8, g8⟩
        · refine w_top (y := .null) (by show va_rf (qT β (sC μ (3 * j + a))) = _; rw [e8]; rfl) ?_
          refine w_YV (As := [.null]) hC hX hZ hM hS hml hl.1 (sy_mainR hC.2.2.2.2 hM) (k_X0_numberOf_n l hst D tc x mo β (setS μ 1 0) hn hn0) q294 q296 qs3 q23 q297 rfl ⟨by decide, by decide, rfl⟩ (Nat.le_of_ble_eq_true rfl) (Nat.le_of_ble_eq_true rfl) ⟨(Nat.le_of_ble_eq_true rfl), (Nat.le_of_ble_eq_true rfl)⟩ rfl (Nat.le_of_ble_eq_true rfl) dX0_at_34 (fun H locs hM hS => ?_)
          exact sy_iret hC hr hlk hM hS (by rw [p_at_ok (μ := μ) (by omega) (by omega) hi_j (by rw [hnum, (hW.2.1 j (by omega)).2.2.1]; exact wpl_t hin)]; first | done | rfl) (by rw [p_at_ok (μ := μ) (by omega) (by omega) hi_j (by rw [hnum, (hW.2.1 j (by omega)).2.2.1]; exact wpl_t hin)]; show _ = (sC μ (3 * j + a)).toInt32; first | (rw [e8]; rfl) | (rw [e8, lN_32 (by omega)])) (Nat.le_of_ble_eq_true rfl) (Nat.le_of_ble_eq_true rfl) dX0_at_37
        · refine w_top (y := .ref (β (64 + y8))) (by show va_rf (qT β (sC μ (3 * j + a))) = _; rw [e8, qT_N (by omega)]; rfl) ?_
          refine w_YV (As := [.ref (β (64 + y8))]) hC hX hZ hM hS hml hl.1 (sy_mainR hC.2.2.2.2 hM) (k_X0_numberOf_t l hst D tc x mo β (setS μ 1 0) hn hn0 y8 hy8) q294 q296 qs3 q23 q297 rfl ⟨by decide, by decide, rfl⟩ (Nat.le_of_ble_eq_true rfl) (Nat.le_of_ble_eq_true rfl) ⟨(Nat.le_of_ble_eq_true rfl), (Nat.le_of_ble_eq_true rfl)⟩ rfl (Nat.le_of_ble_eq_true rfl) dX0_at_34 (fun H locs hM hS => ?_)
          exact sy_iret hC hr hlk hM hS (by rw [p_at_ok (μ := μ) (by omega) (by omega) hi_j (by rw [hnum, (hW.2.1 j (by omega)).2.2.1]; exact wpl_t hin)]; first | done | rfl) (by rw [p_at_ok (μ := μ) (by omega) (by omega) hi_j (by rw [hnum, (hW.2.1 j (by omega)).2.2.1]; exact wpl_t hin)]; show _ = (sC μ (3 * j + a)).toInt32; first | (rw [e8]; rfl) | (rw [e8, lN_32 (by omega)])) (Nat.le_of_ble_eq_true rfl) (Nat.le_of_ble_eq_true rfl) dX0_at_37
  · refine lv_aload_n hx hb dX0_at_13 rfl (lv_at hl 0 rfl) ?_
    refine lv_bipush (v := (-2)) hx hb dX0_at_14 (by decide) ?_
    refine w_YV (As := [.int (-2)]) hC hX hZ hM hS hml hl.1 (sy_mainR hC.2.2.2.2 hM) (k_X0_no l hst D tc x mo β (setS μ 1 0) (-2)) q92 q94 qs0 q23 q95 rfl ⟨by decide, by decide, rfl⟩ (Nat.le_of_ble_eq_true rfl) (Nat.le_of_ble_eq_true rfl) ⟨(Nat.le_of_ble_eq_true rfl), (Nat.le_of_ble_eq_true rfl)⟩ rfl (Nat.le_of_ble_eq_true rfl) dX0_at_16 (fun H locs hM hS => ?_)
    exact sy_iret hC hr hlk hM hS (by rw [p_at_bad (μ := μ) c_10]) (by rw [p_at_bad (μ := μ) c_10]) (Nat.le_of_ble_eq_true rfl) (Nat.le_of_ble_eq_true rfl) dX0_at_19
theorem k_X0_is (l : Launch) (hst : l.stackTraces = false) (D : va_G) (tc : Nat → ClassId) (x mo : Nat) (β : Nat → Nat) (μ : MS) (hI : IX μ) (t f : Int32) : YC l yX0_is cX0_is 3 (some .int) 2 43 0 0 D tc x mo β [.ref (β 0), .int t, .int f] μ ((p_is μ t f).1) (some (.int ((p_is μ t f).2))) := by
  refine YC.of (by decide) rfl (Nat.le_of_ble_eq_true rfl) ?_
  intro p e s m below meth c hC hX hZ hr hlk hml hM hS ls hl
  have hx := hC.1
  have hb := hC.2.1
  have hts := hC.2.2.1
  have hown := hC.2.2.2.1
  have hl : lv_has ls 3 [(0, .ref (β 0)), (1, .int t), (2, .int f)] := hl
  have hn := hI.1.1.1.2
  have hW := hI.1.1
  have hn0 : sS μ 0 = nI (nn μ) := hI.1.1.1.1
  refine lv_aload_n hx hb dX0_is_0 rfl (lv_at hl 0 rfl) ?_
  refine lv_iconst (v := 0) hx hb dX0_is_1 (by decide) ?_
  refine sy_mput hC hM hS 1 2 (by decide) (by decide) (w := 0) rfl rfl q52 rfl rfl rfl rfl dX0_is_2 (fun H locs hM hS => ?_)
  refine lv_aload_n hx hb dX0_is_5 rfl (lv_at hl 0 rfl) ?_
  refine lv_iload_n hx hb dX0_is_6 rfl (lv_at hl 1 rfl) ?_
  refine w_YV (As := [.int t]) hC hX hZ hM hS hml hl.1 (sy_mainR hC.2.2.2.2 hM) (k_X0_isItem l hst D tc x mo β (setS μ 1 0) t) q245 q247 qs2 q23 q248 rfl ⟨by decide, by decide, rfl⟩ (Nat.le_of_ble_eq_true rfl) (Nat.le_of_ble_eq_true rfl) ⟨(Nat.le_of_ble_eq_true rfl), (Nat.le_of_ble_eq_true rfl)⟩ rfl (Nat.le_of_ble_eq_true rfl) dX0_is_7 (fun H locs hM hS => ?_)
  refine b_ifeq (w := (isItem (setS μ 1 0) t)) (tgt := 23) hx hb dX0_is_10 (by decide) (fun c_10 => ?_) (fun c_10 => ?_)
  · refine lv_aload_n hx hb dX0_is_23 rfl (lv_at hl 0 rfl) ?_
    refine lv_bipush (v := (-2)) hx hb dX0_is_24 (by decide) ?_
    refine w_YV (As := [.int (-2)]) hC hX hZ hM hS hml hl.1 (sy_mainR hC.2.2.2.2 hM) (k_X0_no l hst D tc x mo β (setS μ 1 0) (-2)) q92 q94 qs0 q23 q95 rfl ⟨by decide, by decide, rfl⟩ (Nat.le_of_ble_eq_true rfl) (Nat.le_of_ble_eq_true rfl) ⟨(Nat.le_of_ble_eq_true rfl), (Nat.le_of_ble_eq_true rfl)⟩ rfl (Nat.le_of_ble_eq_true rfl) dX0_is_26 (fun H locs hM hS => ?_)
    exact sy_iret hC hr hlk hM hS (by rw [p_is_bad (μ := μ) (by first | (rw [show isItem μ t = false from c_10]; rfl) | (rw [show isIn f 0 13 = false from c_20]; simp))]) (by rw [p_is_bad (μ := μ) (by first | (rw [show isItem μ t = false from c_10]; rfl) | (rw [show isIn f 0 13 = false from c_20]; simp))]) (Nat.le_of_ble_eq_true rfl) (Nat.le_of_ble_eq_true rfl) dX0_is_29
  · obtain ⟨j, hj, hn8, rfl⟩ := item_of (μ := μ) hW c_10
    have h12_j := (hW.2.1 j (by omega)).2.1
    have h3 := (hW.2.1 j (by omega)).2.2.2
    have hi_j : isItem μ (nI j) = true := isItem_of hW hj
    refine lv_iload_n hx hb dX0_is_13 rfl (lv_at hl 2 rfl) ?_
    refine lv_iconst (v := 0) hx hb dX0_is_14 (by decide) ?_
    refine lv_bipush (v := 13) hx hb dX0_is_15 (by decide) ?_
    refine w_SC (As := [.int f, .int 0, .int 13]) hx hb hts hown hml hl.1 (k_X0_isIn l f 0 13) q89 q90 q23 q91 rfl ⟨by decide, by decide, rfl⟩ (Nat.le_of_ble_eq_true rfl) (Nat.le_of_ble_eq_true rfl) ⟨Nat.zero_le _, Nat.zero_le _⟩ rfl (Nat.le_of_ble_eq_true rfl) dX0_is_17 ?_
    refine b_ifne (w := (isIn f 0 13)) (tgt := 30) hx hb dX0_is_20 (by decide) (fun c_20 => ?_) (fun c_20 => ?_)
    · obtain ⟨f, hf, rfl⟩ := isIn_nat (n := 13) (by decide) c_20
      refine lv_aload_n hx hb dX0_is_30 rfl (lv_at hl 0 rfl) ?_
      refine sy_mget (v := .ref (β 1)) hC hM 0 (by decide) rfl rfl q50 rfl dX0_is_31 ?_
      refine lv_iload_n hx hb dX0_is_34 rfl (lv_at hl 1 rfl) ?_
      refine sy_itald hC hM j rfl hj hn dX0_is_35 ?_
      refine sy_iget hC hM hj hn q147 dX0_is_36 ?_
      refine lv_iload_n hx hb dX0_is_39 rfl (lv_at hl 2 rfl) ?_
      refine w_YS (As := [.ref (β (64 + j)), .int (nI f)]) hC hX hZ hM hS hml hl.1 (k_X0_isOf l hst D tc x mo β (setS μ 1 0) j hj hn h12_j f (by omega)) q302 q303 q23 q304 rfl ⟨by decide, by decide, rfl⟩ (Nat.le_of_ble_eq_true rfl) (Nat.le_of_ble_eq_true rfl) ⟨(Nat.le_of_ble_eq_true rfl), (Nat.le_of_ble_eq_true rfl)⟩ rfl (Nat.le_of_ble_eq_true rfl) dX0_is_40 (fun H locs hM hS => ?_)
      refine b_ifeq (w := (goesN (kd μ j) f)) (tgt := 50) hx hb dX0_is_43 (by decide) (fun c_43 => ?_) (fun c_43 => ?_)
      · refine lv_iconst (v := 0) hx hb dX0_is_50 (by decide) ?_
        exact sy_iret hC hr hlk hM hS (by rw [p_is_ok (μ := μ) (by omega) (by omega) (by rw [hi_j]; exact c_20)]) (by rw [p_is_ok (μ := μ) (by omega) (by omega) (by rw [hi_j]; exact c_20), show goesN (kd μ j) f = _ from c_43]; first | done | rfl) (Nat.le_of_ble_eq_true rfl) (Nat.le_of_ble_eq_true rfl) dX0_is_51
      · refine lv_iconst (v := 1) hx hb dX0_is_46 (by decide) ?_
        refine lv_goto (tgt := 51) hx hb dX0_is_47 (by decide) ?_
        exact sy_iret hC hr hlk hM hS (by rw [p_is_ok (μ := μ) (by omega) (by omega) (by rw [hi_j]; exact c_20)]) (by rw [p_is_ok (μ := μ) (by omega) (by omega) (by rw [hi_j]; exact c_20), show goesN (kd μ j) f = _ from c_43]; first | done | rfl) (Nat.le_of_ble_eq_true rfl) (Nat.le_of_ble_eq_true rfl) dX0_is_51
    · refine lv_aload_n hx hb dX0_is_23 rfl (lv_at hl 0 rfl) ?_
      refine lv_bipush (v := (-2)) hx hb dX0_is_24 (by decide) ?_
      refine w_YV (As := [.int (-2)]) hC hX hZ hM hS hml hl.1 (sy_mainR hC.2.2.2.2 hM) (k_X0_no l hst D tc x mo β (setS μ 1 0) (-2)) q92 q94 qs0 q23 q95 rfl ⟨by decide, by decide, rfl⟩ (Nat.le_of_ble_eq_true rfl) (Nat.le_of_ble_eq_true rfl) ⟨(Nat.le_of_ble_eq_true rfl), (Nat.le_of_ble_eq_true rfl)⟩ rfl (Nat.le_of_ble_eq_true rfl) dX0_is_26 (fun H locs hM hS => ?_)
      exact sy_iret hC hr hlk hM hS (by rw [p_is_bad (μ := μ) (by first | (rw [show isItem μ t = false from c_10]; rfl) | (rw [show isIn f 0 13 = false from c_20]; simp))]) (by rw [p_is_bad (μ := μ) (by first | (rw [show isItem μ t = false from c_10]; rfl) | (rw [show isIn f 0 13 = false from c_20]; simp))]) (Nat.le_of_ble_eq_true rfl) (Nat.le_of_ble_eq_true rfl) dX0_is_29
theorem k_X0_isDesk (l : Launch) (hst : l.stackTraces = false) (D : va_G) (tc : Nat → ClassId) (x mo : Nat) (β : Nat → Nat) (μ : MS) (hW : WF μ) (r d : Int32) : YC l yX0_isDesk cX0_isDesk 3 (some .boolean) 2 42 0 0 D tc x mo β [.ref (β 0), .int r, .int d] μ μ (some (.int (bI (isDesk μ r d)))) := by
  refine YC.of (by decide) rfl (Nat.le_of_ble_eq_true rfl) ?_
  intro p e s m below meth c hC hX hZ hr hlk hml hM hS ls hl
  have hx := hC.1
  have hb := hC.2.1
  have hts := hC.2.2.1
  have hown := hC.2.2.2.1
  have hl : lv_has ls 3 [(0, .ref (β 0)), (1, .int r), (2, .int d)] := hl
  refine lv_iload_n hx hb dX0_isDesk_0 rfl (lv_at hl 1 rfl) ?_
  refine w_SC (As := [.int r]) hx hb hts hown hml hl.1 (k_X0_isRoom l r) q333 q334 q23 q335 rfl ⟨by decide, by decide, rfl⟩ (Nat.le_of_ble_eq_true rfl) (Nat.le_of_ble_eq_true rfl) ⟨Nat.zero_le _, Nat.zero_le _⟩ rfl (Nat.le_of_ble_eq_true rfl) dX0_isDesk_1 ?_
  refine b_ifeq (w := (isIn r 0 7)) (tgt := 27) hx hb dX0_isDesk_4 (by decide) (fun c_4 => ?_) (fun c_4 => ?_)
  · refine lv_iconst (v := 0) hx hb dX0_isDesk_27 (by decide) ?_
    exact sy_zret hC hr hlk hM hS rfl (by first | (rw [isDesk_f c_4]; rfl) | (rw [isDesk_nat (by omega), (hW.2.2.1 a (by omega)).1, show isIn d 0 (nI (dk μ a) - 1) = _ from c_20]; rfl)) (Nat.le_of_ble_eq_true rfl) (Nat.le_of_ble_eq_true rfl) dX0_isDesk_28
  · obtain ⟨a, qa, rfl⟩ := isIn_nat (n := 7) (by decide) c_4
    refine lv_iload_n hx hb dX0_isDesk_7 rfl (lv_at hl 2 rfl) ?_
    refine lv_iconst (v := 0) hx hb dX0_isDesk_8 (by decide) ?_
    refine lv_aload_n hx hb dX0_isDesk_9 rfl (lv_at hl 0 rfl) ?_
    refine sy_mget (v := .ref (β 3)) hC hM 8 (by decide) rfl rfl q58 rfl dX0_isDesk_10 ?_
    refine lv_iload_n hx hb dX0_isDesk_13 rfl (lv_at hl 1 rfl) ?_
    refine sy_miald (v := (nI (dk μ a))) hC hM a rfl (by omega) ((hW.2.2.1 a (by omega)).1) dX0_isDesk_14 ?_
    refine lv_iconst (v := 1) hx hb dX0_isDesk_15 (by decide) ?_
    refine lv_isub hx hb dX0_isDesk_16 ?_
    refine w_SC (As := [.int d, .int 0, .int ((nI (dk μ a)) - 1)]) hx hb hts hown hml hl.1 (k_X0_isIn l d 0 ((nI (dk μ a)) - 1)) q89 q90 q23 q91 rfl ⟨by decide, by decide, rfl⟩ (Nat.le_of_ble_eq_true rfl) (Nat.le_of_ble_eq_true rfl) ⟨Nat.zero_le _, Nat.zero_le _⟩ rfl (Nat.le_of_ble_eq_true rfl) dX0_isDesk_17 ?_
    refine b_ifeq (w := (isIn d 0 ((nI (dk μ a)) - 1))) (tgt := 27) hx hb dX0_isDesk_20 (by decide) (fun c_20 => ?_) (fun c_20 => ?_)
    · refine lv_iconst (v := 0) hx hb dX0_isDesk_27 (by decide) ?_
      exact sy_zret hC hr hlk hM hS rfl (by first | (rw [isDesk_f c_4]; rfl) | (rw [isDesk_nat (by omega), (hW.2.2.1 a (by omega)).1, show isIn d 0 (nI (dk μ a) - 1) = _ from c_20]; rfl)) (Nat.le_of_ble_eq_true rfl) (Nat.le_of_ble_eq_true rfl) dX0_isDesk_28
    · refine lv_iconst (v := 1) hx hb dX0_isDesk_23 (by decide) ?_
      refine lv_goto (tgt := 28) hx hb dX0_isDesk_24 (by decide) ?_
      exact sy_zret hC hr hlk hM hS rfl (by first | (rw [isDesk_f c_4]; rfl) | (rw [isDesk_nat (by omega), (hW.2.2.1 a (by omega)).1, show isIn d 0 (nI (dk μ a) - 1) = _ from c_20]; rfl)) (Nat.le_of_ble_eq_true rfl) (Nat.le_of_ble_eq_true rfl) dX0_isDesk_28
theorem k_X0_told (l : Launch) (hst : l.stackTraces = false) (D : va_G) (tc : Nat → ClassId) (x mo : Nat) (β : Nat → Nat) (μ : MS) (hI : IX μ) (r d k : Int32) : YC l yX0_told cX0_told 5 (some .int) 3 64 0 0 D tc x mo β [.ref (β 0), .int r, .int d, .int k] μ μ (some (.int (p_told μ r d k))) := by
  refine YC.of (by decide) rfl (Nat.le_of_ble_eq_true rfl) ?_
  intro p e s m below meth c hC hX hZ hr hlk hml hM hS ls hl
  have hx := hC.1
  have hb := hC.2.1
  have hts := hC.2.2.1
  have hown := hC.2.2.2.1
  have hl : lv_has ls 5 [(0, .ref (β 0)), (1, .int r), (2, .int d), (3, .int k)] := hl
  have hn := hI.1.1.1.2
  have hW := hI.1.1
  have hn0 : sS μ 0 = nI (nn μ) := hI.1.1.1.1
  refine lv_aload_n hx hb dX0_told_0 rfl (lv_at hl 0 rfl) ?_
  refine lv_iload_n hx hb dX0_told_1 rfl (lv_at hl 1 rfl) ?_
  refine lv_iload_n hx hb dX0_told_2 rfl (lv_at hl 2 rfl) ?_
  refine w_YV (As := [.int r, .int d]) hC hX hZ hM hS hml hl.1 (sy_mainR hC.2.2.2.2 hM) (k_X0_isDesk l hst D tc x mo β μ hW r d) q376 q378 qs4 q23 q379 rfl ⟨by decide, by decide, rfl⟩ (Nat.le_of_ble_eq_true rfl) (Nat.le_of_ble_eq_true rfl) ⟨(Nat.le_of_ble_eq_true rfl), (Nat.le_of_ble_eq_true rfl)⟩ rfl (Nat.le_of_ble_eq_true rfl) dX0_told_3 (fun H locs hM hS => ?_)
  refine b_ifne (w := (isDesk μ r d)) (tgt := 12) hx hb dX0_told_6 (by decide) (fun c_6 => ?_) (fun c_6 => ?_)
  · obtain ⟨a, qa, rfl⟩ : ∃ a : Nat, a ≤ 7 ∧ r = nI a := by
      cases h9 : isIn r 0 7 with
      | false => rw [isDesk_f h9] at c_6; cases c_6
      | true => exact isIn_nat (n := 7) (by decide) h9
    have hd4 := (hW.2.2.1 a (by omega)).2
    obtain ⟨b, qb, rfl⟩ := isIn_pred (n := dk μ a) (by omega) (by rw [← (hW.2.2.1 a (by omega)).1, ← isDesk_nat qa]; exact c_6)
    have hq : 4 * a + b < 32 := by omega
    have hlv : (4 * a + b) % 4 < dk μ ((4 * a + b) / 4) := by rw [show (4 * a + b) % 4 = b by omega, show (4 * a + b) / 4 = a by omega]; exact qb
    refine lv_aload_n hx hb dX0_told_12 rfl (lv_at hl 0 rfl) ?_
    refine sy_mget (v := .ref (β 2)) hC hM 7 (by decide) rfl rfl q57 rfl dX0_told_13 ?_
    refine lv_iconst (v := 4) hx hb dX0_told_16 (by decide) ?_
    refine lv_iload_n hx hb dX0_told_17 rfl (lv_at hl 1 rfl) ?_
    refine lv_imul hx hb dX0_told_18 ?_
    refine w_top (congrArg Value.int (pk_mul 4 a)) ?_
    refine lv_iload_n hx hb dX0_told_19 rfl (lv_at hl 2 rfl) ?_
    refine lv_iadd hx hb dX0_told_20 ?_
    refine w_top (congrArg Value.int (nI_add (4 * a) b)) ?_
    refine sy_dkald hC hM ((4 * a) + b) rfl (by omega) dX0_told_21 ?_
    refine w_top (y := .ref (β (124 + ((4 * a) + b)))) (by rw [show dkA β μ ((4 * a) + b) = some (β (124 + ((4 * a) + b))) from if_pos hlv]; rfl) ?_
    refine lv_astore (lv' := [(4, .ref (β (124 + ((4 * a) + b)))), (0, .ref (β 0)), (1, .int (nI a)), (2, .int (nI b)), (3, .int k)]) hx hb dX0_told_22 hl (by decide) rfl (fun ls hl => ?_)
    refine lv_iload_n hx hb dX0_told_24 rfl (lv_at hl 4 rfl) ?_
    rcases sw5 k with rfl | rfl | rfl | rfl | rfl | ⟨hout, n0, n1, n2, n3, n4⟩
    · refine lv_tableIn (off := 35) (tgt := 60) hx hb dX0_told_25 (by decide) (by decide) rfl (by decide) ?_
      refine lv_aload hx hb dX0_told_60 (lv_at hl 0 rfl) ?_
      refine sy_dget (v := .int (sA μ 7 ((4 * a) + b))) hC hM hq hlv 3 (by decide) rfl q344 rfl dX0_told_62 ?_
      exact sy_iret hC hr hlk hM hS rfl (by rw [p_told_ok (μ := μ) (by omega) (by omega) c_6]; first | rfl | (simp [*]; done) | (rw [if_neg (by decide), if_pos rfl, e8]) | (rw [if_neg (by decide), if_neg (by decide), if_neg (by decide), if_neg (by decide), if_pos rfl, e8])) (Nat.le_of_ble_eq_true rfl) (Nat.le_of_ble_eq_true rfl) dX0_told_65
    · refine lv_tableIn (off := 41) (tgt := 66) hx hb dX0_told_25 (by decide) (by decide) rfl (by decide) ?_
      rcases (hI.2.1 (4 * a + b) hq hlv).1 with e8 | ⟨y8, hy8, e8⟩
      · refine lv_aload hx hb dX0_told_66 (lv_at hl 0 rfl) ?_
        refine sy_dget (v := va_rf (qI β (sA μ 8 ((4 * a) + b)))) hC hM hq hlv 4 (by decide) rfl q345 rfl dX0_told_68 ?_
        refine w_top (y := .null) (by rw [e8]; rfl) ?_
        refine lv_ifnonnullN hx hb dX0_told_71 ?_
        refine lv_iconst (v := (-1)) hx hb dX0_told_74 (by decide) ?_
        refine lv_goto (tgt := 87) hx hb dX0_told_75 (by decide) ?_
        exact sy_iret hC hr hlk hM hS rfl (by rw [p_told_ok (μ := μ) (by omega) (by omega) c_6]; first | rfl | (simp [*]; done) | (rw [if_neg (by decide), if_pos rfl, e8]) | (rw [if_neg (by decide), if_neg (by decide), if_neg (by decide), if_neg (by decide), if_pos rfl, e8])) (Nat.le_of_ble_eq_true rfl) (Nat.le_of_ble_eq_true rfl) dX0_told_87
      · refine lv_aload hx hb dX0_told_66 (lv_at hl 0 rfl) ?_
        refine sy_dget (v := va_rf (qI β (sA μ 8 ((4 * a) + b)))) hC hM hq hlv 4 (by decide) rfl q345 rfl dX0_told_68 ?_
        refine w_top (y := .ref (β (64 + y8))) (by rw [e8, qI_N (by omega)]; rfl) ?_
        refine lv_ifnonnull (tgt := 78) hx hb dX0_told_71 (by decide) ?_
        refine lv_aload_n hx hb dX0_told_78 rfl (lv_at hl 1 rfl) ?_
        refine lv_aload hx hb dX0_told_79 (lv_at hl 0 rfl) ?_
        refine sy_dget (v := va_rf (qI β (sA μ 8 ((4 * a) + b)))) hC hM hq hlv 4 (by decide) rfl q345 rfl dX0_told_81 ?_
        refine w_top (y := .ref (β (64 + y8))) (by rw [e8, qI_N (by omega)]; rfl) ?_
        refine w_YV (As := [.ref (β (64 + y8))]) hC hX hZ hM hS hml hl.1 (sy_mainR hC.2.2.2.2 hM) (k_X0_numberOf_t l hst D tc x mo β μ hn hn0 y8 hy8) q294 q296 qs3 q23 q297 rfl ⟨by decide, by decide, rfl⟩ (Nat.le_of_ble_eq_true rfl) (Nat.le_of_ble_eq_true rfl) ⟨(Nat.le_of_ble_eq_true rfl), (Nat.le_of_ble_eq_true rfl)⟩ rfl (Nat.le_of_ble_eq_true rfl) dX0_told_84 (fun H locs hM hS => ?_)
        exact sy_iret hC hr hlk hM hS rfl (by rw [p_told_ok (μ := μ) (by omega) (by omega) c_6]; first | rfl | (simp [*]; done) | (rw [if_neg (by decide), if_pos rfl, e8]) | (rw [if_neg (by decide), if_neg (by decide), if_neg (by decide), if_neg (by decide), if_pos rfl, e8])) (Nat.le_of_ble_eq_true rfl) (Nat.le_of_ble_eq_true rfl) dX0_told_87
    · refine lv_tableIn (off := 63) (tgt := 88) hx hb dX0_told_25 (by decide) (by decide) rfl (by decide) ?_
      refine lv_aload hx hb dX0_told_88 (lv_at hl 0 rfl) ?_
      refine sy_dget (v := .int (sA μ 9 ((4 * a) + b))) hC hM hq hlv 5 (by decide) rfl q346 rfl dX0_told_90 ?_
      exact sy_iret hC hr hlk hM hS rfl (by rw [p_told_ok (μ := μ) (by omega) (by omega) c_6]; first | rfl | (simp [*]; done) | (rw [if_neg (by decide), if_pos rfl, e8]) | (rw [if_neg (by decide), if_neg (by decide), if_neg (by decide), if_neg (by decide), if_pos rfl, e8])) (Nat.le_of_ble_eq_true rfl) (Nat.le_of_ble_eq_true rfl) dX0_told_93
    · refine lv_tableIn (off := 69) (tgt := 94) hx hb dX0_told_25 (by decide) (by decide) rfl (by decide) ?_
      refine lv_aload hx hb dX0_told_94 (lv_at hl 0 rfl) ?_
      refine sy_dget (v := .int (sA μ 10 ((4 * a) + b))) hC hM hq hlv 6 (by decide) rfl q347 rfl dX0_told_96 ?_
      exact sy_iret hC hr hlk hM hS rfl (by rw [p_told_ok (μ := μ) (by omega) (by omega) c_6]; first | rfl | (simp [*]; done) | (rw [if_neg (by decide), if_pos rfl, e8]) | (rw [if_neg (by decide), if_neg (by decide), if_neg (by decide), if_neg (by decide), if_pos rfl, e8])) (Nat.le_of_ble_eq_true rfl) (Nat.le_of_ble_eq_true rfl) dX0_told_99
    · refine lv_tableIn (off := 75) (tgt := 100) hx hb dX0_told_25 (by decide) (by decide) rfl (by decide) ?_
      rcases (hI.2.1 (4 * a + b) hq hlv).2 with e8 | ⟨y8, hy8, e8⟩
      · refine lv_aload hx hb dX0_told_100 (lv_at hl 0 rfl) ?_
        refine sy_dget (v := va_rf (qI β (sA μ 11 ((4 * a) + b)))) hC hM hq hlv 7 (by decide) rfl q348 rfl dX0_told_102 ?_
        refine w_top (y := .null) (by rw [e8]; rfl) ?_
        refine lv_ifnonnullN hx hb dX0_told_105 ?_
        refine lv_iconst (v := (-1)) hx hb dX0_told_108 (by decide) ?_
        refine lv_goto (tgt := 121) hx hb dX0_told_109 (by decide) ?_
        exact sy_iret hC hr hlk hM hS rfl (by rw [p_told_ok (μ := μ) (by omega) (by omega) c_6]; first | rfl | (simp [*]; done) | (rw [if_neg (by decide), if_pos rfl, e8]) | (rw [if_neg (by decide), if_neg (by decide), if_neg (by decide), if_neg (by decide), if_pos rfl, e8])) (Nat.le_of_ble_eq_true rfl) (Nat.le_of_ble_eq_true rfl) dX0_told_121
      · refine lv_aload hx hb dX0_told_100 (lv_at hl 0 rfl) ?_
        refine sy_dget (v := va_rf (qI β (sA μ 11 ((4 * a) + b)))) hC hM hq hlv 7 (by decide) rfl q348 rfl dX0_told_102 ?_
        refine w_top (y := .ref (β (64 + y8))) (by rw [e8, qI_N (by omega)]; rfl) ?_
        refine lv_ifnonnull (tgt := 112) hx hb dX0_told_105 (by decide) ?_
        refine lv_aload_n hx hb dX0_told_112 rfl (lv_at hl 1 rfl) ?_
        refine lv_aload hx hb dX0_told_113 (lv_at hl 0 rfl) ?_
        refine sy_dget (v := va_rf (qI β (sA μ 11 ((4 * a) + b)))) hC hM hq hlv 7 (by decide) rfl q348 rfl dX0_told_115 ?_
        refine w_top (y := .ref (β (64 + y8))) (by rw [e8, qI_N (by omega)]; rfl) ?_
        refine w_YV (As := [.ref (β (64 + y8))]) hC hX hZ hM hS hml hl.1 (sy_mainR hC.2.2.2.2 hM) (k_X0_numberOf_t l hst D tc x mo β μ hn hn0 y8 hy8) q294 q296 qs3 q23 q297 rfl ⟨by decide, by decide, rfl⟩ (Nat.le_of_ble_eq_true rfl) (Nat.le_of_ble_eq_true rfl) ⟨(Nat.le_of_ble_eq_true rfl), (Nat.le_of_ble_eq_true rfl)⟩ rfl (Nat.le_of_ble_eq_true rfl) dX0_told_118 (fun H locs hM hS => ?_)
        exact sy_iret hC hr hlk hM hS rfl (by rw [p_told_ok (μ := μ) (by omega) (by omega) c_6]; first | rfl | (simp [*]; done) | (rw [if_neg (by decide), if_pos rfl, e8]) | (rw [if_neg (by decide), if_neg (by decide), if_neg (by decide), if_neg (by decide), if_pos rfl, e8])) (Nat.le_of_ble_eq_true rfl) (Nat.le_of_ble_eq_true rfl) dX0_told_121
    · refine lv_tableOut (tgt := 122) hx hb dX0_told_25 (by omega) (by decide) ?_
      refine lv_bipush (v := (-2)) hx hb dX0_told_122 (by decide) ?_
      exact sy_iret hC hr hlk hM hS rfl (by rw [p_told_ok (μ := μ) (by omega) (by omega) c_6]; first | rfl | (simp [*]; done) | (rw [if_neg (by decide), if_pos rfl, e8]) | (rw [if_neg (by decide), if_neg (by decide), if_neg (by decide), if_neg (by decide), if_pos rfl, e8])) (Nat.le_of_ble_eq_true rfl) (Nat.le_of_ble_eq_true rfl) dX0_told_124
  · refine lv_bipush (v := (-2)) hx hb dX0_told_9 (by decide) ?_
    exact sy_iret hC hr hlk hM hS rfl (by rw [p_told_bad (μ := μ) c_6]) (Nat.le_of_ble_eq_true rfl) (Nat.le_of_ble_eq_true rfl) dX0_told_11
theorem k_X0_out (l : Launch) (hst : l.stackTraces = false) (D : va_G) (tc : Nat → ClassId) (x mo : Nat) (β : Nat → Nat) (μ : MS) (hI : IX μ)  : YC l yX0_out cX0_out 1 (some .int) 1 22 0 0 D tc x mo β [.ref (β 0)] μ μ (some (.int (sS μ 6))) := by
  refine YC.of (by decide) rfl (Nat.le_of_ble_eq_true rfl) ?_
  intro p e s m below meth c hC hX hZ hr hlk hml hM hS ls hl
  have hx := hC.1
  have hb := hC.2.1
  have hts := hC.2.2.1
  have hown := hC.2.2.2.1
  have hl : lv_has ls 1 [(0, .ref (β 0))] := hl
  have hn := hI.1.1.1.2
  have hW := hI.1.1
  have hn0 : sS μ 0 = nI (nn μ) := hI.1.1.1.1
  rcases hI.2.2 with e8 | ⟨y8, hy8, e8⟩
  · refine lv_aload_n hx hb dX0_out_0 rfl (lv_at hl 0 rfl) ?_
    refine sy_mget (v := va_rf (qI β (sS μ 6))) hC hM 10 (by decide) rfl rfl q60 rfl dX0_out_1 ?_
    refine w_top (y := .null) (by rw [e8]; rfl) ?_
    refine lv_ifnonnullN hx hb dX0_out_4 ?_
    refine lv_iconst (v := (-1)) hx hb dX0_out_7 (by decide) ?_
    refine lv_goto (tgt := 19) hx hb dX0_out_8 (by decide) ?_
    exact sy_iret hC hr hlk hM hS rfl e8.symm (Nat.le_of_ble_eq_true rfl) (Nat.le_of_ble_eq_true rfl) dX0_out_19
  · refine lv_aload_n hx hb dX0_out_0 rfl (lv_at hl 0 rfl) ?_
    refine sy_mget (v := va_rf (qI β (sS μ 6))) hC hM 10 (by decide) rfl rfl q60 rfl dX0_out_1 ?_
    refine w_top (y := .ref (β (64 + y8))) (by rw [e8, qI_N (by omega)]; rfl) ?_
    refine lv_ifnonnull (tgt := 11) hx hb dX0_out_4 (by decide) ?_
    refine lv_aload_n hx hb dX0_out_11 rfl (lv_at hl 0 rfl) ?_
    refine lv_aload_n hx hb dX0_out_12 rfl (lv_at hl 0 rfl) ?_
    refine sy_mget (v := va_rf (qI β (sS μ 6))) hC hM 10 (by decide) rfl rfl q60 rfl dX0_out_13 ?_
    refine w_top (y := .ref (β (64 + y8))) (by rw [e8, qI_N (by omega)]; rfl) ?_
    refine w_YV (As := [.ref (β (64 + y8))]) hC hX hZ hM hS hml hl.1 (sy_mainR hC.2.2.2.2 hM) (k_X0_numberOf_t l hst D tc x mo β μ hn hn0 y8 hy8) q294 q296 qs3 q23 q297 rfl ⟨by decide, by decide, rfl⟩ (Nat.le_of_ble_eq_true rfl) (Nat.le_of_ble_eq_true rfl) ⟨(Nat.le_of_ble_eq_true rfl), (Nat.le_of_ble_eq_true rfl)⟩ rfl (Nat.le_of_ble_eq_true rfl) dX0_out_16 (fun H locs hM hS => ?_)
    exact sy_iret hC hr hlk hM hS rfl e8.symm (Nat.le_of_ble_eq_true rfl) (Nat.le_of_ble_eq_true rfl) dX0_out_19
theorem k_X0_count (l : Launch) (hst : l.stackTraces = false) (D : va_G) (tc : Nat → ClassId) (x mo : Nat) (β : Nat → Nat) (μ : MS) (k : Int32) : YC l yX0_count cX0_count 2 (some .int) 0 0 0 0 D tc x mo β [.ref (β 0), .int k] μ μ (some (.int (p_count μ k))) := by
  refine YC.of (by decide) rfl (Nat.le_of_ble_eq_true rfl) ?_
  intro p e s m below meth c hC hX hZ hr hlk hml hM hS ls hl
  have hx := hC.1
  have hb := hC.2.1
  have hts := hC.2.2.1
  have hown := hC.2.2.2.1
  have hl : lv_has ls 2 [(0, .ref (β 0)), (1, .int k)] := hl
  refine lv_iload_n hx hb dX0_count_0 rfl (lv_at hl 1 rfl) ?_
  rcases sw5 k with rfl | rfl | rfl | rfl | rfl | ⟨hout, n0, n1, n2, n3, n4⟩
  · refine lv_tableIn (off := 35) (tgt := 36) hx hb dX0_count_1 (by decide) (by decide) rfl (by decide) ?_
    refine lv_aload_n hx hb dX0_count_36 rfl (lv_at hl 0 rfl) ?_
    refine sy_mget (v := .int (sS μ 0)) hC hM 1 (by decide) rfl rfl q51 rfl dX0_count_37 ?_
    exact sy_iret hC hr hlk hM hS rfl (by first | rfl | (simp [p_count, *])) (Nat.le_of_ble_eq_true rfl) (Nat.le_of_ble_eq_true rfl) dX0_count_40
  · refine lv_tableIn (off := 40) (tgt := 41) hx hb dX0_count_1 (by decide) (by decide) rfl (by decide) ?_
    refine lv_aload_n hx hb dX0_count_41 rfl (lv_at hl 0 rfl) ?_
    refine sy_mget (v := .int (sS μ 2)) hC hM 3 (by decide) rfl rfl q53 rfl dX0_count_42 ?_
    exact sy_iret hC hr hlk hM hS rfl (by first | rfl | (simp [p_count, *])) (Nat.le_of_ble_eq_true rfl) (Nat.le_of_ble_eq_true rfl) dX0_count_45
  · refine lv_tableIn (off := 45) (tgt := 46) hx hb dX0_count_1 (by decide) (by decide) rfl (by decide) ?_
    refine lv_aload_n hx hb dX0_count_46 rfl (lv_at hl 0 rfl) ?_
    refine sy_mget (v := .int (sS μ 3)) hC hM 4 (by decide) rfl rfl q54 rfl dX0_count_47 ?_
    exact sy_iret hC hr hlk hM hS rfl (by first | rfl | (simp [p_count, *])) (Nat.le_of_ble_eq_true rfl) (Nat.le_of_ble_eq_true rfl) dX0_count_50
  · refine lv_tableIn (off := 50) (tgt := 51) hx hb dX0_count_1 (by decide) (by decide) rfl (by decide) ?_
    refine lv_aload_n hx hb dX0_count_51 rfl (lv_at hl 0 rfl) ?_
    refine sy_mget (v := .int (sS μ 4)) hC hM 5 (by decide) rfl rfl q55 rfl dX0_count_52 ?_
    exact sy_iret hC hr hlk hM hS rfl (by first | rfl | (simp [p_count, *])) (Nat.le_of_ble_eq_true rfl) (Nat.le_of_ble_eq_true rfl) dX0_count_55
  · refine lv_tableIn (off := 55) (tgt := 56) hx hb dX0_count_1 (by decide) (by decide) rfl (by decide) ?_
    refine lv_aload_n hx hb dX0_count_56 rfl (lv_at hl 0 rfl) ?_
    refine sy_mget (v := .int (sS μ 5)) hC hM 6 (by decide) rfl rfl q56 rfl dX0_count_57 ?_
    exact sy_iret hC hr hlk hM hS rfl (by first | rfl | (simp [p_count, *])) (Nat.le_of_ble_eq_true rfl) (Nat.le_of_ble_eq_true rfl) dX0_count_60
  · refine lv_tableOut (tgt := 61) hx hb dX0_count_1 (by omega) (by decide) ?_
    refine lv_bipush (v := (-2)) hx hb dX0_count_61 (by decide) ?_
    exact sy_iret hC hr hlk hM hS rfl (by first | rfl | (simp [p_count, *])) (Nat.le_of_ble_eq_true rfl) (Nat.le_of_ble_eq_true rfl) dX0_count_63
theorem k_X0_refused (l : Launch) (hst : l.stackTraces = false) (D : va_G) (tc : Nat → ClassId) (x mo : Nat) (β : Nat → Nat) (μ : MS)  : YC l yX0_refused cX0_refused 1 (some .int) 0 0 0 0 D tc x mo β [.ref (β 0)] μ μ (some (.int (sS μ 1))) := by
  refine YC.of (by decide) rfl (Nat.le_of_ble_eq_true rfl) ?_
  intro p e s m below meth c hC hX hZ hr hlk hml hM hS ls hl
  have hx := hC.1
  have hb := hC.2.1
  have hts := hC.2.2.1
  have hown := hC.2.2.2.1
  have hl : lv_has ls 1 [(0, .ref (β 0))] := hl
  refine lv_aload_n hx hb dX0_refused_0 rfl (lv_at hl 0 rfl) ?_
  refine sy_mget (v := .int (sS μ 1)) hC hM 2 (by decide) rfl rfl q52 rfl dX0_refused_1 ?_
  exact sy_iret hC hr hlk hM hS rfl rfl (Nat.le_of_ble_eq_true rfl) (Nat.le_of_ble_eq_true rfl) dX0_refused_4
theorem k_X0_tell (l : Launch) (hst : l.stackTraces = false) (D : va_G) (tc : Nat → ClassId) (x mo : Nat) (β : Nat → Nat) (μ : MS) (q : Nat) (hq : q < 32) (hlv : q % 4 < dk μ (q / 4)) (f a : Int32) (z : Bool) : YC l yX0_tell cX0_tell 4 none 0 0 0 0 D tc x mo β [.ref (β (124 + q)), .int f, .int a, .int (bI z)] μ (p_settle μ q f a (bI z)) none := by
  refine YC.of (by decide) rfl (Nat.le_of_ble_eq_true rfl) ?_
  intro p e s m below meth c hC hX hZ hr hlk hml hM hS ls hl
  have hx := hC.1
  have hb := hC.2.1
  have hts := hC.2.2.1
  have hown := hC.2.2.2.1
  have hl : lv_has ls 4 [(0, .ref (β (124 + q))), (1, .int f), (2, .int a), (3, .int (bI z))] := hl
  refine lv_aload_n hx hb dX0_tell_0 rfl (lv_at hl 0 rfl) ?_
  refine lv_iload_n hx hb dX0_tell_1 rfl (lv_at hl 1 rfl) ?_
  refine sy_dput hC hM hS hq hlv 4 0 (by decide) (by decide) (w := f) (deskF_set (by simp)) q341 rfl rfl rfl rfl dX0_tell_2 (fun H locs hM hS => ?_)
  refine lv_aload_n hx hb dX0_tell_5 rfl (lv_at hl 0 rfl) ?_
  refine lv_iload_n hx hb dX0_tell_6 rfl (lv_at hl 2 rfl) ?_
  refine sy_dput hC hM hS hq hlv 5 1 (by decide) (by decide) (w := a) (deskF_set (by simp)) q342 rfl rfl rfl rfl dX0_tell_7 (fun H locs hM hS => ?_)
  refine lv_aload_n hx hb dX0_tell_10 rfl (lv_at hl 0 rfl) ?_
  refine lv_iload_n hx hb dX0_tell_11 rfl (lv_at hl 3 rfl) ?_
  refine sy_dput hC hM hS hq hlv 6 2 (by decide) (by decide) (w := (bI z)) (deskF_set (by simp)) q343 rfl rfl (nar_z (bI_01 _)) (fit_z (bI_01 _)) dX0_tell_12 (fun H locs hM hS => ?_)
  exact sy_vret hC hr hlk hM hS rfl (Nat.le_of_ble_eq_true rfl) (Nat.le_of_ble_eq_true rfl) dX0_tell_15
theorem k_X0_change (l : Launch) (hst : l.stackTraces = false) (D : va_G) (tc : Nat → ClassId) (x mo : Nat) (β : Nat → Nat) (μ : MS) (hI : IX μ) (r d f g : Int32) (z : Bool) : YC l yX0_change cX0_change 6 (some .int) 3 64 0 0 D tc x mo β [.ref (β 0), .int r, .int d, .int f, .int g, .int (bI z)] μ ((p_change μ r d f g z).1) (some (.int ((p_change μ r d f g z).2))) := by
  refine YC.of (by decide) rfl (Nat.le_of_ble_eq_true rfl) ?_
  intro p e s m below meth c hC hX hZ hr hlk hml hM hS ls hl
  have hx := hC.1
  have hb := hC.2.1
  have hts := hC.2.2.1
  have hown := hC.2.2.2.1
  have hl : lv_has ls 6 [(0, .ref (β 0)), (1, .int r), (2, .int d), (3, .int f), (4, .int g), (5, .int (bI z))] := hl
  have hn := hI.1.1.1.2
  have hW := hI.1.1
  have hn0 : sS μ 0 = nI (nn μ) := hI.1.1.1.1
  refine lv_aload_n hx hb dX0_change_0 rfl (lv_at hl 0 rfl) ?_
  refine lv_iconst (v := 0) hx hb dX0_change_1 (by decide) ?_
  refine sy_mput hC hM hS 1 2 (by decide) (by decide) (w := 0) rfl rfl q52 rfl rfl rfl rfl dX0_change_2 (fun H locs hM hS => ?_)
  refine lv_aload_n hx hb dX0_change_5 rfl (lv_at hl 0 rfl) ?_
  refine lv_iload_n hx hb dX0_change_6 rfl (lv_at hl 1 rfl) ?_
  refine lv_iload_n hx hb dX0_change_7 rfl (lv_at hl 2 rfl) ?_
  refine w_YV (As := [.int r, .int d]) hC hX hZ hM hS hml hl.1 (sy_mainR hC.2.2.2.2 hM) (k_X0_isDesk l hst D tc x mo β (setS μ 1 0) hW r d) q376 q378 qs4 q23 q379 rfl ⟨by decide, by decide, rfl⟩ (Nat.le_of_ble_eq_true rfl) (Nat.le_of_ble_eq_true rfl) ⟨(Nat.le_of_ble_eq_true rfl), (Nat.le_of_ble_eq_true rfl)⟩ rfl (Nat.le_of_ble_eq_true rfl) dX0_change_8 (fun H locs hM hS => ?_)
  refine b_ifeq (w := (isDesk μ r d)) (tgt := 34) hx hb dX0_change_11 (by decide) (fun c_11 => ?_) (fun c_11 => ?_)
  · refine lv_aload_n hx hb dX0_change_34 rfl (lv_at hl 0 rfl) ?_
    refine lv_bipush (v := (-2)) hx hb dX0_change_35 (by decide) ?_
    refine w_YV (As := [.int (-2)]) hC hX hZ hM hS hml hl.1 (sy_mainR hC.2.2.2.2 hM) (k_X0_no l hst D tc x mo β (setS μ 1 0) (-2)) q92 q94 qs0 q23 q95 rfl ⟨by decide, by decide, rfl⟩ (Nat.le_of_ble_eq_true rfl) (Nat.le_of_ble_eq_true rfl) ⟨(Nat.le_of_ble_eq_true rfl), (Nat.le_of_ble_eq_true rfl)⟩ rfl (Nat.le_of_ble_eq_true rfl) dX0_change_37 (fun H locs hM hS => ?_)
    exact sy_iret hC hr hlk hM hS (by rw [p_change_bad (μ := μ) (by first | (rw [show isDesk μ r d = false from c_11]; rfl) | (rw [show isIn g 0 4 = false from c_31]; simp; done) | (rw [show isIn f 0 13 = false from c_21]; simp; done))]; first | done | rfl) (by rw [p_change_bad (μ := μ) (by first | (rw [show isDesk μ r d = false from c_11]; rfl) | (rw [show isIn g 0 4 = false from c_31]; simp; done) | (rw [show isIn f 0 13 = false from c_21]; simp; done))]; first | done | rfl) (Nat.le_of_ble_eq_true rfl) (Nat.le_of_ble_eq_true rfl) dX0_change_40
  · obtain ⟨a, qa, rfl⟩ : ∃ a : Nat, a ≤ 7 ∧ r = nI a := by
      cases h9 : isIn r 0 7 with
      | false => rw [isDesk_f h9] at c_11; cases c_11
      | true => exact isIn_nat (n := 7) (by decide) h9
    have hd4 := (hW.2.2.1 a (by omega)).2
    obtain ⟨b, qb, rfl⟩ := isIn_pred (n := dk μ a) (by omega) (by rw [← (hW.2.2.1 a (by omega)).1, ← isDesk_nat qa]; exact c_11)
    have hq : 4 * a + b < 32 := by omega
    have hlv : (4 * a + b) % 4 < dk μ ((4 * a + b) / 4) := by rw [show (4 * a + b) % 4 = b by omega, show (4 * a + b) / 4 = a by omega]; exact qb
    refine lv_iload_n hx hb dX0_change_14 rfl (lv_at hl 3 rfl) ?_
    refine lv_iconst (v := 0) hx hb dX0_change_15 (by decide) ?_
    refine lv_bipush (v := 13) hx hb dX0_change_16 (by decide) ?_
    refine w_SC (As := [.int f, .int 0, .int 13]) hx hb hts hown hml hl.1 (k_X0_isIn l f 0 13) q89 q90 q23 q91 rfl ⟨by decide, by decide, rfl⟩ (Nat.le_of_ble_eq_true rfl) (Nat.le_of_ble_eq_true rfl) ⟨Nat.zero_le _, Nat.zero_le _⟩ rfl (Nat.le_of_ble_eq_true rfl) dX0_change_18 ?_
    refine b_ifeq (w := (isIn f 0 13)) (tgt := 34) hx hb dX0_change_21 (by decide) (fun c_21 => ?_) (fun c_21 => ?_)
    · refine lv_aload_n hx hb dX0_change_34 rfl (lv_at hl 0 rfl) ?_
      refine lv_bipush (v := (-2)) hx hb dX0_change_35 (by decide) ?_
      refine w_YV (As := [.int (-2)]) hC hX hZ hM hS hml hl.1 (sy_mainR hC.2.2.2.2 hM) (k_X0_no l hst D tc x mo β (setS μ 1 0) (-2)) q92 q94 qs0 q23 q95 rfl ⟨by decide, by decide, rfl⟩ (Nat.le_of_ble_eq_true rfl) (Nat.le_of_ble_eq_true rfl) ⟨(Nat.le_of_ble_eq_true rfl), (Nat.le_of_ble_eq_true rfl)⟩ rfl (Nat.le_of_ble_eq_true rfl) dX0_change_37 (fun H locs hM hS => ?_)
      exact sy_iret hC hr hlk hM hS (by rw [p_change_bad (μ := μ) (by first | (rw [show isDesk μ r d = false from c_11]; rfl) | (rw [show isIn g 0 4 = false from c_31]; simp; done) | (rw [show isIn f 0 13 = false from c_21]; simp; done))]; first | done | rfl) (by rw [p_change_bad (μ := μ) (by first | (rw [show isDesk μ r d = false from c_11]; rfl) | (rw [show isIn g 0 4 = false from c_31]; simp; done) | (rw [show isIn f 0 13 = false from c_21]; simp; done))]; first | done | rfl) (Nat.le_of_ble_eq_true rfl) (Nat.le_of_ble_eq_true rfl) dX0_change_40
    · refine lv_iload hx hb dX0_change_24 (lv_at hl 4 rfl) ?_
      refine lv_iconst (v := 0) hx hb dX0_change_26 (by decide) ?_
      refine lv_iconst (v := 4) hx hb dX0_change_27 (by decide) ?_
      refine w_SC (As := [.int g, .int 0, .int 4]) hx hb hts hown hml hl.1 (k_X0_isIn l g 0 4) q89 q90 q23 q91 rfl ⟨by decide, by decide, rfl⟩ (Nat.le_of_ble_eq_true rfl) (Nat.le_of_ble_eq_true rfl) ⟨Nat.zero_le _, Nat.zero_le _⟩ rfl (Nat.le_of_ble_eq_true rfl) dX0_change_28 ?_
      refine b_ifne (w := (isIn g 0 4)) (tgt := 41) hx hb dX0_change_31 (by decide) (fun c_31 => ?_) (fun c_31 => ?_)
      · refine lv_aload_n hx hb dX0_change_41 rfl (lv_at hl 0 rfl) ?_
        refine sy_mget (v := .ref (β 2)) hC hM 7 (by decide) rfl rfl q57 rfl dX0_change_42 ?_
        refine lv_iconst (v := 4) hx hb dX0_change_45 (by decide) ?_
        refine lv_iload_n hx hb dX0_change_46 rfl (lv_at hl 1 rfl) ?_
        refine lv_imul hx hb dX0_change_47 ?_
        refine w_top (congrArg Value.int (pk_mul 4 a)) ?_
        refine lv_iload_n hx hb dX0_change_48 rfl (lv_at hl 2 rfl) ?_
        refine lv_iadd hx hb dX0_change_49 ?_
        refine w_top (congrArg Value.int (nI_add (4 * a) b)) ?_
        refine sy_dkald hC hM ((4 * a) + b) rfl (by omega) dX0_change_50 ?_
        refine w_top (y := .ref (β (124 + ((4 * a) + b)))) (by rw [show dkA β (setS μ 1 0) ((4 * a) + b) = some (β (124 + ((4 * a) + b))) from if_pos hlv]; rfl) ?_
        refine lv_iload_n hx hb dX0_change_51 rfl (lv_at hl 3 rfl) ?_
        refine lv_iload hx hb dX0_change_52 (lv_at hl 4 rfl) ?_
        refine lv_iload hx hb dX0_change_54 (lv_at hl 5 rfl) ?_
        refine w_YS (As := [.ref (β (124 + ((4 * a) + b))), .int f, .int g, .int (bI z)]) hC hX hZ hM hS hml hl.1 (k_X0_tell l hst D tc x mo β (setS μ 1 0) (4 * a + b) hq hlv f g z) q369 q370 q23 q371 rfl ⟨by decide, by decide, rfl⟩ (Nat.le_of_ble_eq_true rfl) (Nat.le_of_ble_eq_true rfl) ⟨(Nat.le_of_ble_eq_true rfl), (Nat.le_of_ble_eq_true rfl)⟩ rfl (Nat.le_of_ble_eq_true rfl) dX0_change_56 (fun H locs hM hS => ?_)
        refine lv_iconst (v := 1) hx hb dX0_change_59 (by decide) ?_
        exact sy_iret hC hr hlk hM hS (by rw [p_change_ok (μ := μ) (by omega) (by omega) (by rw [show isDesk μ (nI a) (nI b) = true from c_11, c_21, c_31]; rfl)]; first | done | rfl) (by rw [p_change_ok (μ := μ) (by omega) (by omega) (by rw [show isDesk μ (nI a) (nI b) = true from c_11, c_21, c_31]; rfl)]; first | done | rfl) (Nat.le_of_ble_eq_true rfl) (Nat.le_of_ble_eq_true rfl) dX0_change_60
      · refine lv_aload_n hx hb dX0_change_34 rfl (lv_at hl 0 rfl) ?_
        refine lv_bipush (v := (-2)) hx hb dX0_change_35 (by decide) ?_
        refine w_YV (As := [.int (-2)]) hC hX hZ hM hS hml hl.1 (sy_mainR hC.2.2.2.2 hM) (k_X0_no l hst D tc x mo β (setS μ 1 0) (-2)) q92 q94 qs0 q23 q95 rfl ⟨by decide, by decide, rfl⟩ (Nat.le_of_ble_eq_true rfl) (Nat.le_of_ble_eq_true rfl) ⟨(Nat.le_of_ble_eq_true rfl), (Nat.le_of_ble_eq_true rfl)⟩ rfl (Nat.le_of_ble_eq_true rfl) dX0_change_37 (fun H locs hM hS => ?_)
        exact sy_iret hC hr hlk hM hS (by rw [p_change_bad (μ := μ) (by first | (rw [show isDesk μ r d = false from c_11]; rfl) | (rw [show isIn g 0 4 = false from c_31]; simp; done) | (rw [show isIn f 0 13 = false from c_21]; simp; done))]; first | done | rfl) (by rw [p_change_bad (μ := μ) (by first | (rw [show isDesk μ r d = false from c_11]; rfl) | (rw [show isIn g 0 4 = false from c_31]; simp; done) | (rw [show isIn f 0 13 = false from c_21]; simp; done))]; first | done | rfl) (Nat.le_of_ble_eq_true rfl) (Nat.le_of_ble_eq_true rfl) dX0_change_40
theorem k_X0_takes_ask (l : Launch) (hst : l.stackTraces = false) (D : va_G) (tc : Nat → ClassId) (x mo : Nat) (β : Nat → Nat) (μ : MS) (hW : WF μ) (q : Nat) (hq : q < 32) (hlv : q % 4 < dk μ (q / 4)) (t : Nat) (ht : t < nn μ) (hask : ¬ (sA μ 6 q = 0 ∧ sA μ 12 q = 0)) : YW l yX0_takes cX0_takes 4 (some .boolean) [(23, 40, 41, 93)] 9 10321 0 0 D tc x mo β [.ref (β 0), .ref (β (124 + q)), .ref (β (64 + t))] μ μ (some (.int (bI (goesN (kd μ t) (fm μ q))))) := by
  refine YW.of (by decide) rfl (Nat.le_of_ble_eq_true rfl) ?_
  intro p e s m below meth c hC hX hZ hr hlk hml htab hM hS ls hl
  have hx := hC.1
  have hb := hC.2.1
  have hts := hC.2.2.1
  have hown := hC.2.2.2.1
  have hl : lv_has ls 4 [(0, .ref (β 0)), (1, .ref (β (124 + q))), (2, .ref (β (64 + t)))] := hl
  have hn := hW.1.2
  have ht12 := (hW.2.1 t (by omega)).2.1
  have hfm := (hW.2.2.2 q hq).2.1
  refine lv_aload_n hx hb dX0_takes_0 rfl (lv_at hl 1 rfl) ?_
  refine sy_dget (v := .int (sA μ 6 q)) hC hM hq hlv 2 (by decide) rfl q343 rfl dX0_takes_1 ?_
  refine lv_if_ne (tgt := 14) hx hb dX0_takes_4 (by decide) (fun c_4 => ?_) (fun c_4 => ?_)
  · refine lv_aload_n hx hb dX0_takes_14 rfl (lv_at hl 2 rfl) ?_
    refine lv_aload_n hx hb dX0_takes_15 rfl (lv_at hl 1 rfl) ?_
    refine sy_dget (v := .int (sA μ 4 q)) hC hM hq hlv 0 (by decide) rfl q341 rfl dX0_takes_16 ?_
    refine w_top (y := .int (nI (fm μ q))) (congrArg Value.int ((hW.2.2.2 q hq).1)) ?_
    refine w_YS (As := [.ref (β (64 + t)), .int (nI (fm μ q))]) hC hX hZ hM hS hml hl.1 (k_X0_isOf l hst D tc x mo β μ t ht hn ht12 (fm μ q) (by omega)) q302 q303 q23 q304 rfl ⟨by decide, by decide, rfl⟩ (Nat.le_of_ble_eq_true rfl) (Nat.le_of_ble_eq_true rfl) ⟨(Nat.le_of_ble_eq_true rfl), (Nat.le_of_ble_eq_true rfl)⟩ rfl (Nat.le_of_ble_eq_true rfl) dX0_takes_19 (fun H locs hM hS => ?_)
    exact sy_zret hC hr hlk hM hS rfl rfl (Nat.le_of_ble_eq_true rfl) (Nat.le_of_ble_eq_true rfl) dX0_takes_22
  · refine lv_aload_n hx hb dX0_takes_7 rfl (lv_at hl 1 rfl) ?_
    refine sy_dget (v := .int (sA μ 12 q)) hC hM hq hlv 8 (by decide) rfl q349 rfl dX0_takes_8 ?_
    refine lv_if_eq (tgt := 23) hx hb dX0_takes_11 (by decide) (fun c_11 => ?_) (fun c_11 => ?_)
    · exact absurd ⟨c_4, c_11⟩ hask
    · refine lv_aload_n hx hb dX0_takes_14 rfl (lv_at hl 2 rfl) ?_
      refine lv_aload_n hx hb dX0_takes_15 rfl (lv_at hl 1 rfl) ?_
      refine sy_dget (v := .int (sA μ 4 q)) hC hM hq hlv 0 (by decide) rfl q341 rfl dX0_takes_16 ?_
      refine w_top (y := .int (nI (fm μ q))) (congrArg Value.int ((hW.2.2.2 q hq).1)) ?_
      refine w_YS (As := [.ref (β (64 + t)), .int (nI (fm μ q))]) hC hX hZ hM hS hml hl.1 (k_X0_isOf l hst D tc x mo β μ t ht hn ht12 (fm μ q) (by omega)) q302 q303 q23 q304 rfl ⟨by decide, by decide, rfl⟩ (Nat.le_of_ble_eq_true rfl) (Nat.le_of_ble_eq_true rfl) ⟨(Nat.le_of_ble_eq_true rfl), (Nat.le_of_ble_eq_true rfl)⟩ rfl (Nat.le_of_ble_eq_true rfl) dX0_takes_19 (fun H locs hM hS => ?_)
      exact sy_zret hC hr hlk hM hS rfl rfl (Nat.le_of_ble_eq_true rfl) (Nat.le_of_ble_eq_true rfl) dX0_takes_22
theorem k_X0_takes_ok (l : Launch) (hst : l.stackTraces = false) (D : va_G) (tc : Nat → ClassId) (x mo : Nat) (β : Nat → Nat) (μ : MS) (hW : WF μ) (q : Nat) (hq : q < 32) (hlv : q % 4 < dk μ (q / 4)) (t : Nat) (ht : t < nn μ) (hask : sA μ 6 q = 0 ∧ sA μ 12 q = 0) (hg : goesN (kd μ t) (fm μ q) = true) : YW l yX0_takes cX0_takes 4 (some .boolean) [(23, 40, 41, 93)] 9 10321 0 0 D tc x mo β [.ref (β 0), .ref (β (124 + q)), .ref (β (64 + t))] μ μ (some (.int (bI true))) := by
  refine YW.of (by decide) rfl (Nat.le_of_ble_eq_true rfl) ?_
  intro p e s m below meth c hC hX hZ hr hlk hml htab hM hS ls hl
  have hx := hC.1
  have hb := hC.2.1
  have hts := hC.2.2.1
  have hown := hC.2.2.2.1
  have hl : lv_has ls 4 [(0, .ref (β 0)), (1, .ref (β (124 + q))), (2, .ref (β (64 + t)))] := hl
  have hn := hW.1.2
  have ht12 := (hW.2.1 t (by omega)).2.1
  have hfm := (hW.2.2.2 q hq).2.1
  refine lv_aload_n hx hb dX0_takes_0 rfl (lv_at hl 1 rfl) ?_
  refine sy_dget (v := .int (sA μ 6 q)) hC hM hq hlv 2 (by decide) rfl q343 rfl dX0_takes_1 ?_
  refine lv_if_ne (tgt := 14) hx hb dX0_takes_4 (by decide) (fun h => absurd hask.1 h) (fun _ => ?_)
  refine lv_aload_n hx hb dX0_takes_7 rfl (lv_at hl 1 rfl) ?_
  refine sy_dget (v := .int (sA μ 12 q)) hC hM hq hlv 8 (by decide) rfl q349 rfl dX0_takes_8 ?_
  refine lv_if_eq (tgt := 23) hx hb dX0_takes_11 (by decide) (fun _ => ?_) (fun h => absurd hask.2 h)
  refine lv_aload_n hx hb dX0_takes_23 rfl (lv_at hl 2 rfl) ?_
  refine lv_aload_n hx hb dX0_takes_24 rfl (lv_at hl 1 rfl) ?_
  refine sy_dget (v := .int (sA μ 4 q)) hC hM hq hlv 0 (by decide) rfl q341 rfl dX0_takes_25 ?_
  refine w_top (y := .int (nI (fm μ q))) (congrArg Value.int ((hW.2.2.2 q hq).1)) ?_
  refine w_YS (As := [.ref (β (64 + t)), .int (nI (fm μ q))]) hC hX hZ hM hS hml hl.1 (k_X0_as_ok l hst D tc x mo β μ t ht hn ht12 (fm μ q) (by omega) hg) q392 q393 q23 q394 rfl ⟨by decide, by decide, rfl⟩ (Nat.le_of_ble_eq_true rfl) (Nat.le_of_ble_eq_true rfl) ⟨(Nat.le_of_ble_eq_true rfl), (Nat.le_of_ble_eq_true rfl)⟩ rfl (Nat.le_of_ble_eq_true rfl) dX0_takes_28 (fun H locs hM hS => ?_)
  refine lv_aload_n hx hb dX0_takes_31 rfl (lv_at hl 2 rfl) ?_
  refine lv_acmp_ne (rx := some (β (64 + t))) (ry := some (β (64 + t))) (tgt := 39) hx hb dX0_takes_32 (by decide) (fun h => absurd rfl h) (fun _ => ?_)
  refine lv_iconst (v := 1) hx hb dX0_takes_35 (by decide) ?_
  refine lv_goto (tgt := 40) hx hb dX0_takes_36 (by decide) ?_
  exact sy_zret hC hr hlk hM hS rfl rfl (Nat.le_of_ble_eq_true rfl) (Nat.le_of_ble_eq_true rfl) dX0_takes_40
theorem k_X0_takes_give (l : Launch) (hst : l.stackTraces = false) (D : va_G) (tc : Nat → ClassId) (x mo : Nat) (β : Nat → Nat) (μ : MS) (hW : WF μ) (q : Nat) (hq : q < 32) (hlv : q % 4 < dk μ (q / 4)) (t : Nat) (ht : t < nn μ) (hask : sA μ 6 q = 0 ∧ sA μ 12 q = 0) (hg : goesN (kd μ t) (fm μ q) = false) : YW l yX0_takes cX0_takes 4 (some .boolean) [(23, 40, 41, 93)] 9 10321 3 1000 D tc x mo β [.ref (β 0), .ref (β (124 + q)), .ref (β (64 + t))] μ (p_give μ q t) (some (.int (bI false))) := by
  refine YW.of (by decide) rfl (Nat.le_of_ble_eq_true rfl) ?_
  intro p e s m below meth c hC hX hZ hr hlk hml htab hM hS ls hl
  have hx := hC.1
  have hb := hC.2.1
  have hts := hC.2.2.1
  have hown := hC.2.2.2.1
  have hl : lv_has ls 4 [(0, .ref (β 0)), (1, .ref (β (124 + q))), (2, .ref (β (64 + t)))] := hl
  have hn := hW.1.2
  have ht12 := (hW.2.1 t (by omega)).2.1
  have hfm := (hW.2.2.2 q hq).2.1
  refine lv_aload_n hx hb dX0_takes_0 rfl (lv_at hl 1 rfl) ?_
  refine sy_dget (v := .int (sA μ 6 q)) hC hM hq hlv 2 (by decide) rfl q343 rfl dX0_takes_1 ?_
  refine lv_if_ne (tgt := 14) hx hb dX0_takes_4 (by decide) (fun h => absurd hask.1 h) (fun _ => ?_)
  refine lv_aload_n hx hb dX0_takes_7 rfl (lv_at hl 1 rfl) ?_
  refine sy_dget (v := .int (sA μ 12 q)) hC hM hq hlv 8 (by decide) rfl q349 rfl dX0_takes_8 ?_
  refine lv_if_eq (tgt := 23) hx hb dX0_takes_11 (by decide) (fun _ => ?_) (fun h => absurd hask.2 h)
  refine lv_aload_n hx hb dX0_takes_23 rfl (lv_at hl 2 rfl) ?_
  refine lv_aload_n hx hb dX0_takes_24 rfl (lv_at hl 1 rfl) ?_
  refine sy_dget (v := .int (sA μ 4 q)) hC hM hq hlv 0 (by decide) rfl q341 rfl dX0_takes_25 ?_
  refine w_top (y := .int (nI (fm μ q))) (congrArg Value.int ((hW.2.2.2 q hq).1)) ?_
  refine w_YX (As := [.ref (β (64 + t)), .int (nI (fm μ q))]) hC hX hZ hM hS hml hl.1 (k_X0_as_cce l hst D tc x mo β μ t ht hn ht12 (fm μ q) (by omega) hg) q392 q393 q23 q394 rfl ⟨by decide, by decide, rfl⟩ (Nat.le_of_ble_eq_true rfl) (Nat.le_of_ble_eq_true rfl) ⟨(Nat.le_of_ble_eq_true rfl), (Nat.le_of_ble_eq_true rfl)⟩ rfl (Nat.le_of_ble_eq_true rfl) dX0_takes_28 (fun H locs q9 ce hM hS hce hcv hcl => ?_)
  refine w_catch (i := 0) hC hX htab (pre := []) (z := ⟨23, 40, 41, 93⟩) (suf := []) rfl (fun z hz => by cases hz) rfl (by decide) q155 (by decide) hce hcv hcl ?_
  refine lv_astore_n (lv' := [(3, .ref q9), (0, .ref (β 0)), (1, .ref (β (124 + q))), (2, .ref (β (64 + t)))]) hx hb dX0_takes_41 rfl hl (by decide) rfl (fun ls hl => ?_)
  refine lv_aload_n hx hb dX0_takes_42 rfl (lv_at hl 2 rfl) ?_
  refine lv_dup hx hb dX0_takes_43 rfl ?_
  refine sy_dget (v := .int (sA μ 10 q)) hC hM hq hlv 6 (by decide) rfl q347 rfl dX0_takes_44 ?_
  refine lv_iconst (v := 1) hx hb dX0_takes_47 (by decide) ?_
  refine lv_iadd hx hb dX0_takes_48 ?_
  refine sy_dput hC hM hS hq hlv 10 6 (by decide) (by decide) (w := ((sA μ 10 q) + 1)) (deskF_set (by simp)) q347 rfl rfl rfl rfl dX0_takes_49 (fun H locs hM hS => ?_)
  refine lv_aload_n hx hb dX0_takes_52 rfl (lv_at hl 2 rfl) ?_
  refine lv_aload_n hx hb dX0_takes_53 rfl (lv_at hl 3 rfl) ?_
  refine w_top (y := va_rf (qI β (nI t))) (by rw [qI_N (by omega)]; rfl) ?_
  refine sy_dput hC hM hS hq hlv 11 7 (by decide) (by decide) (w := (nI t)) (deskF_set (by simp)) q348 rfl rfl (nar_rf _) (fit_rf _) dX0_takes_54 (fun H locs hM hS => ?_)
  refine lv_aload_n hx hb dX0_takes_57 rfl (lv_at hl 2 rfl) ?_
  refine lv_iconst (v := 1) hx hb dX0_takes_58 (by decide) ?_
  refine sy_dput hC hM hS hq hlv 12 8 (by decide) (by decide) (w := 1) (deskF_set (by simp)) q349 rfl rfl (nar_z (by decide)) (fit_z (by decide)) dX0_takes_59 (fun H locs hM hS => ?_)
  refine lv_aload_n hx hb dX0_takes_62 rfl (lv_at hl 1 rfl) ?_
  refine lv_dup hx hb dX0_takes_63 rfl ?_
  refine sy_mget (v := .int (sS (setA (setA (setA μ 10 q ((sA μ 10 q) + 1)) 11 q (nI t)) 12 q 1) 5)) hC hM 6 (by decide) rfl rfl q56 rfl dX0_takes_64 ?_
  refine lv_iconst (v := 1) hx hb dX0_takes_67 (by decide) ?_
  refine lv_iadd hx hb dX0_takes_68 ?_
  refine sy_mput hC hM hS 5 6 (by decide) (by decide) (w := ((sS (setA (setA (setA μ 10 q ((sA μ 10 q) + 1)) 11 q (nI t)) 12 q 1) 5) + 1)) rfl rfl q56 rfl rfl rfl rfl dX0_takes_69 (fun H locs hM hS => ?_)
  refine lv_iconst (v := 0) hx hb dX0_takes_72 (by decide) ?_
  exact sy_zret hC hr hlk hM hS (by unfold p_give; rw [setA_comm (a := 11) (b := 12) (by decide)]; rfl) rfl (Nat.le_of_ble_eq_true rfl) (Nat.le_of_ble_eq_true rfl) dX0_takes_73

/-! NEW 5: make and desk -/
set_option maxRecDepth 100000
set_option maxHeartbeats 4000000
def mP (D : va_G) (tc : Nat → ClassId) (x mo : Nat) (β : Nat → Nat) (μ : MS) (U : State) : Prop := sX D tc x mo β μ U ∧ gN U ∧ x ≤ U.heap.size ∧ mo + 19 ≤ U.heap.size
def mR (D : va_G) (tc : Nat → ClassId) (x mo : Nat) (β : Nat → Nat) (w : MS × Int32) : Heap → Heap → Option Value → Prop := fun _ H1 r => r = some (.int w.2) ∧ ∃ β' : Nat → Nat, β' 0 = β 0 ∧ Sys D tc x mo β' w.1 H1
theorem mP_blind {D : va_G} {tc : Nat → ClassId} {x mo : Nat} {β : Nat → Nat} {μ : MS} {av : List Value} : FrameBlind (va_Pc av (mP D tc x mo β μ)) := by
  intro a U g mk q
  obtain ⟨q0, q1, q2, q3⟩ := q
  exact ⟨q0, (sX_blind (av := av) a U g mk ⟨q0, q1⟩).2, q2.same (s := U) (U := U.calling g mk a) rfl, q3⟩
theorem one_is {k : Nat} (hk : k < 256) : isIn (nI k) 5 7 = oneN k := by
  have h3 := isOne_eq hk
  cases h4 : isIn (nI k) 5 7 <;> cases h5 : oneN k <;> rw [h4, h5] at h3 <;> first | rfl | exact absurd h3 (by decide)
theorem ob_R {D : va_G} {tc : Nat → ClassId} {s : State} {H : Heap} {a ci N : Nat} {C : String} {T : u_T} {fs : List Value} (hG : gK D tc s) (hc : vwCl[ci]? = some (C, T, N)) (h : va_at D vwCl (a, .inr (ci, fs)) H) : thR s H a C := by
  obtain ⟨r, q1, cell, g1, g2, g3, -⟩ := h
  cases q1.symm.trans hc
  exact ⟨cell, g1, g3, by rw [g2]; exact (hG.1 ci _ hc).2.1⟩
theorem n_A {x mo z q : Nat} (h1 : x ≤ z) (h2 : mo + 19 ≤ z) (h : z ≤ q) : sy_A x mo q := ⟨by omega, fun w => by have := w.2; omega⟩
theorem k_X0_make (l : Launch) (hst : l.stackTraces = false) (D : va_G) (tc : Nat → ClassId) (x mo : Nat) (β : Nat → Nat) (μ : MS) (hI : IX μ) (k n : Int32) : NC l yX0_make cX0_make 3 (some .int) 4 90 2 4 [.ref (β 0), .int k, .int n] (sy_A x mo) (mP D tc x mo β μ) (mR D tc x mo β (p_make μ k n)) := by
  refine NC.of (by decide) rfl (Nat.le_of_ble_eq_true rfl) ?_
  intro p e s m below meth c hx hb hts hown hP9 hnm hr hlk hml hS ls hl
  obtain ⟨⟨hG, hX, hZ, hM⟩, hNN, hxz, hmz⟩ := hP9
  have hC : gC p s m _ c _ _ D tc := ⟨hx, hb, hts, hown, hG⟩
  have hn := hI.1.1.1.2
  have hW := hI.1.1
  have hl : lv_has ls 3 [(0, .ref (β 0)), (1, .int k), (2, .int n)] := hl
  refine lv_aload_n hx hb dX0_make_0 rfl (lv_at hl 0 rfl) ?_
  refine lv_iconst (v := 0) hx hb dX0_make_1 (by decide) ?_
  refine sy_mput hC hM hS 1 2 (by decide) (by decide) (w := 0) rfl rfl q52 rfl rfl rfl rfl dX0_make_2 (fun H locs hM hS => ?_)
  refine lv_iload_n hx hb dX0_make_5 rfl (lv_at hl 1 rfl) ?_
  refine lv_iconst (v := 0) hx hb dX0_make_6 (by decide) ?_
  refine lv_bipush (v := 12) hx hb dX0_make_7 (by decide) ?_
  refine w_SC (As := [.int k, .int 0, .int 12]) hx hb hts hown hml hl.1 (k_X0_isIn l k 0 12) q89 q90 q23 q91 rfl ⟨by decide, by decide, rfl⟩ (Nat.le_of_ble_eq_true rfl) (Nat.le_of_ble_eq_true rfl) ⟨Nat.zero_le _, Nat.zero_le _⟩ rfl (Nat.le_of_ble_eq_true rfl) dX0_make_9 ?_
  refine b_ifeq (w := (isIn k 0 12)) (tgt := 34) hx hb dX0_make_12 (by decide) (fun c_12 => ?_) (fun c_12 => ?_)
  · refine lv_aload_n hx hb dX0_make_34 rfl (lv_at hl 0 rfl) ?_
    refine lv_bipush (v := (-2)) hx hb dX0_make_35 (by decide) ?_
    refine w_YV (As := [.int (-2)]) hC hX hZ hM hS hml hl.1 (sy_mainR hC.2.2.2.2 hM) (k_X0_no l hst D tc x mo β (setS μ 1 0) (-2)) q92 q94 qs0 q23 q95 rfl ⟨by decide, by decide, rfl⟩ (Nat.le_of_ble_eq_true rfl) (Nat.le_of_ble_eq_true rfl) ⟨(Nat.le_of_ble_eq_true rfl), (Nat.le_of_ble_eq_true rfl)⟩ rfl (Nat.le_of_ble_eq_true rfl) dX0_make_37 (fun H locs hM hS => ?_)
    exact n_iret hC hr hlk hS ⟨congrArg (fun z9 : MS × Int32 => some (Value.int z9.2)) (show _ = p_make μ k n from (p_make_bad (μ := μ) (by first | (rw [show isIn k 0 12 = false from c_12]; rfl) | (rw [show isIn k 5 7 = false from c_22, show isIn n 0 3 = false from c_31]; simp))).symm), β, rfl, (show Sys D tc x mo β (p_make μ k n).1 H by rw [p_make_bad (μ := μ) (by first | (rw [show isIn k 0 12 = false from c_12]; rfl) | (rw [show isIn k 5 7 = false from c_22, show isIn n 0 3 = false from c_31]; simp))]; exact hM)⟩ (Nat.le_of_ble_eq_true rfl) (Nat.le_of_ble_eq_true rfl) dX0_make_40
  · refine lv_iload_n hx hb dX0_make_15 rfl (lv_at hl 1 rfl) ?_
    refine lv_iconst (v := 5) hx hb dX0_make_16 (by decide) ?_
    refine lv_bipush (v := 7) hx hb dX0_make_17 (by decide) ?_
    refine w_SC (As := [.int k, .int 5, .int 7]) hx hb hts hown hml hl.1 (k_X0_isIn l k 5 7) q89 q90 q23 q91 rfl ⟨by decide, by decide, rfl⟩ (Nat.le_of_ble_eq_true rfl) (Nat.le_of_ble_eq_true rfl) ⟨Nat.zero_le _, Nat.zero_le _⟩ rfl (Nat.le_of_ble_eq_true rfl) dX0_make_19 ?_
    refine b_ifne (w := (isIn k 5 7)) (tgt := 41) hx hb dX0_make_22 (by decide) (fun c_22 => ?_) (fun c_22 => ?_)
    · have hall : (isIn k 0 12 && (isIn k 5 7 || isIn n 0 3)) = true := by first | (rw [show isIn k 0 12 = true from c_12, show isIn k 5 7 = true from c_22]; rfl) | (rw [show isIn k 0 12 = true from c_12, show isIn n 0 3 = true from c_31]; simp)
      refine lv_aload_n hx hb dX0_make_41 rfl (lv_at hl 0 rfl) ?_
      refine sy_mget (v := .int (sS (setS μ 1 0) 0)) hC hM 1 (by decide) rfl rfl q51 rfl dX0_make_42 ?_
      refine w_top (y := .int (nI (nn μ))) (congrArg Value.int (hW.1.1)) ?_
      refine lv_bipush (v := 60) hx hb dX0_make_45 (by decide) ?_
      refine n_icmp_ne (a := (nn μ)) (b := 60) (tgt := 57) hx hb dX0_make_47 (by decide) (by omega) (by omega) (fun c_47 => ?_) (fun c_47 => ?_)
      · obtain ⟨k9, hk9, rfl⟩ := isIn_nat (n := 12) (by decide) c_12
        obtain ⟨n9, hv⟩ : ∃ n9 : Nat, oneN k9 = true ∨ (n = nI n9 ∧ n9 ≤ 3) := by first | exact ⟨0, Or.inl ((one_is (by omega)).symm.trans c_22)⟩ | exact (by obtain ⟨n9, h9, rfl⟩ := isIn_nat (n := 3) (by decide) c_31; exact ⟨n9, Or.inr ⟨rfl, by omega⟩⟩)
        have h60 : nn μ < 60 := by omega
        have hI1 : IX (setS μ 1 0) := ⟨IV_sr ⟨rfl, rfl, rfl, rfl, rfl, rfl, rfl⟩ rfl hI.1, HV_sr ⟨rfl, rfl, rfl, rfl, rfl, rfl, rfl⟩ rfl rfl rfl hI.2⟩
        refine lv_aload_n hx hb dX0_make_57 rfl (lv_at hl 0 rfl) ?_
        refine sy_mget (v := .ref (β 1)) hC hM 0 (by decide) rfl rfl q50 rfl dX0_make_58 ?_
        refine lv_aload_n hx hb dX0_make_61 rfl (lv_at hl 0 rfl) ?_
        refine sy_mget (v := .int (sS (setS μ 1 0) 0)) hC hM 1 (by decide) rfl rfl q51 rfl dX0_make_62 ?_
        refine w_top (y := .int (nI (nn μ))) (congrArg Value.int hW.1.1) ?_
        have hz0 := hS.1
        refine n_new hC in_X2 tyX2 tyX2_ok q46 q96 q25 (ci := 2) rfl (fs := [.null]) (by intro j hj; rw [show j = 0 by omega]; rfl) hS (Nat.le_of_ble_eq_true rfl) (Nat.le_of_ble_eq_true rfl) dX0_make_65 (fun H2 hz2 ho2 hP2 hS2 => ?_)
        have hAh : ∀ q, H.size ≤ q → sy_A x mo q := fun q hq => n_A hxz hmz (by omega)
        have hM2 := hM.kept (fun q hq _ => ho2 q hq)
        refine lv_dup hx hb dX0_make_68 rfl ?_
        refine lv_iload_n hx hb dX0_make_69 rfl (lv_at hl 1 rfl) ?_
        refine lv_iload_n hx hb dX0_make_70 rfl (lv_at hl 2 rfl) ?_
        refine w_NS (As := [.int (nI k9), .int n]) hx hb hts hown hS2 (fun _ h => h.elim) hml hl.1 (k_X0_made l D tc k9 n9 n (by omega) hv) nP_blind (fun U hU hW => nP.moved hW hU hG hX hNN trivial) q97 q98 q23 q99 rfl ⟨by decide, by decide, rfl⟩ (Nat.le_of_ble_eq_true rfl) (Nat.le_of_ble_eq_true rfl) ⟨(Nat.le_of_ble_eq_true rfl), (Nat.le_of_ble_eq_true rfl)⟩ rfl (Nat.le_of_ble_eq_true rfl) dX0_make_71 (fun H3 locs3 r hRR _ ho3 hS3 => ?_)
        obtain ⟨rfl, hz3, hP3⟩ := hRR
        have hM3 := hM2.kept (fun q hq _ => ho3 q hq (fun h => h))
        have hQ3 := hP2.kept (ho3 _ (by show H.size < _; omega) (fun h => h))
        refine w_NI (b := H.size) (As := [.ref H2.size]) hx hb hts hown hS3 (fun q hq => by rw [hq]; exact hAh _ (Nat.le_refl _)) hml hl.1 (k_X2_init l D tc H.size H2.size) nP_blind (fun U hU hW => nP.moved hW hU hG hX hNN hQ3) q142 q143 q25 q144 rfl rfl ⟨by decide, by decide, rfl⟩ (Nat.le_of_ble_eq_true rfl) (Nat.le_of_ble_eq_true rfl) ⟨(Nat.le_of_ble_eq_true rfl), (Nat.le_of_ble_eq_true rfl)⟩ rfl (Nat.le_of_ble_eq_true rfl) dX0_make_74 (fun H4 locs4 r hRR _ ho4 hS4 => ?_)
        obtain ⟨rfl, hz4, hP4⟩ := hRR
        have ho04 : ∀ q : Nat, q < H.size → H4[q]? = H[q]? := fun q hq => ((ho4 q (by omega) (fun h => by omega)).trans (ho3 q (by omega) (fun h => h))).trans (ho2 q hq)
        have hP4t := hP3.kept (ho4 _ (by show H2.size < _; omega) (fun h => by have : H2.size = H.size := h; omega))
        have hM4 : Sys D tc x mo β (setS μ 1 0) H4 := hM.kept (fun q hq _ => ho04 q hq)
        obtain ⟨kA, comp, k1, k2, k3, -⟩ := (hG.2 13 (by omega) (by omega)).2
        refine w_aast hC hS4 (k := 13) rfl hM4.items (hM4.1 1 live_1).2 k1 k2 k3 (ob_R hG rfl hP4) (fun c0 h => vb_asgS comp c0 k3 h) (nn μ) rfl h60 (by omega) dX0_make_77 (fun H5 locs5 hz5 oq5 hP5 hS5 => ?_)
        have hne : ∀ r, live (setS μ 1 0) r → β r < H.size := fun r hr => (hM.1 r hr).1.lt
        have h01 : β 0 ≠ β 1 := fun q => by have := hM.2 0 1 live_0 live_1 q; omega
        have hP50 := hM4.main.kept (oq5 _ h01)
        refine lv_aload_n hx hb dX0_make_78 rfl (lv_at hl 0 rfl) ?_
        refine lv_dup hx hb dX0_make_79 rfl ?_
        refine w1_get hC in_X0 hP50 rfl 1 (by decide) rfl q51 rfl dX0_make_80 ?_
        refine w_top (y := .int (nI (nn μ))) (congrArg Value.int hW.1.1) ?_
        refine lv_iconst (v := 1) hx hb dX0_make_83 (by decide) ?_
        refine lv_iadd hx hb dX0_make_84 ?_
        refine w_top (y := .int (nI (nn μ + 1))) (congrArg Value.int (nI_add (nn μ) 1)) ?_
        refine w1_put hC hS5 in_X0 tyX0 tyX0_ok nmX0 hP50 (hM.1 0 live_0).2 rfl 1 (by decide) q51 rfl rfl rfl rfl (by decide : 1 < 11) dX0_make_85 (fun H6 locs6 hz6 oq6 hP6 hS6 => ?_)
        have hb1 := hne 1 live_1
        have hb0 := hne 0 live_0
        have hfin := make_add (j := nn μ) (n := n9) (h := H.size) hM hI1 rfl h60 (show k9 < 13 by omega) (fun h => by rcases hv with q | q; { rw [h] at q; cases q }; { exact q.2 }) (Nat.le_refl _) (fun q hq h0 h1 => ((oq6 q h0).trans (oq5 q h1)).trans (ho04 q hq)) hP6 (hP5.kept (oq6 _ (Ne.symm h01))) (by rw [← hz2]; exact (hP4.kept (oq5 _ (by show H.size ≠ _; omega))).kept (oq6 _ (by show H.size ≠ _; omega))) (by rw [← hz2]; exact (hP4t.kept (oq5 _ (by show H2.size ≠ _; omega))).kept (oq6 _ (by show H2.size ≠ _; omega))) (hAh _ (Nat.le_refl _)) (hAh _ (by omega))
        refine lv_aload_n hx hb dX0_make_88 rfl (lv_at hl 0 rfl) ?_
        refine w1_get hC in_X0 hP6 rfl 1 (by decide) rfl q51 rfl dX0_make_89 ?_
        refine lv_iconst (v := 1) hx hb dX0_make_92 (by decide) ?_
        refine lv_isub hx hb dX0_make_93 ?_
        refine w_top (y := .int (nI (nn μ))) (congrArg Value.int ((pk_sub (a := nn μ + 1) (b := 1) (by omega)).trans (by rw [Nat.add_sub_cancel]))) ?_
        have hok := p_make_ok (μ := μ) (k := k9) (n := n) (by omega) hall (by rw [hW.1.1]; exact fun q => c_47 ((nI_eq (b := 60) (by omega) (by omega)).mp q))
        have hw : (if oneN k9 = true then 0 else n) = (if oneN k9 = true then 0 else nI n9) := by rcases hv with q | q; { rw [if_pos q, if_pos q] }; { rw [q.1] }
        rw [hw] at hok
        exact n_iret hC hr hlk hS6 ⟨congrArg (fun z9 : MS × Int32 => some (Value.int z9.2)) hok.symm, mkR β (nn μ) H.size, (by unfold mkR; rw [if_neg (by omega), if_neg (by omega)]), (by rw [hok]; exact hfin)⟩ (Nat.le_of_ble_eq_true rfl) (Nat.le_of_ble_eq_true rfl) dX0_make_94
      · refine lv_aload_n hx hb dX0_make_50 rfl (lv_at hl 0 rfl) ?_
        refine lv_bipush (v := (-3)) hx hb dX0_make_51 (by decide) ?_
        refine w_YV (As := [.int (-3)]) hC hX hZ hM hS hml hl.1 (sy_mainR hC.2.2.2.2 hM) (k_X0_no l hst D tc x mo β (setS μ 1 0) (-3)) q92 q94 qs0 q23 q95 rfl ⟨by decide, by decide, rfl⟩ (Nat.le_of_ble_eq_true rfl) (Nat.le_of_ble_eq_true rfl) ⟨(Nat.le_of_ble_eq_true rfl), (Nat.le_of_ble_eq_true rfl)⟩ rfl (Nat.le_of_ble_eq_true rfl) dX0_make_53 (fun H locs hM hS => ?_)
        exact n_iret hC hr hlk hS ⟨congrArg (fun z9 : MS × Int32 => some (Value.int z9.2)) (show _ = p_make μ k n from (p_make_full (μ := μ) hall (by rw [hW.1.1, c_47]; rfl)).symm), β, rfl, (show Sys D tc x mo β (p_make μ k n).1 H by rw [p_make_full (μ := μ) hall (by rw [hW.1.1, c_47]; rfl)]; exact hM)⟩ (Nat.le_of_ble_eq_true rfl) (Nat.le_of_ble_eq_true rfl) dX0_make_56
    · refine lv_iload_n hx hb dX0_make_25 rfl (lv_at hl 2 rfl) ?_
      refine lv_iconst (v := 0) hx hb dX0_make_26 (by decide) ?_
      refine lv_iconst (v := 3) hx hb dX0_make_27 (by decide) ?_
      refine w_SC (As := [.int n, .int 0, .int 3]) hx hb hts hown hml hl.1 (k_X0_isIn l n 0 3) q89 q90 q23 q91 rfl ⟨by decide, by decide, rfl⟩ (Nat.le_of_ble_eq_true rfl) (Nat.le_of_ble_eq_true rfl) ⟨Nat.zero_le _, Nat.zero_le _⟩ rfl (Nat.le_of_ble_eq_true rfl) dX0_make_28 ?_
      refine b_ifne (w := (isIn n 0 3)) (tgt := 41) hx hb dX0_make_31 (by decide) (fun c_31 => ?_) (fun c_31 => ?_)
      · have hall : (isIn k 0 12 && (isIn k 5 7 || isIn n 0 3)) = true := by first | (rw [show isIn k 0 12 = true from c_12, show isIn k 5 7 = true from c_22]; rfl) | (rw [show isIn k 0 12 = true from c_12, show isIn n 0 3 = true from c_31]; simp)
        refine lv_aload_n hx hb dX0_make_41 rfl (lv_at hl 0 rfl) ?_
        refine sy_mget (v := .int (sS (setS μ 1 0) 0)) hC hM 1 (by decide) rfl rfl q51 rfl dX0_make_42 ?_
        refine w_top (y := .int (nI (nn μ))) (congrArg Value.int (hW.1.1)) ?_
        refine lv_bipush (v := 60) hx hb dX0_make_45 (by decide) ?_
        refine n_icmp_ne (a := (nn μ)) (b := 60) (tgt := 57) hx hb dX0_make_47 (by decide) (by omega) (by omega) (fun c_47 => ?_) (fun c_47 => ?_)
        · obtain ⟨k9, hk9, rfl⟩ := isIn_nat (n := 12) (by decide) c_12
          obtain ⟨n9, hv⟩ : ∃ n9 : Nat, oneN k9 = true ∨ (n = nI n9 ∧ n9 ≤ 3) := by first | exact ⟨0, Or.inl ((one_is (by omega)).symm.trans c_22)⟩ | exact (by obtain ⟨n9, h9, rfl⟩ := isIn_nat (n := 3) (by decide) c_31; exact ⟨n9, Or.inr ⟨rfl, by omega⟩⟩)
          have h60 : nn μ < 60 := by omega
          have hI1 : IX (setS μ 1 0) := ⟨IV_sr ⟨rfl, rfl, rfl, rfl, rfl, rfl, rfl⟩ rfl hI.1, HV_sr ⟨rfl, rfl, rfl, rfl, rfl, rfl, rfl⟩ rfl rfl rfl hI.2⟩
          refine lv_aload_n hx hb dX0_make_57 rfl (lv_at hl 0 rfl) ?_
          refine sy_mget (v := .ref (β 1)) hC hM 0 (by decide) rfl rfl q50 rfl dX0_make_58 ?_
          refine lv_aload_n hx hb dX0_make_61 rfl (lv_at hl 0 rfl) ?_
          refine sy_mget (v := .int (sS (setS μ 1 0) 0)) hC hM 1 (by decide) rfl rfl q51 rfl dX0_make_62 ?_
          refine w_top (y := .int (nI (nn μ))) (congrArg Value.int hW.1.1) ?_
          have hz0 := hS.1
          refine n_new hC in_X2 tyX2 tyX2_ok q46 q96 q25 (ci := 2) rfl (fs := [.null]) (by intro j hj; rw [show j = 0 by omega]; rfl) hS (Nat.le_of_ble_eq_true rfl) (Nat.le_of_ble_eq_true rfl) dX0_make_65 (fun H2 hz2 ho2 hP2 hS2 => ?_)
          have hAh : ∀ q, H.size ≤ q → sy_A x mo q := fun q hq => n_A hxz hmz (by omega)
          have hM2 := hM.kept (fun q hq _ => ho2 q hq)
          refine lv_dup hx hb dX0_make_68 rfl ?_
          refine lv_iload_n hx hb dX0_make_69 rfl (lv_at hl 1 rfl) ?_
          refine lv_iload_n hx hb dX0_make_70 rfl (lv_at hl 2 rfl) ?_
          refine w_NS (As := [.int (nI k9), .int n]) hx hb hts hown hS2 (fun _ h => h.elim) hml hl.1 (k_X0_made l D tc k9 n9 n (by omega) hv) nP_blind (fun U hU hW => nP.moved hW hU hG hX hNN trivial) q97 q98 q23 q99 rfl ⟨by decide, by decide, rfl⟩ (Nat.le_of_ble_eq_true rfl) (Nat.le_of_ble_eq_true rfl) ⟨(Nat.le_of_ble_eq_true rfl), (Nat.le_of_ble_eq_true rfl)⟩ rfl (Nat.le_of_ble_eq_true rfl) dX0_make_71 (fun H3 locs3 r hRR _ ho3 hS3 => ?_)
          obtain ⟨rfl, hz3, hP3⟩ := hRR
          have hM3 := hM2.kept (fun q hq _ => ho3 q hq (fun h => h))
          have hQ3 := hP2.kept (ho3 _ (by show H.size < _; omega) (fun h => h))
          refine w_NI (b := H.size) (As := [.ref H2.size]) hx hb hts hown hS3 (fun q hq => by rw [hq]; exact hAh _ (Nat.le_refl _)) hml hl.1 (k_X2_init l D tc H.size H2.size) nP_blind (fun U hU hW => nP.moved hW hU hG hX hNN hQ3) q142 q143 q25 q144 rfl rfl ⟨by decide, by decide, rfl⟩ (Nat.le_of_ble_eq_true rfl) (Nat.le_of_ble_eq_true rfl) ⟨(Nat.le_of_ble_eq_true rfl), (Nat.le_of_ble_eq_true rfl)⟩ rfl (Nat.le_of_ble_eq_true rfl) dX0_make_74 (fun H4 locs4 r hRR _ ho4 hS4 => ?_)
          obtain ⟨rfl, hz4, hP4⟩ := hRR
          have ho04 : ∀ q : Nat, q < H.size → H4[q]? = H[q]? := fun q hq => ((ho4 q (by omega) (fun h => by omega)).trans (ho3 q (by omega) (fun h => h))).trans (ho2 q hq)
          have hP4t := hP3.kept (ho4 _ (by show H2.size < _; omega) (fun h => by have : H2.size = H.size := h; omega))
          have hM4 : Sys D tc x mo β (setS μ 1 0) H4 := hM.kept (fun q hq _ => ho04 q hq)
          obtain ⟨kA, comp, k1, k2, k3, -⟩ := (hG.2 13 (by omega) (by omega)).2
          refine w_aast hC hS4 (k := 13) rfl hM4.items (hM4.1 1 live_1).2 k1 k2 k3 (ob_R hG rfl hP4) (fun c0 h => vb_asgS comp c0 k3 h) (nn μ) rfl h60 (by omega) dX0_make_77 (fun H5 locs5 hz5 oq5 hP5 hS5 => ?_)
          have hne : ∀ r, live (setS μ 1 0) r → β r < H.size := fun r hr => (hM.1 r hr).1.lt
          have h01 : β 0 ≠ β 1 := fun q => by have := hM.2 0 1 live_0 live_1 q; omega
          have hP50 := hM4.main.kept (oq5 _ h01)
          refine lv_aload_n hx hb dX0_make_78 rfl (lv_at hl 0 rfl) ?_
          refine lv_dup hx hb dX0_make_79 rfl ?_
          refine w1_get hC in_X0 hP50 rfl 1 (by decide) rfl q51 rfl dX0_make_80 ?_
          refine w_top (y := .int (nI (nn μ))) (congrArg Value.int hW.1.1) ?_
          refine lv_iconst (v := 1) hx hb dX0_make_83 (by decide) ?_
          refine lv_iadd hx hb dX0_make_84 ?_
          refine w_top (y := .int (nI (nn μ + 1))) (congrArg Value.int (nI_add (nn μ) 1)) ?_
          refine w1_put hC hS5 in_X0 tyX0 tyX0_ok nmX0 hP50 (hM.1 0 live_0).2 rfl 1 (by decide) q51 rfl rfl rfl rfl (by decide : 1 < 11) dX0_make_85 (fun H6 locs6 hz6 oq6 hP6 hS6 => ?_)
          have hb1 := hne 1 live_1
          have hb0 := hne 0 live_0
          have hfin := make_add (j := nn μ) (n := n9) (h := H.size) hM hI1 rfl h60 (show k9 < 13 by omega) (fun h => by rcases hv with q | q; { rw [h] at q; cases q }; { exact q.2 }) (Nat.le_refl _) (fun q hq h0 h1 => ((oq6 q h0).trans (oq5 q h1)).trans (ho04 q hq)) hP6 (hP5.kept (oq6 _ (Ne.symm h01))) (by rw [← hz2]; exact (hP4.kept (oq5 _ (by show H.size ≠ _; omega))).kept (oq6 _ (by show H.size ≠ _; omega))) (by rw [← hz2]; exact (hP4t.kept (oq5 _ (by show H2.size ≠ _; omega))).kept (oq6 _ (by show H2.size ≠ _; omega))) (hAh _ (Nat.le_refl _)) (hAh _ (by omega))
          refine lv_aload_n hx hb dX0_make_88 rfl (lv_at hl 0 rfl) ?_
          refine w1_get hC in_X0 hP6 rfl 1 (by decide) rfl q51 rfl dX0_make_89 ?_
          refine lv_iconst (v := 1) hx hb dX0_make_92 (by decide) ?_
          refine lv_isub hx hb dX0_make_93 ?_
          refine w_top (y := .int (nI (nn μ))) (congrArg Value.int ((pk_sub (a := nn μ + 1) (b := 1) (by omega)).trans (by rw [Nat.add_sub_cancel]))) ?_
          have hok := p_make_ok (μ := μ) (k := k9) (n := n) (by omega) hall (by rw [hW.1.1]; exact fun q => c_47 ((nI_eq (b := 60) (by omega) (by omega)).mp q))
          have hw : (if oneN k9 = true then 0 else n) = (if oneN k9 = true then 0 else nI n9) := by rcases hv with q | q; { rw [if_pos q, if_pos q] }; { rw [q.1] }
          rw [hw] at hok
          exact n_iret hC hr hlk hS6 ⟨congrArg (fun z9 : MS × Int32 => some (Value.int z9.2)) hok.symm, mkR β (nn μ) H.size, (by unfold mkR; rw [if_neg (by omega), if_neg (by omega)]), (by rw [hok]; exact hfin)⟩ (Nat.le_of_ble_eq_true rfl) (Nat.le_of_ble_eq_true rfl) dX0_make_94
        · refine lv_aload_n hx hb dX0_make_50 rfl (lv_at hl 0 rfl) ?_
          refine lv_bipush (v := (-3)) hx hb dX0_make_51 (by decide) ?_
          refine w_YV (As := [.int (-3)]) hC hX hZ hM hS hml hl.1 (sy_mainR hC.2.2.2.2 hM) (k_X0_no l hst D tc x mo β (setS μ 1 0) (-3)) q92 q94 qs0 q23 q95 rfl ⟨by decide, by decide, rfl⟩ (Nat.le_of_ble_eq_true rfl) (Nat.le_of_ble_eq_true rfl) ⟨(Nat.le_of_ble_eq_true rfl), (Nat.le_of_ble_eq_true rfl)⟩ rfl (Nat.le_of_ble_eq_true rfl) dX0_make_53 (fun H locs hM hS => ?_)
          exact n_iret hC hr hlk hS ⟨congrArg (fun z9 : MS × Int32 => some (Value.int z9.2)) (show _ = p_make μ k n from (p_make_full (μ := μ) hall (by rw [hW.1.1, c_47]; rfl)).symm), β, rfl, (show Sys D tc x mo β (p_make μ k n).1 H by rw [p_make_full (μ := μ) hall (by rw [hW.1.1, c_47]; rfl)]; exact hM)⟩ (Nat.le_of_ble_eq_true rfl) (Nat.le_of_ble_eq_true rfl) dX0_make_56
      · refine lv_aload_n hx hb dX0_make_34 rfl (lv_at hl 0 rfl) ?_
        refine lv_bipush (v := (-2)) hx hb dX0_make_35 (by decide) ?_
        refine w_YV (As := [.int (-2)]) hC hX hZ hM hS hml hl.1 (sy_mainR hC.2.2.2.2 hM) (k_X0_no l hst D tc x mo β (setS μ 1 0) (-2)) q92 q94 qs0 q23 q95 rfl ⟨by decide, by decide, rfl⟩ (Nat.le_of_ble_eq_true rfl) (Nat.le_of_ble_eq_true rfl) ⟨(Nat.le_of_ble_eq_true rfl), (Nat.le_of_ble_eq_true rfl)⟩ rfl (Nat.le_of_ble_eq_true rfl) dX0_make_37 (fun H locs hM hS => ?_)
        exact n_iret hC hr hlk hS ⟨congrArg (fun z9 : MS × Int32 => some (Value.int z9.2)) (show _ = p_make μ k n from (p_make_bad (μ := μ) (by first | (rw [show isIn k 0 12 = false from c_12]; rfl) | (rw [show isIn k 5 7 = false from c_22, show isIn n 0 3 = false from c_31]; simp))).symm), β, rfl, (show Sys D tc x mo β (p_make μ k n).1 H by rw [p_make_bad (μ := μ) (by first | (rw [show isIn k 0 12 = false from c_12]; rfl) | (rw [show isIn k 5 7 = false from c_22, show isIn n 0 3 = false from c_31]; simp))]; exact hM)⟩ (Nat.le_of_ble_eq_true rfl) (Nat.le_of_ble_eq_true rfl) dX0_make_40

/-! NEW 6: desk -/
set_option maxRecDepth 100000
set_option maxHeartbeats 4000000
theorem k_X0_desk (l : Launch) (hst : l.stackTraces = false) (D : va_G) (tc : Nat → ClassId) (x mo : Nat) (β : Nat → Nat) (μ : MS) (hI : IX μ) (hNV : NV μ) (r f a : Int32) (z : Bool) : NC l yX0_desk cX0_desk 6 (some .int) 4 90 1 9 [.ref (β 0), .int r, .int f, .int a, .int (bI z)] (sy_A x mo) (mP D tc x mo β μ) (mR D tc x mo β (p_desk μ r f a z)) := by
  refine NC.of (by decide) rfl (Nat.le_of_ble_eq_true rfl) ?_
  intro p e s m below meth c hx hb hts hown hP9 hnm hr hlk hml hS ls hl
  obtain ⟨⟨hG, hX, hZ, hM⟩, hNN, hxz, hmz⟩ := hP9
  have hC : gC p s m _ c _ _ D tc := ⟨hx, hb, hts, hown, hG⟩
  have hn := hI.1.1.1.2
  have hW := hI.1.1
  have hl : lv_has ls 6 [(0, .ref (β 0)), (1, .int r), (2, .int f), (3, .int a), (4, .int (bI z))] := hl
  refine lv_aload_n hx hb dX0_desk_0 rfl (lv_at hl 0 rfl) ?_
  refine lv_iconst (v := 0) hx hb dX0_desk_1 (by decide) ?_
  refine sy_mput hC hM hS 1 2 (by decide) (by decide) (w := 0) rfl rfl q52 rfl rfl rfl rfl dX0_desk_2 (fun H locs hM hS => ?_)
  refine lv_iload_n hx hb dX0_desk_5 rfl (lv_at hl 1 rfl) ?_
  refine w_SC (As := [.int r]) hx hb hts hown hml hl.1 (k_X0_isRoom l r) q333 q334 q23 q335 rfl ⟨by decide, by decide, rfl⟩ (Nat.le_of_ble_eq_true rfl) (Nat.le_of_ble_eq_true rfl) ⟨Nat.zero_le _, Nat.zero_le _⟩ rfl (Nat.le_of_ble_eq_true rfl) dX0_desk_6 ?_
  refine b_ifeq (w := (isIn r 0 7)) (tgt := 31) hx hb dX0_desk_9 (by decide) (fun c_9 => ?_) (fun c_9 => ?_)
  · refine lv_aload_n hx hb dX0_desk_31 rfl (lv_at hl 0 rfl) ?_
    refine lv_bipush (v := (-2)) hx hb dX0_desk_32 (by decide) ?_
    refine w_YV (As := [.int (-2)]) hC hX hZ hM hS hml hl.1 (sy_mainR hC.2.2.2.2 hM) (k_X0_no l hst D tc x mo β (setS μ 1 0) (-2)) q92 q94 qs0 q23 q95 rfl ⟨by decide, by decide, rfl⟩ (Nat.le_of_ble_eq_true rfl) (Nat.le_of_ble_eq_true rfl) ⟨(Nat.le_of_ble_eq_true rfl), (Nat.le_of_ble_eq_true rfl)⟩ rfl (Nat.le_of_ble_eq_true rfl) dX0_desk_34 (fun H locs hM hS => ?_)
    exact n_iret hC hr hlk hS ⟨congrArg (fun z9 : MS × Int32 => some (Value.int z9.2)) (show _ = p_desk μ r f a z from (p_desk_bad (μ := μ) (by first | (rw [show isIn r 0 7 = false from c_9]; rfl) | (rw [show isIn f 0 13 = false from c_19]; simp) | (rw [show isIn a 0 4 = false from c_28]; simp))).symm), β, rfl, (show Sys D tc x mo β (p_desk μ r f a z).1 H by rw [p_desk_bad (μ := μ) (by first | (rw [show isIn r 0 7 = false from c_9]; rfl) | (rw [show isIn f 0 13 = false from c_19]; simp) | (rw [show isIn a 0 4 = false from c_28]; simp))]; exact hM)⟩ (Nat.le_of_ble_eq_true rfl) (Nat.le_of_ble_eq_true rfl) dX0_desk_37
  · refine lv_iload_n hx hb dX0_desk_12 rfl (lv_at hl 2 rfl) ?_
    refine lv_iconst (v := 0) hx hb dX0_desk_13 (by decide) ?_
    refine lv_bipush (v := 13) hx hb dX0_desk_14 (by decide) ?_
    refine w_SC (As := [.int f, .int 0, .int 13]) hx hb hts hown hml hl.1 (k_X0_isIn l f 0 13) q89 q90 q23 q91 rfl ⟨by decide, by decide, rfl⟩ (Nat.le_of_ble_eq_true rfl) (Nat.le_of_ble_eq_true rfl) ⟨Nat.zero_le _, Nat.zero_le _⟩ rfl (Nat.le_of_ble_eq_true rfl) dX0_desk_16 ?_
    refine b_ifeq (w := (isIn f 0 13)) (tgt := 31) hx hb dX0_desk_19 (by decide) (fun c_19 => ?_) (fun c_19 => ?_)
    · refine lv_aload_n hx hb dX0_desk_31 rfl (lv_at hl 0 rfl) ?_
      refine lv_bipush (v := (-2)) hx hb dX0_desk_32 (by decide) ?_
      refine w_YV (As := [.int (-2)]) hC hX hZ hM hS hml hl.1 (sy_mainR hC.2.2.2.2 hM) (k_X0_no l hst D tc x mo β (setS μ 1 0) (-2)) q92 q94 qs0 q23 q95 rfl ⟨by decide, by decide, rfl⟩ (Nat.le_of_ble_eq_true rfl) (Nat.le_of_ble_eq_true rfl) ⟨(Nat.le_of_ble_eq_true rfl), (Nat.le_of_ble_eq_true rfl)⟩ rfl (Nat.le_of_ble_eq_true rfl) dX0_desk_34 (fun H locs hM hS => ?_)
      exact n_iret hC hr hlk hS ⟨congrArg (fun z9 : MS × Int32 => some (Value.int z9.2)) (show _ = p_desk μ r f a z from (p_desk_bad (μ := μ) (by first | (rw [show isIn r 0 7 = false from c_9]; rfl) | (rw [show isIn f 0 13 = false from c_19]; simp) | (rw [show isIn a 0 4 = false from c_28]; simp))).symm), β, rfl, (show Sys D tc x mo β (p_desk μ r f a z).1 H by rw [p_desk_bad (μ := μ) (by first | (rw [show isIn r 0 7 = false from c_9]; rfl) | (rw [show isIn f 0 13 = false from c_19]; simp) | (rw [show isIn a 0 4 = false from c_28]; simp))]; exact hM)⟩ (Nat.le_of_ble_eq_true rfl) (Nat.le_of_ble_eq_true rfl) dX0_desk_37
    · refine lv_iload_n hx hb dX0_desk_22 rfl (lv_at hl 3 rfl) ?_
      refine lv_iconst (v := 0) hx hb dX0_desk_23 (by decide) ?_
      refine lv_iconst (v := 4) hx hb dX0_desk_24 (by decide) ?_
      refine w_SC (As := [.int a, .int 0, .int 4]) hx hb hts hown hml hl.1 (k_X0_isIn l a 0 4) q89 q90 q23 q91 rfl ⟨by decide, by decide, rfl⟩ (Nat.le_of_ble_eq_true rfl) (Nat.le_of_ble_eq_true rfl) ⟨Nat.zero_le _, Nat.zero_le _⟩ rfl (Nat.le_of_ble_eq_true rfl) dX0_desk_25 ?_
      refine b_ifne (w := (isIn a 0 4)) (tgt := 38) hx hb dX0_desk_28 (by decide) (fun c_28 => ?_) (fun c_28 => ?_)
      · have hall : (isIn r 0 7 && (isIn f 0 13 && isIn a 0 4)) = true := by rw [show isIn r 0 7 = true from c_9, show isIn f 0 13 = true from c_19, show isIn a 0 4 = true from c_28]; rfl
        obtain ⟨r9, hr9, rfl⟩ := isIn_nat (n := 7) (by decide) c_9
        have hd4 := (hW.2.2.1 r9 (by omega)).2
        refine lv_aload_n hx hb dX0_desk_38 rfl (lv_at hl 0 rfl) ?_
        refine sy_mget (v := .ref (β 3)) hC hM 8 (by decide) rfl rfl q58 rfl dX0_desk_39 ?_
        refine lv_iload_n hx hb dX0_desk_42 rfl (lv_at hl 1 rfl) ?_
        refine sy_miald (v := (nI (dk μ r9))) hC hM r9 rfl (by omega) ((hW.2.2.1 r9 (by omega)).1) dX0_desk_43 ?_
        refine lv_iconst (v := 4) hx hb dX0_desk_44 (by decide) ?_
        refine n_icmp_ne (a := (dk μ r9)) (b := 4) (tgt := 55) hx hb dX0_desk_45 (by decide) (by omega) (by omega) (fun c_45 => ?_) (fun c_45 => ?_)
        · have hI1 : IX (setS μ 1 0) := ⟨IV_sr ⟨rfl, rfl, rfl, rfl, rfl, rfl, rfl⟩ rfl hI.1, HV_sr ⟨rfl, rfl, rfl, rfl, rfl, rfl, rfl⟩ rfl rfl rfl hI.2⟩
          have hz0 := hS.1
          have hAh : ∀ q, H.size ≤ q → sy_A x mo q := fun q hq => n_A hxz hmz (by omega)
          refine n_new hC in_X6 tyX6 tyX6_ok q48 q336 q37 (ci := 6) rfl (fs := rawD) (by intro j hj; rcases (by omega : j = 0 ∨ j = 1 ∨ j = 2 ∨ j = 3 ∨ j = 4 ∨ j = 5 ∨ j = 6 ∨ j = 7 ∨ j = 8) with rfl | rfl | rfl | rfl | rfl | rfl | rfl | rfl | rfl <;> rfl) hS (Nat.le_of_ble_eq_true rfl) (Nat.le_of_ble_eq_true rfl) dX0_desk_55 (fun H2 hz2 ho2 hP2 hS2 => ?_)
          refine lv_dup hx hb dX0_desk_58 rfl ?_
          refine w_NN (b := H.size) (As := []) hx hb hts hown hS2 (fun _ h => h.elim) hml hl.1 hNN (k_X6_init l D tc H.size) nP_blind (fun U hU hW => nP.moved hW hU hG hX hNN trivial) q337 q338 q37 q339 rfl rfl ⟨by decide, by decide, rfl⟩ (Nat.le_of_ble_eq_true rfl) (Nat.le_of_ble_eq_true rfl) ⟨(Nat.le_of_ble_eq_true rfl), (Nat.le_of_ble_eq_true rfl)⟩ rfl (Nat.le_of_ble_eq_true rfl) dX0_desk_59 (fun H3 locs3 r hRR _ _ hS3 => ?_)
          obtain ⟨e3, rfl⟩ := hRR
          rw [e3] at hS3 ⊢
          refine lv_astore (lv' := [(5, .ref H.size), (0, .ref (β 0)), (1, .int (nI r9)), (2, .int f), (3, .int a), (4, .int (bI z))]) hx hb dX0_desk_62 hl (by decide) rfl (fun ls hl => ?_)
          refine lv_aload hx hb dX0_desk_64 (lv_at hl 0 rfl) ?_
          refine lv_iload_n hx hb dX0_desk_66 rfl (lv_at hl 3 rfl) ?_
          refine lv_iload_n hx hb dX0_desk_67 rfl (lv_at hl 4 rfl) ?_
          refine lv_iload hx hb dX0_desk_68 (lv_at hl 5 rfl) ?_
          refine w_NS (As := [.ref H.size, .int f, .int a, .int (bI z)]) hx hb hts hown hS3 (fun q hq => by rw [hq]; exact hAh _ (Nat.le_refl _)) hml hl.1 (n_tell l D tc H.size f a z) nP_blind (fun U hU hW => nP.moved hW hU hG hX hNN hP2) q369 q370 q23 q371 rfl ⟨by decide, by decide, rfl⟩ (Nat.le_of_ble_eq_true rfl) (Nat.le_of_ble_eq_true rfl) ⟨(Nat.le_of_ble_eq_true rfl), (Nat.le_of_ble_eq_true rfl)⟩ rfl (Nat.le_of_ble_eq_true rfl) dX0_desk_70 (fun H4 locs4 r hRR _ ho4 hS4 => ?_)
          obtain ⟨rfl, hz4, hP4⟩ := hRR
          have ho04 : ∀ q : Nat, q < H.size → H4[q]? = H[q]? := fun q hq => (ho4 q (by omega) (fun h => by have : q = H.size := h; omega)).trans (ho2 q hq)
          have hM4 : Sys D tc x mo β (setS μ 1 0) H4 := hM.kept (fun q hq _ => ho04 q hq)
          have hdm : sA (setS μ 1 0) 3 r9 = nI (dk μ r9) := (hW.2.2.1 r9 (by omega)).1
          refine lv_aload_n hx hb dX0_desk_73 rfl (lv_at hl 1 rfl) ?_
          refine sy_mget (v := .ref (β 2)) hC hM4 7 (by decide) rfl rfl q57 rfl dX0_desk_74 ?_
          refine lv_iconst (v := 4) hx hb dX0_desk_77 (by decide) ?_
          refine lv_iload_n hx hb dX0_desk_78 rfl (lv_at hl 2 rfl) ?_
          refine lv_imul hx hb dX0_desk_79 ?_
          refine w_top (y := .int (nI (4 * r9))) (congrArg Value.int (pk_mul 4 r9)) ?_
          refine lv_aload_n hx hb dX0_desk_80 rfl (lv_at hl 1 rfl) ?_
          refine sy_mget (v := .ref (β 3)) hC hM4 8 (by decide) rfl rfl q58 rfl dX0_desk_81 ?_
          refine lv_iload_n hx hb dX0_desk_84 rfl (lv_at hl 2 rfl) ?_
          refine sy_miald (v := nI (dk μ r9)) hC hM4 r9 rfl (by omega) hdm dX0_desk_85 ?_
          refine lv_iadd hx hb dX0_desk_86 ?_
          refine w_top (y := .int (nI (4 * r9 + dk μ r9))) (congrArg Value.int (nI_add (4 * r9) (dk μ r9))) ?_
          refine lv_aload hx hb dX0_desk_87 (lv_at hl 0 rfl) ?_
          obtain ⟨kA, comp, k1, k2, k3, -⟩ := (hG.2 14 (by omega) (by omega)).2
          refine w_aast hC hS4 (k := 14) rfl hM4.desks (hM4.1 2 live_2).2 k1 k2 k3 (ob_R hG rfl hP4) (fun c0 h => vb_asgS comp c0 k3 h) (4 * r9 + dk μ r9) rfl (by omega) (by omega) dX0_desk_89 (fun H5 locs5 hz5 oq5 hP5 hS5 => ?_)
          have hne : ∀ r, live (setS μ 1 0) r → β r < H.size := fun r hr => (hM.1 r hr).1.lt
          have h02 : β 0 ≠ β 2 := fun q => by have := hM.2 0 2 live_0 live_2 q; omega
          have h03 : β 0 ≠ β 3 := fun q => by have := hM.2 0 3 live_0 live_3 q; omega
          have h32 : β 3 ≠ β 2 := fun q => by have := hM.2 3 2 live_3 live_2 q; omega
          have hb2 := hne 2 live_2
          have hb3 := hne 3 live_3
          have hP50 := hM4.main.kept (oq5 _ h02)
          have hP53 := hM4.dmany.kept (oq5 _ h32)
          refine lv_aload_n hx hb dX0_desk_90 rfl (lv_at hl 1 rfl) ?_
          refine w1_get hC in_X0 hP50 rfl 8 (by decide) rfl q58 rfl dX0_desk_91 ?_
          refine lv_iload_n hx hb dX0_desk_94 rfl (lv_at hl 2 rfl) ?_
          refine lv_dup2_11 hx hb dX0_desk_95 rfl rfl ?_
          refine w1_iald hC hP53 r9 rfl (by omega) (by omega) dX0_desk_96 ?_
          refine w_top (y := .int (nI (dk μ r9))) (congrArg Value.int hdm) ?_
          refine lv_iconst (v := 1) hx hb dX0_desk_97 (by decide) ?_
          refine lv_iadd hx hb dX0_desk_98 ?_
          refine w_top (y := .int (nI (dk μ r9 + 1))) (congrArg Value.int (nI_add (dk μ r9) 1)) ?_
          refine w1_iast hC hS5 hP53 (hM.1 3 live_3).2 r9 rfl (by omega) (by omega) dX0_desk_99 (fun H6 locs6 hz6 oq6 hP6 hS6 => ?_)
          have hnl : ¬ (4 * r9 + dk μ r9) % 4 < dk μ ((4 * r9 + dk μ r9) / 4) := by rw [show (4 * r9 + dk μ r9) % 4 = dk μ r9 by omega, show (4 * r9 + dk μ r9) / 4 = r9 by omega]; omega
          have hfin := desk_add (r := r9) (q := 4 * r9 + dk μ r9) (d := dk μ r9) (h := H.size) (f := f) (a := a) (s := bI z) hM hI1 (by omega) rfl (by omega) rfl (hNV _ (by omega) hnl) (Nat.le_refl _) (fun q hq h0 h1 => ((oq6 q h1).trans (oq5 q h0)).trans (ho04 q hq)) (hP5.kept (oq6 _ (Ne.symm h32))) hP6 ((hP4.kept (oq5 _ (by show H.size ≠ _; omega))).kept (oq6 _ (by show H.size ≠ _; omega))) (hAh _ (Nat.le_refl _))
          refine lv_aload_n hx hb dX0_desk_100 rfl (lv_at hl 1 rfl) ?_
          refine w1_get hC in_X0 (hP50.kept (oq6 _ h03)) rfl 8 (by decide) rfl q58 rfl dX0_desk_101 ?_
          refine lv_iload_n hx hb dX0_desk_104 rfl (lv_at hl 2 rfl) ?_
          refine w1_iald hC hP6 r9 rfl (by omega) (by omega) dX0_desk_105 ?_
          refine w_top (y := .int (nI (dk μ r9 + 1))) (by rw [if_pos rfl]) ?_
          refine lv_iconst (v := 1) hx hb dX0_desk_106 (by decide) ?_
          refine lv_isub hx hb dX0_desk_107 ?_
          refine w_top (y := .int (nI (dk μ r9))) (congrArg Value.int ((pk_sub (a := dk μ r9 + 1) (b := 1) (by omega)).trans (by rw [Nat.add_sub_cancel]))) ?_
          have hok := p_desk_ok (μ := μ) (r := r9) (f := f) (a := a) (s := z) (by omega) hall (by rw [(hW.2.2.1 r9 (by omega)).1]; exact fun q => c_45 ((nI_eq (b := 4) (by omega) (by omega)).mp q))
          exact n_iret hC hr hlk hS6 ⟨congrArg (fun z9 : MS × Int32 => some (Value.int z9.2)) hok.symm, mkD β (4 * r9 + dk μ r9) H.size, (by unfold mkD; rw [if_neg (by omega)]), (by rw [hok]; exact hfin)⟩ (Nat.le_of_ble_eq_true rfl) (Nat.le_of_ble_eq_true rfl) dX0_desk_108
        · refine lv_aload_n hx hb dX0_desk_48 rfl (lv_at hl 0 rfl) ?_
          refine lv_bipush (v := (-3)) hx hb dX0_desk_49 (by decide) ?_
          refine w_YV (As := [.int (-3)]) hC hX hZ hM hS hml hl.1 (sy_mainR hC.2.2.2.2 hM) (k_X0_no l hst D tc x mo β (setS μ 1 0) (-3)) q92 q94 qs0 q23 q95 rfl ⟨by decide, by decide, rfl⟩ (Nat.le_of_ble_eq_true rfl) (Nat.le_of_ble_eq_true rfl) ⟨(Nat.le_of_ble_eq_true rfl), (Nat.le_of_ble_eq_true rfl)⟩ rfl (Nat.le_of_ble_eq_true rfl) dX0_desk_51 (fun H locs hM hS => ?_)
          exact n_iret hC hr hlk hS ⟨congrArg (fun z9 : MS × Int32 => some (Value.int z9.2)) (show _ = p_desk μ (nI r9) f a z from (p_desk_full (μ := μ) (r := r9) (by omega) hall (by rw [(hW.2.2.1 r9 (by omega)).1, c_45]; rfl)).symm), β, rfl, (show Sys D tc x mo β (p_desk μ (nI r9) f a z).1 H by rw [p_desk_full (μ := μ) (r := r9) (by omega) hall (by rw [(hW.2.2.1 r9 (by omega)).1, c_45]; rfl)]; exact hM)⟩ (Nat.le_of_ble_eq_true rfl) (Nat.le_of_ble_eq_true rfl) dX0_desk_54
      · refine lv_aload_n hx hb dX0_desk_31 rfl (lv_at hl 0 rfl) ?_
        refine lv_bipush (v := (-2)) hx hb dX0_desk_32 (by decide) ?_
        refine w_YV (As := [.int (-2)]) hC hX hZ hM hS hml hl.1 (sy_mainR hC.2.2.2.2 hM) (k_X0_no l hst D tc x mo β (setS μ 1 0) (-2)) q92 q94 qs0 q23 q95 rfl ⟨by decide, by decide, rfl⟩ (Nat.le_of_ble_eq_true rfl) (Nat.le_of_ble_eq_true rfl) ⟨(Nat.le_of_ble_eq_true rfl), (Nat.le_of_ble_eq_true rfl)⟩ rfl (Nat.le_of_ble_eq_true rfl) dX0_desk_34 (fun H locs hM hS => ?_)
        exact n_iret hC hr hlk hS ⟨congrArg (fun z9 : MS × Int32 => some (Value.int z9.2)) (show _ = p_desk μ r f a z from (p_desk_bad (μ := μ) (by first | (rw [show isIn r 0 7 = false from c_9]; rfl) | (rw [show isIn f 0 13 = false from c_19]; simp) | (rw [show isIn a 0 4 = false from c_28]; simp))).symm), β, rfl, (show Sys D tc x mo β (p_desk μ r f a z).1 H by rw [p_desk_bad (μ := μ) (by first | (rw [show isIn r 0 7 = false from c_9]; rfl) | (rw [show isIn f 0 13 = false from c_19]; simp) | (rw [show isIn a 0 4 = false from c_28]; simp))]; exact hM)⟩ (Nat.le_of_ble_eq_true rfl) (Nat.le_of_ble_eq_true rfl) dX0_desk_37

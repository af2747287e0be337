/-! SYSTEM 10: a thing through a room -/
set_option maxRecDepth 100000
set_option maxHeartbeats 4000000
def goT (sub : MS → Nat → MS) (r n k : Nat) (ν : MS) (o : Option Nat) : MS × Option Nat := match o with
  | some y => thrL sub r n ν y k
  | none => (ν, none)
section S10
variable {p : Program} {l : Launch} {e : Env} {R : Room} {s : State} {m : MethodId} {args : Array Value} {below : List Frame} {meth : Method} {c : Code} {H : Heap} {locs : List Loc} {cells slots : Nat} {Q : State → Prop}
variable {cc : ByteArray} {pc : Nat} {ls : Array Slot} {rest : List Value}
theorem q_aload_n (hx : p.tables.exec = Jvm.exec) (hb : c.code = cc) {k : Fin 4} {i : Nat} {o : Option Nat} (hdg : decode cc pc = .ok (.aload_n k, 1)) (hi : (k : Nat) = i) (h : ls[i]? = some (.val (va_rf o)))
    (kk : W p l e R s m args below meth c H locs cells slots Q (F0 m (pc + 1) ls (va_rf o :: rest))) : W p l e R s m args below meth c H locs cells slots Q (F0 m pc ls rest) := by
  cases o with
  | none => exact lv_aload_nN hx hb hdg hi h kk
  | some a => exact lv_aload_n hx hb hdg hi h kk
end S10
theorem goT_end {sub : MS → Nat → MS} {r k : Nat} {ν : MS} {o : Option Nat} : goT sub r 0 k ν o = (ν, o) := by cases o <;> rfl
theorem goT_go {sub : MS → Nat → MS} {r n k q y : Nat} {ν : MS} (hq : q = 4 * r + k) (h : goesN (kd ν y) (fm ν q) = true) : goT sub r (n + 1) k ν (some y) = goT sub r n (k + 1) (wrkR sub (p_wk ν q) q y r).1 (wrkR sub (p_wk ν q) q y r).2 := by
  subst hq
  refine (thrL_go h).trans ?_
  generalize wrkR sub (p_wk ν (4 * r + k)) (4 * r + k) y r = w
  obtain ⟨κ, o⟩ := w
  cases o <;> rfl
theorem goT_ask {sub : MS → Nat → MS} {r n k q y : Nat} {ν : MS} (hq : q = 4 * r + k) (h : goesN (kd ν y) (fm ν q) = false) (h2 : ¬ (sA ν 6 q = 0 ∧ sA ν 12 q = 0)) : goT sub r (n + 1) k ν (some y) = goT sub r n (k + 1) ν (some y) := by
  subst hq
  exact thrL_ask h h2
theorem goT_give {sub : MS → Nat → MS} {r n k q y : Nat} {ν : MS} (hq : q = 4 * r + k) (h : goesN (kd ν y) (fm ν q) = false) (h2 : sA ν 6 q = 0 ∧ sA ν 12 q = 0) : goT sub r (n + 1) k ν (some y) = goT sub r n (k + 1) (p_give ν q y) none := by
  subst hq
  exact thrL_give h h2
theorem goT_cnt {g c B : Nat} {sub : MS → Nat → MS} {r : Nat} (hr : r < 8) (hf : r < 7 → SubP g c B sub) (hB : B < 2 ^ 60) (hg : g < 1073741824) {n k b : Nat} {μ : MS} {o : Option Nat} (hk : k + n = dk μ r) (hb : b + n * (12 + 3 * c) ≤ B) (h : PX g b μ) (ho : ∀ y, o = some y → y < nn μ) : cnt μ ≤ cnt (goT sub r n k μ o).1 := by
  cases o with
  | none => exact Nat.le_refl _
  | some y => exact (thrL_PX hr hf hB hg n k b μ y hk hb h (ho y rfl)).2.2.1
theorem k_X0_takes_go (l : Launch) (hst : l.stackTraces = false) (D : va_G) (tc : Nat → ClassId) (x mo : Nat) (β : Nat → Nat) (μ : MS) (hW : WF μ) (q : Nat) (hq : q < 32) (hlv : q % 4 < dk μ (q / 4)) (t : Nat) (ht : t < nn μ) (hg : goesN (kd μ t) (fm μ q) = true) : YW l yX0_takes cX0_takes 4 (some .boolean) [(23, 40, 41, 93)] 9 10321 0 0 D tc x mo β [.ref (β 0), .ref (β (124 + q)), .ref (β (64 + t))] μ μ (some (.int (bI true))) := by
  by_cases hask : sA μ 6 q = 0 ∧ sA μ 12 q = 0
  · exact k_X0_takes_ok l hst D tc x mo β μ hW q hq hlv t ht hask hg
  · have h := k_X0_takes_ask l hst D tc x mo β μ hW q hq hlv t ht hask
    rw [hg] at h
    exact h
theorem k_X0_takes_no (l : Launch) (hst : l.stackTraces = false) (D : va_G) (tc : Nat → ClassId) (x mo : Nat) (β : Nat → Nat) (μ : MS) (hW : WF μ) (q : Nat) (hq : q < 32) (hlv : q % 4 < dk μ (q / 4)) (t : Nat) (ht : t < nn μ) (hg : goesN (kd μ t) (fm μ q) = false) (hask : ¬ (sA μ 6 q = 0 ∧ sA μ 12 q = 0)) : YW l yX0_takes cX0_takes 4 (some .boolean) [(23, 40, 41, 93)] 9 10321 0 0 D tc x mo β [.ref (β 0), .ref (β (124 + q)), .ref (β (64 + t))] μ μ (some (.int (bI false))) := by
  have h := k_X0_takes_ask l hst D tc x mo β μ hW q hq hlv t ht hask
  rw [hg] at h
  exact h
theorem k_X0_through (l : Launch) (hst : l.stackTraces = false) (D : va_G) (tc : Nat → ClassId) (x mo : Nat) (β : Nat → Nat) (μ : MS) (g B : Nat) (hg : g < 1073741824) (hB : B < 2 ^ 51) (d r : Nat) (hrd : r + (d + 1) = 8) (hTH : r < 7 → TH l D tc x mo β g B d (r + 1)) (b : Nat) (t M : Nat) (hb9 : b + cst (d + 1) ≤ B) (hP : PX g b μ) (ht : t < nn μ) (hM9 : cnt (thr (d + 1) r μ t).1 ≤ cnt μ + M) : YC l yX0_through cX0_through 7 (some (.object "java/lang/Object")) (10 + 4 * (d + 1)) (10400 + 100 * (d + 1)) (3 * M) (1000 * M) D tc x mo β [.ref (β 0), .ref (β (64 + t)), .int (nI r)] μ ((thr (d + 1) r μ t).1) (some ((va_rf (oB β (thr (d + 1) r μ t).2)))) := by
  refine YC.of (by decide) rfl (Nat.le_of_ble_eq_true rfl) ?_
  intro p e s m below meth c hC hX hZ hr hlk hml hM hS ls hl
  have hx := hC.1
  have hb := hC.2.1
  have hts := hC.2.2.1
  have hown := hC.2.2.2.1
  have hl : lv_has ls 7 [(0, .ref (β 0)), (1, .ref (β (64 + t))), (2, .int (nI r))] := hl
  have hI := hP.1
  have hW := hI.1.1
  refine lv_aload_n hx hb dX0_through_0 rfl (lv_at hl 1 rfl) ?_
  refine lv_astore_n (lv' := [(3, .ref (β (64 + t))), (0, .ref (β 0)), (1, .ref (β (64 + t))), (2, .int (nI r))]) hx hb dX0_through_1 rfl hl (by decide) rfl (fun ls hl => ?_)
  refine lv_iconst (v := 0) hx hb dX0_through_2 (by decide) ?_
  refine lv_istore (lv' := [(4, .int 0), (3, .ref (β (64 + t))), (0, .ref (β 0)), (1, .ref (β (64 + t))), (2, .int (nI r))]) hx hb dX0_through_3 hl (by decide) rfl (fun ls hl => ?_)
  have hd4 := (hW.2.2.1 r (by omega)).2
  have hsub : r < 7 → SubP g (cst d) B (fun ν9 y9 => (thr d (r + 1) ν9 y9).1) := fun _ => SubP_thr (g := g) (B := B) (d := d) (r := r + 1) (by omega) hg (by omega)
  have hm4 : dk μ r * (12 + 3 * cst d) ≤ 4 * (12 + 3 * cst d) := Nat.mul_le_mul_right _ hd4
  have hb4 : b + 4 * (12 + 3 * cst d) ≤ B := hb9
  refine w_loopC (σ := Nat × MS × Option Nat) (fun y9 H locs ls cells slots => y9.1 ≤ dk μ r ∧ goT (fun ν9 y9 => (thr d (r + 1) ν9 y9).1) r (dk μ r - y9.1) y9.1 y9.2.1 y9.2.2 = thr (d + 1) r μ t ∧ (∀ y, y9.2.2 = some y → y < nn μ) ∧ SR μ y9.2.1 ∧ PX g (b + y9.1 * (12 + 3 * cst d)) y9.2.1 ∧ (cnt μ ≤ cnt y9.2.1 ∧ cells ≤ 3 * (cnt y9.2.1 - cnt μ) ∧ slots ≤ 1000 * (cnt y9.2.1 - cnt μ)) ∧ Sys D tc x mo β y9.2.1 H ∧ va_S (sy_A x mo) s.heap H locs ∧ lv_has ls 7 [(4, .int (nI y9.1)), (3, va_rf (oB β y9.2.2)), (0, .ref (β 0)), (1, .ref (β (64 + t))), (2, .int (nI r))]) (fun y9 => dk μ r - y9.1) ?_ (0, μ, some t) ⟨Nat.zero_le _, rfl, (fun y e => by cases e; exact ht), SR.rf, (by rw [Nat.zero_mul]; exact hP), ⟨Nat.le_refl _, by omega, by omega⟩, hM, hS, lv_sub hl [0, 1, 2, 3, 4] rfl⟩
  intro y9 H locs ls cells slots hI9 ih
  obtain ⟨k, ν, o⟩ := y9
  obtain ⟨hi, hp, ho, hsr, hPν, ⟨hc1, hc2, hc3⟩, hM, hS, hl⟩ := hI9
  dsimp only at hi hp ho hsr hPν hc1 hc2 hc3 hM hl ih
  have hic : b + k * (12 + 3 * cst d) + (dk μ r - k) * (12 + 3 * cst d) = b + dk μ r * (12 + 3 * cst d) := by rw [Nat.add_assoc, ← Nat.add_mul, show k + (dk μ r - k) = dk μ r by omega]
  have hn60 := hPν.1.1.1.1.2
  have hfinc : cnt ν ≤ cnt (thr (d + 1) r μ t).1 := by rw [← hp]; exact goT_cnt (b := b + k * (12 + 3 * cst d)) (by omega) hsub (by omega) hg (by rw [SR_dk hsr]; omega) (by omega) hPν (fun y e => by rw [SR_nn hsr]; exact ho y e)
  refine lv_iload hx hb dX0_through_5 (lv_at hl 0 rfl) ?_
  refine lv_aload_n hx hb dX0_through_7 rfl (lv_at hl 2 rfl) ?_
  refine sy_mget (v := .ref (β 3)) hC hM 8 (by decide) rfl rfl q58 rfl dX0_through_8 ?_
  refine lv_iload_n hx hb dX0_through_11 rfl (lv_at hl 4 rfl) ?_
  refine sy_miald (v := (nI (dk μ r))) hC hM r rfl (by omega) (by rw [(hPν.1.1.1.2.2.1 r (by omega)).1, SR_dk hsr]) dX0_through_12 ?_
  refine n_icmp_ge (a := k) (b := (dk μ r)) (tgt := 101) hx hb dX0_through_13 (by decide) (by omega) (by omega) (fun c_13 => ?_) (fun c_13 => ?_)
  · refine q_aload_n hx hb dX0_through_101 rfl (lv_at hl 1 rfl) ?_
    exact sy_aret hC hr hlk hM hS (congrArg Prod.fst (show (ν, o) = thr (d + 1) r μ t by have h9 := hp; rw [show dk μ r - k = 0 by omega] at h9; exact goT_end.symm.trans h9)) (congrArg (fun z9 : MS × Option Nat => va_rf (oB β z9.2)) (show (ν, o) = thr (d + 1) r μ t by have h9 := hp; rw [show dk μ r - k = 0 by omega] at h9; exact goT_end.symm.trans h9)) (by omega) (by omega) dX0_through_102
  · cases o with
    | none =>
      have hl : lv_has ls 7 [(4, .int (nI k)), (3, .null), (0, .ref (β 0)), (1, .ref (β (64 + t))), (2, .int (nI r))] := hl
      refine lv_aload_nN hx hb dX0_through_16 rfl (lv_at hl 1 rfl) ?_
      refine lv_ifnullN (tgt := 101) hx hb dX0_through_17 (by decide) ?_
      refine lv_aload_nN hx hb dX0_through_101 rfl (lv_at hl 1 rfl) ?_
      exact sy_aret hC hr hlk hM hS (congrArg Prod.fst (show (ν, none) = thr (d + 1) r μ t from hp)) (congrArg (fun z9 : MS × Option Nat => va_rf (oB β z9.2)) (show (ν, none) = thr (d + 1) r μ t from hp)) (by omega) (by omega) dX0_through_102
    | some y =>
      have hl : lv_has ls 7 [(4, .int (nI k)), (3, .ref (β (64 + y))), (0, .ref (β 0)), (1, .ref (β (64 + t))), (2, .int (nI r))] := hl
      have hy : y < nn ν := by rw [SR_nn hsr]; exact ho y rfl
      obtain ⟨q, hqe⟩ : ∃ q : Nat, q = 4 * r + k := ⟨_, rfl⟩
      have hq : q < 32 := by omega
      have hlv : q % 4 < dk ν (q / 4) := by rw [show q % 4 = k by omega, show q / 4 = r by omega, SR_dk hsr]; omega
      have hbe : b + k * (12 + 3 * cst d) + (12 + 3 * cst d) ≤ b + (k + 1) * (12 + 3 * cst d) := by rw [Nat.add_mul k 1, Nat.one_mul]; omega
      have hbi : (k + 1) * (12 + 3 * cst d) ≤ 4 * (12 + 3 * cst d) := Nat.mul_le_mul_right _ (by omega)
      obtain ⟨n9, hn9⟩ : ∃ n9 : Nat, dk μ r - k = n9 + 1 := ⟨dk μ r - k - 1, by omega⟩
      have hn9b : n9 = dk μ r - (k + 1) := by omega
      rw [hn9] at hp
      refine lv_aload_n hx hb dX0_through_16 rfl (lv_at hl 1 rfl) ?_
      refine lv_ifnull hx hb dX0_through_17 ?_
      refine lv_aload_n hx hb dX0_through_20 rfl (lv_at hl 2 rfl) ?_
      refine sy_mget (v := .ref (β 2)) hC hM 7 (by decide) rfl rfl q57 rfl dX0_through_21 ?_
      refine lv_iconst (v := 4) hx hb dX0_through_24 (by decide) ?_
      refine lv_iload_n hx hb dX0_through_25 rfl (lv_at hl 4 rfl) ?_
      refine lv_imul hx hb dX0_through_26 ?_
      refine w_top (congrArg Value.int (pk_mul 4 r)) ?_
      refine lv_iload hx hb dX0_through_27 (lv_at hl 0 rfl) ?_
      refine lv_iadd hx hb dX0_through_29 ?_
      refine w_top (congrArg Value.int (nI_add (4 * r) k)) ?_
      refine w_top (y := .int (nI q)) (by rw [hqe]) ?_
      refine sy_dkald hC hM q rfl (by omega) dX0_through_30 ?_
      refine w_top (y := .ref (β (124 + q))) (by rw [show dkA β ν q = some (β (124 + q)) from if_pos hlv]; rfl) ?_
      refine lv_astore (lv' := [(5, .ref (β (124 + q))), (4, .int (nI k)), (3, .ref (β (64 + y))), (0, .ref (β 0)), (1, .ref (β (64 + t))), (2, .int (nI r))]) hx hb dX0_through_31 hl (by decide) rfl (fun ls hl => ?_)
      refine lv_aload hx hb dX0_through_33 (lv_at hl 0 rfl) ?_
      refine sy_dget (v := .int (sA ν 10 q)) hC hM hq hlv 6 (by decide) rfl q347 rfl dX0_through_35 ?_
      refine lv_istore (lv' := [(6, .int (sA ν 10 q)), (5, .ref (β (124 + q))), (4, .int (nI k)), (3, .ref (β (64 + y))), (0, .ref (β 0)), (1, .ref (β (64 + t))), (2, .int (nI r))]) hx hb dX0_through_38 hl (by decide) rfl (fun ls hl => ?_)
      refine lv_aload_n hx hb dX0_through_40 rfl (lv_at hl 4 rfl) ?_
      refine lv_aload hx hb dX0_through_41 (lv_at hl 1 rfl) ?_
      refine lv_aload_n hx hb dX0_through_43 rfl (lv_at hl 3 rfl) ?_
      cases hgo : goesN (kd ν y) (fm ν q) with
      | true =>
        have hp2 := (goT_go hqe hgo).symm.trans hp
        rw [hn9b] at hp2
        have hnp : nn (p_wk ν q) = nn μ := SR_nn (hsr.tr (wk_SR ν q))
        obtain ⟨a1, a2, a3, a4⟩ := wrk_PX (r := r) (q := q) (b := b + k * (12 + 3 * cst d)) hsub (by omega) (by omega) (wk_PX hPν q) hq hlv (show y < nn (p_wk ν q) from hy)
        have hcw : cnt (p_wk ν q) = cnt ν := cnt_eq (by funext i; rfl)
        have hfin2 : cnt (wrkR (fun ν9 y9 => (thr d (r + 1) ν9 y9).1) (p_wk ν q) q y r).1 ≤ cnt (thr (d + 1) r μ t).1 := by rw [← hp2]; exact goT_cnt (b := b + (k + 1) * (12 + 3 * cst d)) (by omega) hsub (by omega) hg (by rw [SR_dk (hsr.tr ((wk_SR ν q).tr a2))]; omega) (by have h9 := Nat.add_mul (k + 1) (dk μ r - (k + 1)) (12 + 3 * cst d); rw [show k + 1 + (dk μ r - (k + 1)) = dk μ r by omega] at h9; omega) (PX_mono a1 hbe) (fun z e => a4 z e |> fun h => by rw [SR_nn a2]; exact h)
        refine w_YVW (As := [.ref (β (124 + q)), .ref (β (64 + y))]) hC hX hZ hM hS hml hl.1 (sy_mainR hC.2.2.2.2 hM) (k_X0_takes_go l hst D tc x mo β ν hPν.1.1.1 q hq hlv y hy hgo) q388 q390 qs6 q23 q391 rfl ⟨by decide, by decide, rfl⟩ (by show _ ≤ 10 + 4 * (d + 1); omega) (by show _ ≤ 10400 + 100 * (d + 1); omega) ⟨by show _ ≤ 3 * M; omega, by show _ ≤ 1000 * M; omega⟩ rfl (Nat.le_of_ble_eq_true rfl) dX0_through_44 (fun H locs hM hS => ?_)
        refine b_ifeq (w := true) (tgt := 83) hx hb dX0_through_47 (by decide) (fun h => absurd (h.symm.trans rfl) (by decide)) (fun _ => ?_)
        refine lv_aload_n hx hb dX0_through_50 rfl (lv_at hl 4 rfl) ?_
        refine lv_dup hx hb dX0_through_51 rfl ?_
        refine sy_mget (v := .int (sS ν 8)) hC hM 9 (by decide) rfl rfl q59 rfl dX0_through_52 ?_
        refine lv_iconst (v := 1) hx hb dX0_through_55 (by decide) ?_
        refine lv_iadd hx hb dX0_through_56 ?_
        refine sy_mput hC hM hS 8 9 (by decide) (by decide) (w := ((sS ν 8) + 1)) rfl rfl q59 rfl rfl rfl rfl dX0_through_57 (fun H locs hM hS => ?_)
        refine lv_aload hx hb dX0_through_60 (lv_at hl 1 rfl) ?_
        refine lv_dup hx hb dX0_through_62 rfl ?_
        refine sy_dget (v := .int (sA (setS ν 8 ((sS ν 8) + 1)) 9 q)) hC hM hq hlv 5 (by decide) rfl q346 rfl dX0_through_63 ?_
        refine lv_iconst (v := 1) hx hb dX0_through_66 (by decide) ?_
        refine lv_iadd hx hb dX0_through_67 ?_
        refine sy_dput hC hM hS hq hlv 9 5 (by decide) (by decide) (w := ((sA (setS ν 8 ((sS ν 8) + 1)) 9 q) + 1)) (deskF_set (by simp)) q346 rfl rfl rfl rfl dX0_through_68 (fun H locs hM hS => ?_)
        have hM : Sys D tc x mo β (p_wk ν q) H := hM
        refine lv_aload_n hx hb dX0_through_71 rfl (lv_at hl 4 rfl) ?_
        refine lv_aload hx hb dX0_through_72 (lv_at hl 1 rfl) ?_
        refine lv_aload_n hx hb dX0_through_74 rfl (lv_at hl 3 rfl) ?_
        refine lv_iload_n hx hb dX0_through_75 rfl (lv_at hl 6 rfl) ?_
        refine w_YV (As := [.ref (β (124 + q)), .ref (β (64 + y)), .int (nI r)]) hC hX hZ hM hS hml hl.1 (sy_mainR hC.2.2.2.2 hM) (k_X0_worked l hst D tc x mo β (p_wk ν q) g B hg hB d r hrd hTH (b + k * (12 + 3 * cst d)) q y (cnt (wrkR (fun ν9 y9 => (thr d (r + 1) ν9 y9).1) (p_wk ν q) q y r).1 - cnt (p_wk ν q)) (by omega) (wk_PX hPν q) hq hlv (show y < nn (p_wk ν q) from hy) (by omega)) q395 q397 qs7 q23 q398 rfl ⟨by decide, by decide, rfl⟩ (by show _ ≤ 10 + 4 * (d + 1); omega) (by show _ ≤ 10400 + 100 * (d + 1); omega) ⟨by show _ ≤ 3 * M; omega, by show _ ≤ 1000 * M; omega⟩ rfl (Nat.le_of_ble_eq_true rfl) dX0_through_76 (fun H locs hM hS => ?_)
        refine q_astore_n (lv' := [(3, va_rf (oB β (wrkR (fun ν9 y9 => (thr d (r + 1) ν9 y9).1) (p_wk ν q) q y r).2)), (6, .int (sA ν 10 q)), (5, .ref (β (124 + q))), (4, .int (nI k)), (0, .ref (β 0)), (1, .ref (β (64 + t))), (2, .int (nI r))]) hx hb dX0_through_79 rfl hl (by decide) rfl (fun ls hl => ?_)
        refine lv_goto (tgt := 95) hx hb dX0_through_80 (by decide) ?_
        refine lv_iinc (v := (nI (k + 1))) (lv' := [(4, .int (nI (k + 1))), (3, va_rf (oB β (wrkR (fun ν9 y9 => (thr d (r + 1) ν9 y9).1) (p_wk ν q) q y r).2)), (6, .int (sA ν 10 q)), (5, .ref (β (124 + q))), (0, .ref (β 0)), (1, .ref (β (64 + t))), (2, .int (nI r))]) hx hb dX0_through_95 hl (k := 3) rfl (nI_1 k) (by decide) (by generalize oB β (wrkR (fun ν9 y9 => (thr d (r + 1) ν9 y9).1) (p_wk ν q) q y r).2 = o9; cases o9 <;> rfl) (fun ls hl => ?_)
        refine lv_goto (tgt := 5) hx hb dX0_through_98 (by decide) ?_
        exact ih (k + 1, (wrkR (fun ν9 y9 => (thr d (r + 1) ν9 y9).1) (p_wk ν q) q y r).1, (wrkR (fun ν9 y9 => (thr d (r + 1) ν9 y9).1) (p_wk ν q) q y r).2) H locs ls _ _ ⟨by show k + 1 ≤ _; omega, hp2, (fun z e => by rw [← hnp]; exact a4 z e), (hsr.tr ((wk_SR ν q).tr a2)), (PX_mono a1 hbe), ⟨by show cnt μ ≤ cnt ((wrkR (fun ν9 y9 => (thr d (r + 1) ν9 y9).1) (p_wk ν q) q y r).1); omega, by show _ ≤ 3 * (cnt ((wrkR (fun ν9 y9 => (thr d (r + 1) ν9 y9).1) (p_wk ν q) q y r).1) - cnt μ); omega, by show _ ≤ 1000 * (cnt ((wrkR (fun ν9 y9 => (thr d (r + 1) ν9 y9).1) (p_wk ν q) q y r).1) - cnt μ); omega⟩, hM, hS, lv_sub hl [0, 1, 4, 5, 6] rfl⟩ (by show dk μ r - (k + 1) < dk μ r - k; omega)
      | false =>
        by_cases hask : sA ν 6 q = 0 ∧ sA ν 12 q = 0
        · have hp2 := (goT_give hqe hgo hask).symm.trans hp
          rw [hn9b] at hp2
          have a1 := give_PX hPν hq hlv hy hask.2 hg
          have hcg : cnt (p_give ν q y) = cnt ν + 1 := cnt_give hq hask.2
          have hfin2 : cnt (p_give ν q y) ≤ cnt (thr (d + 1) r μ t).1 := by rw [← hp2]; exact Nat.le_refl _
          refine w_YVW (As := [.ref (β (124 + q)), .ref (β (64 + y))]) hC hX hZ hM hS hml hl.1 (sy_mainR hC.2.2.2.2 hM) (k_X0_takes_give l hst D tc x mo β ν hPν.1.1.1 q hq hlv y hy hask hgo) q388 q390 qs6 q23 q391 rfl ⟨by decide, by decide, rfl⟩ (by show _ ≤ 10 + 4 * (d + 1); omega) (by show _ ≤ 10400 + 100 * (d + 1); omega) ⟨by show _ ≤ 3 * M; omega, by show _ ≤ 1000 * M; omega⟩ rfl (Nat.le_of_ble_eq_true rfl) dX0_through_44 (fun H locs hM hS => ?_)
          refine b_ifeq (w := false) (tgt := 83) hx hb dX0_through_47 (by decide) (fun _ => ?_) (fun h => absurd (h.symm.trans rfl) (by decide))
          refine lv_aload hx hb dX0_through_83 (lv_at hl 1 rfl) ?_
          refine sy_dget (v := .int (sA (p_give ν q y) 10 q)) hC hM hq hlv 6 (by decide) rfl q347 rfl dX0_through_85 ?_
          refine lv_iload hx hb dX0_through_88 (lv_at hl 0 rfl) ?_
          refine lv_icmp_le (tgt := 95) hx hb dX0_through_90 (by decide) (fun h => absurd h (by rw [give_10, if_pos rfl]; exact i32_gt (hPν.2.2.1 q hq).1 (by have := (hPν.2.2.1 q hq).2; rw [if_pos hask.2] at this; omega))) (fun _ => ?_)
          refine lv_null hx hb dX0_through_93 ?_
          refine lv_astore_nN (lv' := [(3, .null), (6, .int (sA ν 10 q)), (5, .ref (β (124 + q))), (4, .int (nI k)), (0, .ref (β 0)), (1, .ref (β (64 + t))), (2, .int (nI r))]) hx hb dX0_through_94 rfl hl (by decide) rfl (fun ls hl => ?_)
          refine lv_iinc (v := (nI (k + 1))) (lv' := [(4, .int (nI (k + 1))), (3, .null), (6, .int (sA ν 10 q)), (5, .ref (β (124 + q))), (0, .ref (β 0)), (1, .ref (β (64 + t))), (2, .int (nI r))]) hx hb dX0_through_95 hl (k := 3) rfl (nI_1 k) (by decide) rfl (fun ls hl => ?_)
          refine lv_goto (tgt := 5) hx hb dX0_through_98 (by decide) ?_
          exact ih (k + 1, p_give ν q y, none) H locs ls _ _ ⟨by show k + 1 ≤ _; omega, hp2, (fun z e => by cases e), (hsr.tr (give_SR _ _ _)), (PX_mono a1 (by show _ ≤ b + (k + 1) * (12 + 3 * cst d); omega)), ⟨by show cnt μ ≤ cnt (p_give ν q y); omega, by show _ ≤ 3 * (cnt (p_give ν q y) - cnt μ); omega, by show _ ≤ 1000 * (cnt (p_give ν q y) - cnt μ); omega⟩, hM, hS, lv_sub hl [0, 1, 4, 5, 6] rfl⟩ (by show dk μ r - (k + 1) < dk μ r - k; omega)
        · have hp2 := (goT_ask hqe hgo hask).symm.trans hp
          rw [hn9b] at hp2
          refine w_YVW (As := [.ref (β (124 + q)), .ref (β (64 + y))]) hC hX hZ hM hS hml hl.1 (sy_mainR hC.2.2.2.2 hM) (k_X0_takes_no l hst D tc x mo β ν hPν.1.1.1 q hq hlv y hy hgo hask) q388 q390 qs6 q23 q391 rfl ⟨by decide, by decide, rfl⟩ (by show _ ≤ 10 + 4 * (d + 1); omega) (by show _ ≤ 10400 + 100 * (d + 1); omega) ⟨by show _ ≤ 3 * M; omega, by show _ ≤ 1000 * M; omega⟩ rfl (Nat.le_of_ble_eq_true rfl) dX0_through_44 (fun H locs hM hS => ?_)
          refine b_ifeq (w := false) (tgt := 83) hx hb dX0_through_47 (by decide) (fun _ => ?_) (fun h => absurd (h.symm.trans rfl) (by decide))
          refine lv_aload hx hb dX0_through_83 (lv_at hl 1 rfl) ?_
          refine sy_dget (v := .int (sA ν 10 q)) hC hM hq hlv 6 (by decide) rfl q347 rfl dX0_through_85 ?_
          refine lv_iload hx hb dX0_through_88 (lv_at hl 0 rfl) ?_
          refine lv_icmp_le (tgt := 95) hx hb dX0_through_90 (by decide) (fun _ => ?_) (fun h => absurd (Int32.le_refl _) h)
          refine lv_iinc (v := (nI (k + 1))) (lv' := [(4, .int (nI (k + 1))), (6, .int (sA ν 10 q)), (5, .ref (β (124 + q))), (3, .ref (β (64 + y))), (0, .ref (β 0)), (1, .ref (β (64 + t))), (2, .int (nI r))]) hx hb dX0_through_95 hl (k := 2) rfl (nI_1 k) (by decide) rfl (fun ls hl => ?_)
          refine lv_goto (tgt := 5) hx hb dX0_through_98 (by decide) ?_
          exact ih (k + 1, ν, some y) H locs ls _ _ ⟨by show k + 1 ≤ _; omega, hp2, ho, hsr, (PX_mono hPν (by show _ ≤ b + (k + 1) * (12 + 3 * cst d); omega)), ⟨by show cnt μ ≤ cnt (ν); omega, by show _ ≤ 3 * (cnt (ν) - cnt μ); omega, by show _ ≤ 1000 * (cnt (ν) - cnt μ); omega⟩, hM, hS, lv_sub hl [0, 3, 4, 5, 6] rfl⟩ (by show dk μ r - (k + 1) < dk μ r - k; omega)
theorem TH_all (l : Launch) (hst : l.stackTraces = false) (D : va_G) (tc : Nat → ClassId) (x mo : Nat) (β : Nat → Nat) (g B : Nat) (hg : g < 1073741824) (hB : B < 2 ^ 51) : ∀ (d r : Nat), r + (d + 1) = 8 → TH l D tc x mo β g B (d + 1) r
  | 0, r, h => fun b μ t M h1 h2 h3 h4 => k_X0_through l hst D tc x mo β μ g B hg hB 0 r h (fun h7 => by omega) b t M h1 h2 h3 h4
  | d + 1, r, h => fun b μ t M h1 h2 h3 h4 => k_X0_through l hst D tc x mo β μ g B hg hB (d + 1) r h (fun _ => TH_all l hst D tc x mo β g B hg hB d (r + 1) (by omega)) b t M h1 h2 h3 h4

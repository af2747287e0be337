/-! SYSTEM 4: its small methods -/
set_option maxRecDepth 100000
set_option maxHeartbeats 4000000
theorem nar_rf {C : String} (o : Option Nat) : narrow (.object C) (va_rf o) = va_rf o := by cases o <;> rfl
theorem fit_rf {C : String} (o : Option Nat) : fits (.object C) (va_rf o) = true := by cases o <;> rfl
theorem nar_z {v : Int32} (h : v = 0 ∨ v = 1) : narrow .boolean (.int v) = .int v := by rcases h with rfl | rfl <;> decide +kernel
theorem sy_thRk {D : va_G} {tc : Nat → ClassId} {x mo : Nat} {β : Nat → Nat} {μ : MS} {H : Heap} {s : State} (hG : gK D tc s) (hM : Sys D tc x mo β μ H) {j k : Nat} (hj : j < nn μ) (hn : nn μ ≤ 60) (hk : kd μ j = k) (h12 : k ≤ 12) : thR s H (β (64 + j)) (fnm k) := by
  subst hk
  exact sy_thR hG hM hj hn h12
theorem sy_mainR {D : va_G} {tc : Nat → ClassId} {x mo : Nat} {β : Nat → Nat} {μ : MS} {H : Heap} {s : State} (hG : gK D tc s) (hM : Sys D tc x mo β μ H) : thR s H (β 0) "MailRooms" := by
  obtain ⟨r, q1, cell, g1, g2, g3, -⟩ := hM.main
  cases q1
  exact ⟨cell, g1, g3, by rw [g2]; exact (hG.1 0 _ rfl).2.1⟩
theorem vx_in_no {i : Int32} {z : Nat} (h : isIn i 0 (nI z - 1) = false) (hz : z < 2147483648) : ¬ vp_in i z := by
  intro q
  have h0 : ¬ i < 0 := fun w => q (Or.inl w)
  have h1 : ¬ z ≤ i.toNatClampNeg := fun w => q (Or.inr w)
  have e0 : ¬ i.toInt < 0 := fun w => h0 (Int32.lt_iff_toInt_lt.mpr (by rw [Int32.toInt_zero]; exact w))
  have e1 : i.toNatClampNeg = i.toInt.toNat := rfl
  have e2 : i = nI i.toInt.toNat := by
    apply Int32.toInt_inj.mp
    rw [nI_toInt (by omega)]
    omega
  rw [e2, isIn_pred_of (by omega) hz] at h
  cases h
section S4
variable {p : Program} {l : Launch} {e : Env} {R : Room} {s : State} {m : MethodId} {args : Array Value} {below : List Frame} {meth : Method} {c : Code} {H : Heap} {locs : List Loc} {cells slots : Nat} {Q : State → Prop}
variable {cc : ByteArray} {pc : Nat} {ls : Array Slot} {rest : List Value} {D : va_G} {tc : Nat → ClassId} {H0 : Heap} {own : String} {x mo index : Nat} {β : Nat → Nat} {μ ν : MS}
theorem w_catch {hh : List (Nat × Nat × Nat × Nat)} {i : Nat} (hC : gC p s m args c cc own D tc) (hX : gS0 s) (htab : c.exceptionTable.toList = tableOf hh) {pre suf : List ExceptionTableEntry} {z : ExceptionTableEntry} (hs : tableOf hh = pre ++ z :: suf) (hpre : ∀ y ∈ pre, y.catchType ≠ 0 ∧ ∃ j, j < 3 ∧ j ≠ i ∧ Cond.classLink own y.catchType (exn j) ∈ lw_all) (hcov : covers z pc = true) (h0 : z.catchType ≠ 0) (hlink : Cond.classLink own z.catchType (exn i) ∈ lw_all) (hi : i < 3) {q9 : Addr} {ce : Cell} (hce : H[q9]? = some ce) (hcv : ce.vm = .none) (hcl : s.vm.findClass (exn i) = some ce.cls)
    (kk : W p l e R s m args below meth c H locs cells slots Q (F0 m z.handlerPc ls [.ref q9])) : vx_W p l e R s m args below meth c H locs cells slots Q (F0 m pc ls rest) q9 := by
  refine vx_catch hC.2.2.2.1 pre z suf (htab.trans hs) (fun y hy => ?_) hcov h0 (hC.2.2.1 _ hlink) ?_ hce hcv hcl kk
  · obtain ⟨a, j, hj, hne, hlk⟩ := hpre y hy
    refine Or.inr ⟨a, _, hC.2.2.1 _ hlk, ?_⟩
    obtain ⟨c0, t0, e1, e2, e3⟩ := hX.2.2.1 i j hi hj
    exact ⟨c0, t0, e1, e2, by rw [e3]; exact decide_eq_false (fun q => hne q.symm)⟩
  · refine va_Nw.use rfl (hX.1 (.castable (exn i) (exn i)) ?_ rfl)
    rcases (by omega : i = 0 ∨ i = 1 ∨ i = 2) with rfl | rfl | rfl
    · exact q203
    · exact q241
    · exact q279

theorem sy_sget_5 (hC : gC p s m args c cc own D tc) (hM : Sys D tc x mo β μ H) {j : Nat} (hj : j < nn μ) (hn : nn μ ≤ 60) (hk : kd μ j = 5) (hlink : Cond.fieldLink own index RX3 (TX3 0).2.1 (TX3 0).2.2.1 ∈ lw_all) (hdg : decode cc pc = .ok (.getfield index, 3))
    (kk : W p l e R s m args below meth c H locs cells slots Q (F0 m (pc + 3) ls (.int (sA μ 2 j) :: rest))) : W p l e R s m args below meth c H locs cells slots Q (F0 m pc ls (.ref (β (64 + j)) :: rest)) := by
  have h := hM.thing hj hn
  rw [th_one hk (by decide) rfl rfl] at h
  exact w1_get hC in_X3 h rfl 0 (by omega) rfl hlink rfl hdg kk
theorem sy_sput_5 (hC : gC p s m args c cc own D tc) (hM : Sys D tc x mo β μ H) (hS : va_S (sy_A x mo) H0 H locs) {j : Nat} (hj : j < nn μ) (hn : nn μ ≤ 60) (hk : kd μ j = 5) {w : Int32} (hlink : Cond.fieldLink own index RX3 (TX3 0).2.1 (TX3 0).2.2.1 ∈ lw_all) (hdg : decode cc pc = .ok (.putfield index, 3))
    (kk : ∀ (H1 : Heap) (locs1 : List Loc), Sys D tc x mo β (setA μ 2 j w) H1 → va_S (sy_A x mo) H0 H1 locs1 → W p l e R s m args below meth c H1 locs1 cells slots Q (F0 m (pc + 3) ls rest)) : W p l e R s m args below meth c H locs cells slots Q (F0 m pc ls (.int w :: .ref (β (64 + j)) :: rest)) := by
  have h := hM.thing hj hn
  rw [th_one hk (by decide) rfl rfl] at h
  refine w1_put hC hS in_X3 tyX3 tyX3_ok (fun a ha b hb hab => absurd (show a = b by omega) hab) h (hM.1 _ (live_th hj hn)).2 rfl 0 (by omega) hlink rfl rfl rfl rfl (Nat.zero_lt_succ _) hdg (fun H1 locs1 _ oq hP hS1 => kk H1 locs1 (hM.pM hj hn oq ?_) hS1)
  rw [th_one (show kd (setA μ 2 j w) j = 5 from hk) (by decide) rfl rfl, sA_setA, if_pos ⟨rfl, rfl⟩]
  exact hP
theorem sy_sget_6 (hC : gC p s m args c cc own D tc) (hM : Sys D tc x mo β μ H) {j : Nat} (hj : j < nn μ) (hn : nn μ ≤ 60) (hk : kd μ j = 6) (hlink : Cond.fieldLink own index RX3 (TX4 0).2.1 (TX4 0).2.2.1 ∈ lw_all) (hdg : decode cc pc = .ok (.getfield index, 3))
    (kk : W p l e R s m args below meth c H locs cells slots Q (F0 m (pc + 3) ls (.int (sA μ 2 j) :: rest))) : W p l e R s m args below meth c H locs cells slots Q (F0 m pc ls (.ref (β (64 + j)) :: rest)) := by
  have h := hM.thing hj hn
  rw [th_one hk (by decide) rfl rfl] at h
  exact w1_get hC in_X4 h rfl 0 (by omega) rfl hlink rfl hdg kk
theorem sy_sput_6 (hC : gC p s m args c cc own D tc) (hM : Sys D tc x mo β μ H) (hS : va_S (sy_A x mo) H0 H locs) {j : Nat} (hj : j < nn μ) (hn : nn μ ≤ 60) (hk : kd μ j = 6) {w : Int32} (hlink : Cond.fieldLink own index RX3 (TX4 0).2.1 (TX4 0).2.2.1 ∈ lw_all) (hdg : decode cc pc = .ok (.putfield index, 3))
    (kk : ∀ (H1 : Heap) (locs1 : List Loc), Sys D tc x mo β (setA μ 2 j w) H1 → va_S (sy_A x mo) H0 H1 locs1 → W p l e R s m args below meth c H1 locs1 cells slots Q (F0 m (pc + 3) ls rest)) : W p l e R s m args below meth c H locs cells slots Q (F0 m pc ls (.int w :: .ref (β (64 + j)) :: rest)) := by
  have h := hM.thing hj hn
  rw [th_one hk (by decide) rfl rfl] at h
  refine w1_put hC hS in_X4 tyX4 tyX4_ok (fun a ha b hb hab => absurd (show a = b by omega) hab) h (hM.1 _ (live_th hj hn)).2 rfl 0 (by omega) hlink rfl rfl rfl rfl (Nat.zero_lt_succ _) hdg (fun H1 locs1 _ oq hP hS1 => kk H1 locs1 (hM.pM hj hn oq ?_) hS1)
  rw [th_one (show kd (setA μ 2 j w) j = 6 from hk) (by decide) rfl rfl, sA_setA, if_pos ⟨rfl, rfl⟩]
  exact hP
theorem sy_sget_7 (hC : gC p s m args c cc own D tc) (hM : Sys D tc x mo β μ H) {j : Nat} (hj : j < nn μ) (hn : nn μ ≤ 60) (hk : kd μ j = 7) (hlink : Cond.fieldLink own index RX5 (TX5 0).2.1 (TX5 0).2.2.1 ∈ lw_all) (hdg : decode cc pc = .ok (.getfield index, 3))
    (kk : W p l e R s m args below meth c H locs cells slots Q (F0 m (pc + 3) ls (.int (sA μ 2 j) :: rest))) : W p l e R s m args below meth c H locs cells slots Q (F0 m pc ls (.ref (β (64 + j)) :: rest)) := by
  have h := hM.thing hj hn
  rw [th_one hk (by decide) rfl rfl] at h
  exact w1_get hC in_X5 h rfl 0 (by omega) rfl hlink rfl hdg kk
theorem sy_sput_7 (hC : gC p s m args c cc own D tc) (hM : Sys D tc x mo β μ H) (hS : va_S (sy_A x mo) H0 H locs) {j : Nat} (hj : j < nn μ) (hn : nn μ ≤ 60) (hk : kd μ j = 7) {w : Int32} (hlink : Cond.fieldLink own index RX5 (TX5 0).2.1 (TX5 0).2.2.1 ∈ lw_all) (hdg : decode cc pc = .ok (.putfield index, 3))
    (kk : ∀ (H1 : Heap) (locs1 : List Loc), Sys D tc x mo β (setA μ 2 j w) H1 → va_S (sy_A x mo) H0 H1 locs1 → W p l e R s m args below meth c H1 locs1 cells slots Q (F0 m (pc + 3) ls rest)) : W p l e R s m args below meth c H locs cells slots Q (F0 m pc ls (.int w :: .ref (β (64 + j)) :: rest)) := by
  have h := hM.thing hj hn
  rw [th_one hk (by decide) rfl rfl] at h
  refine w1_put hC hS in_X5 tyX5 tyX5_ok (fun a ha b hb hab => absurd (show a = b by omega) hab) h (hM.1 _ (live_th hj hn)).2 rfl 0 (by omega) hlink rfl rfl rfl rfl (Nat.zero_lt_succ _) hdg (fun H1 locs1 _ oq hP hS1 => kk H1 locs1 (hM.pM hj hn oq ?_) hS1)
  rw [th_one (show kd (setA μ 2 j w) j = 7 from hk) (by decide) rfl rfl, sA_setA, if_pos ⟨rfl, rfl⟩]
  exact hP
end S4
theorem kp_c0 (v : Int32) : (v.toInt64 &&& 65535).toInt32 = (v.toUInt32 % 65536).toInt32 := by
  apply Int32.toInt_inj.mp
  obtain ⟨a1, a2⟩ := w_and v.toInt64
  have hb := v.toInt64.toBitVec.isLt
  have hb2 := v.toBitVec.isLt
  have e1 : (v.toInt64 &&& 65535).toInt = v.toInt % 65536 := by
    have h : (v.toInt64 &&& 65535).toBitVec.toNat = v.toInt64.toBitVec.toNat % 65536 := by
      show (v.toInt64.toBitVec &&& (65535 : Int64).toBitVec).toNat = _
      rw [BitVec.toNat_and, show ((65535 : Int64).toBitVec).toNat = 2 ^ 16 - 1 by decide, Nat.and_two_pow_sub_one_eq_mod]
    have h2 : (v.toInt64 &&& 65535).toInt = ((v.toInt64 &&& 65535).toBitVec.toNat : Int) := BitVec.toInt_eq_toNat_of_lt (by omega)
    have h3 : v.toInt64.toInt = Int.bmod (v.toInt64.toBitVec.toNat) (2 ^ 64) := BitVec.toInt_eq_toNat_bmod _
    rw [Int32.toInt_toInt64] at h3
    rw [h2, h]
    rw [Int.bmod_def] at h3
    split at h3 <;> omega
  have e2 : (v.toUInt32 % 65536).toInt32.toInt = v.toInt % 65536 := by
    have h : (v.toUInt32 % 65536).toBitVec.toNat = v.toBitVec.toNat % 65536 := by
      show (v.toUInt32 % 65536).toNat = _
      rw [UInt32.toNat_mod]
      rfl
    have h2 : (v.toUInt32 % 65536).toInt32.toInt = ((v.toUInt32 % 65536).toBitVec.toNat : Int) := by
      show BitVec.toInt (v.toUInt32 % 65536).toBitVec = _
      exact BitVec.toInt_eq_toNat_of_lt (by omega)
    have h3 : v.toInt = Int.bmod (v.toBitVec.toNat) (2 ^ 32) := BitVec.toInt_eq_toNat_bmod _
    rw [h2, h]
    rw [Int.bmod_def] at h3
    split at h3 <;> omega
  rw [Int64.toInt_toInt32, e1, e2]
  apply Int.bmod_eq_of_le <;> omega
theorem kp_c (v : Int32) : narrow .char (.int (v.toUInt32 % 65536).toInt32) = .int (keptN 0 v.toInt64).toInt32 := by
  have e : (keptN 0 v.toInt64).toInt32 = (v.toUInt32 % 65536).toInt32 := kp_c0 v
  rw [e]
  have h2 : ((v.toUInt32 % 65536).toInt32.toUInt32 % 65536) = v.toUInt32 % 65536 := by
    apply UInt32.toNat_inj.mp
    show ((v.toUInt32 % 65536) % 65536).toNat = _
    rw [UInt32.toNat_mod, UInt32.toNat_mod, show (65536 : UInt32).toNat = 65536 from rfl, Nat.mod_mod]
  show Value.int _ = _
  exact congrArg Value.int (congrArg UInt32.toInt32 h2)
theorem kp_s (v : Int32) : narrow .short (.int v.toInt16.toInt32) = .int (keptN 1 v.toInt64).toInt32 := by
  show Value.int _ = Value.int _
  congr 1
  simp [keptN]
theorem kp_z (v : Int32) : narrow .boolean (.int (if v = 0 then 0 else 1)) = .int (keptN 3 v.toInt64).toInt32 := by
  have e : (v.toInt64 = 0) ↔ v = 0 := by
    constructor
    · intro h
      have := congrArg Int64.toInt h
      rw [Int32.toInt_toInt64] at this
      exact Int32.toInt_inj.mp this
    · rintro rfl; rfl
  by_cases h : v = 0
  · rw [if_pos h]; unfold keptN; simp [e.mpr h]; decide
  · rw [if_neg h]; unfold keptN; simp [e, h]; decide
theorem k_X0_isItem (l : Launch) (hst : l.stackTraces = false) (D : va_G) (tc : Nat → ClassId) (x mo : Nat) (β : Nat → Nat) (μ : MS) (t : Int32) : YC l yX0_isItem cX0_isItem 2 (some .boolean) 1 22 0 0 D tc x mo β [.ref (β 0), .int t] μ μ (some (.int (bI (isItem μ t)))) := by
  refine YC.of (by decide) rfl (Nat.le_of_ble_eq_true rfl) ?_
  intro p e s m below meth c hC hX hZ hr hlk hml hM hS ls hl
  have hx := hC.1
  have hb := hC.2.1
  have hts := hC.2.2.1
  have hown := hC.2.2.2.1
  have hl : lv_has ls 2 [(0, .ref (β 0)), (1, .int t)] := hl
  refine lv_iload_n hx hb dX0_isItem_0 rfl (lv_at hl 1 rfl) ?_
  refine lv_iconst (v := 0) hx hb dX0_isItem_1 (by decide) ?_
  refine lv_aload_n hx hb dX0_isItem_2 rfl (lv_at hl 0 rfl) ?_
  refine sy_mget (v := .int (sS μ 0)) hC hM 1 (by decide) rfl rfl q51 rfl dX0_isItem_3 ?_
  refine lv_iconst (v := 1) hx hb dX0_isItem_6 (by decide) ?_
  refine lv_isub hx hb dX0_isItem_7 ?_
  refine w_SC (As := [.int t, .int 0, .int ((sS μ 0) - 1)]) hx hb hts hown hml hl.1 (k_X0_isIn l t 0 ((sS μ 0) - 1)) q89 q90 q23 q91 rfl ⟨by decide, by decide, rfl⟩ (Nat.le_of_ble_eq_true rfl) (Nat.le_of_ble_eq_true rfl) ⟨Nat.zero_le _, Nat.zero_le _⟩ rfl (Nat.le_of_ble_eq_true rfl) dX0_isItem_8 ?_
  exact sy_zret hC hr hlk hM hS rfl rfl (Nat.le_of_ble_eq_true rfl) (Nat.le_of_ble_eq_true rfl) dX0_isItem_11
theorem k_X0_no (l : Launch) (hst : l.stackTraces = false) (D : va_G) (tc : Nat → ClassId) (x mo : Nat) (β : Nat → Nat) (μ : MS) (t : Int32) : YC l yX0_no cX0_no 2 (some .int) 0 0 0 0 D tc x mo β [.ref (β 0), .int t] μ (p_no μ t) (some (.int t)) := by
  refine YC.of (by decide) rfl (Nat.le_of_ble_eq_true rfl) ?_
  intro p e s m below meth c hC hX hZ hr hlk hml hM hS ls hl
  have hx := hC.1
  have hb := hC.2.1
  have hts := hC.2.2.1
  have hown := hC.2.2.2.1
  have hl : lv_has ls 2 [(0, .ref (β 0)), (1, .int t)] := hl
  refine lv_aload_n hx hb dX0_no_0 rfl (lv_at hl 0 rfl) ?_
  refine lv_iload_n hx hb dX0_no_1 rfl (lv_at hl 1 rfl) ?_
  refine sy_mput hC hM hS 1 2 (by decide) (by decide) (w := t) rfl rfl q52 rfl rfl rfl rfl dX0_no_2 (fun H locs hM hS => ?_)
  refine lv_aload_n hx hb dX0_no_5 rfl (lv_at hl 0 rfl) ?_
  refine lv_dup hx hb dX0_no_6 rfl ?_
  refine sy_mget (v := .int (sS (setS μ 1 t) 2)) hC hM 3 (by decide) rfl rfl q53 rfl dX0_no_7 ?_
  refine lv_iload_n hx hb dX0_no_10 rfl (lv_at hl 1 rfl) ?_
  refine lv_bipush (v := (-4)) hx hb dX0_no_11 (by decide) ?_
  refine w_tern (P := t = (-4)) (x := 1) (y := 0) (pcT := 16) (pcF := 20) (pcE := 21) (fun a b => lv_icmp_ne (tgt := 20) hx hb dX0_no_13 (by decide) b a) (fun k => lv_iconst (v := 1) hx hb dX0_no_16 (by decide) (lv_goto (tgt := 21) hx hb dX0_no_17 (by decide) k)) (fun k => lv_iconst (v := 0) hx hb dX0_no_20 (by decide) k) ?_
  refine lv_iadd hx hb dX0_no_21 ?_
  refine sy_mput hC hM hS 2 3 (by decide) (by decide) (w := ((sS (setS μ 1 t) 2) + (if t = (-4) then 1 else 0))) rfl rfl q53 rfl rfl rfl rfl dX0_no_22 (fun H locs hM hS => ?_)
  refine lv_aload_n hx hb dX0_no_25 rfl (lv_at hl 0 rfl) ?_
  refine lv_dup hx hb dX0_no_26 rfl ?_
  refine sy_mget (v := .int (sS (setS (setS μ 1 t) 2 ((sS (setS μ 1 t) 2) + (if t = (-4) then 1 else 0))) 3)) hC hM 4 (by decide) rfl rfl q54 rfl dX0_no_27 ?_
  refine lv_iload_n hx hb dX0_no_30 rfl (lv_at hl 1 rfl) ?_
  refine lv_bipush (v := (-5)) hx hb dX0_no_31 (by decide) ?_
  refine w_tern (P := t = (-5)) (x := 1) (y := 0) (pcT := 36) (pcF := 40) (pcE := 41) (fun a b => lv_icmp_ne (tgt := 40) hx hb dX0_no_33 (by decide) b a) (fun k => lv_iconst (v := 1) hx hb dX0_no_36 (by decide) (lv_goto (tgt := 41) hx hb dX0_no_37 (by decide) k)) (fun k => lv_iconst (v := 0) hx hb dX0_no_40 (by decide) k) ?_
  refine lv_iadd hx hb dX0_no_41 ?_
  refine sy_mput hC hM hS 3 4 (by decide) (by decide) (w := ((sS (setS (setS μ 1 t) 2 ((sS (setS μ 1 t) 2) + (if t = (-4) then 1 else 0))) 3) + (if t = (-5) then 1 else 0))) rfl rfl q54 rfl rfl rfl rfl dX0_no_42 (fun H locs hM hS => ?_)
  refine lv_aload_n hx hb dX0_no_45 rfl (lv_at hl 0 rfl) ?_
  refine lv_dup hx hb dX0_no_46 rfl ?_
  refine sy_mget (v := .int (sS (setS (setS (setS μ 1 t) 2 ((sS (setS μ 1 t) 2) + (if t = (-4) then 1 else 0))) 3 ((sS (setS (setS μ 1 t) 2 ((sS (setS μ 1 t) 2) + (if t = (-4) then 1 else 0))) 3) + (if t = (-5) then 1 else 0))) 4)) hC hM 5 (by decide) rfl rfl q55 rfl dX0_no_47 ?_
  refine lv_iload_n hx hb dX0_no_50 rfl (lv_at hl 1 rfl) ?_
  refine lv_bipush (v := (-6)) hx hb dX0_no_51 (by decide) ?_
  refine w_tern (P := t = (-6)) (x := 1) (y := 0) (pcT := 56) (pcF := 60) (pcE := 61) (fun a b => lv_icmp_ne (tgt := 60) hx hb dX0_no_53 (by decide) b a) (fun k => lv_iconst (v := 1) hx hb dX0_no_56 (by decide) (lv_goto (tgt := 61) hx hb dX0_no_57 (by decide) k)) (fun k => lv_iconst (v := 0) hx hb dX0_no_60 (by decide) k) ?_
  refine lv_iadd hx hb dX0_no_61 ?_
  refine sy_mput hC hM hS 4 5 (by decide) (by decide) (w := ((sS (setS (setS (setS μ 1 t) 2 ((sS (setS μ 1 t) 2) + (if t = (-4) then 1 else 0))) 3 ((sS (setS (setS μ 1 t) 2 ((sS (setS μ 1 t) 2) + (if t = (-4) then 1 else 0))) 3) + (if t = (-5) then 1 else 0))) 4) + (if t = (-6) then 1 else 0))) rfl rfl q55 rfl rfl rfl rfl dX0_no_62 (fun H locs hM hS => ?_)
  refine lv_iload_n hx hb dX0_no_65 rfl (lv_at hl 1 rfl) ?_
  exact sy_iret hC hr hlk hM hS rfl rfl (Nat.le_of_ble_eq_true rfl) (Nat.le_of_ble_eq_true rfl) dX0_no_66
theorem k_X0_set_ok (l : Launch) (hst : l.stackTraces = false) (D : va_G) (tc : Nat → ClassId) (x mo : Nat) (β : Nat → Nat) (μ : MS) (j : Nat) (hj : j < nn μ) (hn : nn μ ≤ 60) (hk : numN (kd μ j) = true) (h3 : sz μ j ≤ 3) (a : Nat) (ha : a < sz μ j) (v : Int32) : YC l yX0_set cX0_set 3 none 0 0 0 0 D tc x mo β [.ref (β (64 + j)), .int (nI a), .int v] μ (setC μ (3 * j + a) (keptN (kd μ j) v.toInt64)) none := by
  refine YC.of (by decide) rfl (Nat.le_of_ble_eq_true rfl) ?_
  intro p e s m below meth c hC hX hZ hr hlk hml hM hS ls hl
  have hx := hC.1
  have hb := hC.2.1
  have hts := hC.2.2.1
  have hown := hC.2.2.2.1
  have hl : lv_has ls 3 [(0, .ref (β (64 + j))), (1, .int (nI a)), (2, .int v)] := hl
  rcases (by have := kd_num hk; omega : kd μ j = 0 ∨ kd μ j = 1 ∨ kd μ j = 2 ∨ kd μ j = 3) with hk_j | hk_j | hk_j | hk_j
  · refine lv_aload_n hx hb dX0_set_0 rfl (lv_at hl 0 rfl) ?_
    refine w_inst hC hX (k := 0) (f := 0) (by decide) (by decide) (sy_thRk hC.2.2.2.2 hM hj hn hk_j (by omega)) q100 rfl (b := true) rfl dX0_set_1 ?_
    refine b_ifeq (w := true) (tgt := 18) hx hb dX0_set_4 (by decide) (fun h => absurd (h.symm.trans rfl) (by decide)) (fun _ => ?_)
    refine lv_aload_n hx hb dX0_set_7 rfl (lv_at hl 0 rfl) ?_
    refine w_cast hC hX (k := 0) (f := 0) (by decide) (by decide) (sy_thRk hC.2.2.2.2 hM hj hn hk_j (by omega)) q100 rfl rfl dX0_set_8 ?_
    refine lv_iload_n hx hb dX0_set_11 rfl (lv_at hl 1 rfl) ?_
    refine lv_iload_n hx hb dX0_set_12 rfl (lv_at hl 2 rfl) ?_
    refine lv_i2c hx hb dX0_set_13 rfl ?_
    refine sy_cast hC hM hS hj hn hk_j h3 (w := (keptN 0 v.toInt64)) a rfl (by omega) (kp_c v) dX0_set_14 (fun H locs hM hS => ?_)
    refine lv_goto (tgt := 73) hx hb dX0_set_15 (by decide) ?_
    exact sy_vret hC hr hlk hM hS (by rw [hk_j]; first | done | rfl) (Nat.le_of_ble_eq_true rfl) (Nat.le_of_ble_eq_true rfl) dX0_set_73
  · refine lv_aload_n hx hb dX0_set_0 rfl (lv_at hl 0 rfl) ?_
    refine w_inst hC hX (k := 1) (f := 0) (by decide) (by decide) (sy_thRk hC.2.2.2.2 hM hj hn hk_j (by omega)) q100 rfl (b := false) rfl dX0_set_1 ?_
    refine b_ifeq (w := false) (tgt := 18) hx hb dX0_set_4 (by decide) (fun _ => ?_) (fun h => absurd (h.symm.trans rfl) (by decide))
    refine lv_aload_n hx hb dX0_set_18 rfl (lv_at hl 0 rfl) ?_
    refine w_inst hC hX (k := 1) (f := 1) (by decide) (by decide) (sy_thRk hC.2.2.2.2 hM hj hn hk_j (by omega)) q252 rfl (b := true) rfl dX0_set_19 ?_
    refine b_ifeq (w := true) (tgt := 36) hx hb dX0_set_22 (by decide) (fun h => absurd (h.symm.trans rfl) (by decide)) (fun _ => ?_)
    refine lv_aload_n hx hb dX0_set_25 rfl (lv_at hl 0 rfl) ?_
    refine w_cast hC hX (k := 1) (f := 1) (by decide) (by decide) (sy_thRk hC.2.2.2.2 hM hj hn hk_j (by omega)) q252 rfl rfl dX0_set_26 ?_
    refine lv_iload_n hx hb dX0_set_29 rfl (lv_at hl 1 rfl) ?_
    refine lv_iload_n hx hb dX0_set_30 rfl (lv_at hl 2 rfl) ?_
    refine lv_i2s hx hb dX0_set_31 rfl ?_
    refine sy_sast hC hM hS hj hn hk_j h3 (w := (keptN 1 v.toInt64)) a rfl (by omega) (kp_s v) dX0_set_32 (fun H locs hM hS => ?_)
    refine lv_goto (tgt := 73) hx hb dX0_set_33 (by decide) ?_
    exact sy_vret hC hr hlk hM hS (by rw [hk_j]; first | done | rfl) (Nat.le_of_ble_eq_true rfl) (Nat.le_of_ble_eq_true rfl) dX0_set_73
  · refine lv_aload_n hx hb dX0_set_0 rfl (lv_at hl 0 rfl) ?_
    refine w_inst hC hX (k := 2) (f := 0) (by decide) (by decide) (sy_thRk hC.2.2.2.2 hM hj hn hk_j (by omega)) q100 rfl (b := false) rfl dX0_set_1 ?_
    refine b_ifeq (w := false) (tgt := 18) hx hb dX0_set_4 (by decide) (fun _ => ?_) (fun h => absurd (h.symm.trans rfl) (by decide))
    refine lv_aload_n hx hb dX0_set_18 rfl (lv_at hl 0 rfl) ?_
    refine w_inst hC hX (k := 2) (f := 1) (by decide) (by decide) (sy_thRk hC.2.2.2.2 hM hj hn hk_j (by omega)) q252 rfl (b := false) rfl dX0_set_19 ?_
    refine b_ifeq (w := false) (tgt := 36) hx hb dX0_set_22 (by decide) (fun _ => ?_) (fun h => absurd (h.symm.trans rfl) (by decide))
    refine lv_aload_n hx hb dX0_set_36 rfl (lv_at hl 0 rfl) ?_
    refine w_inst hC hX (k := 2) (f := 2) (by decide) (by decide) (sy_thRk hC.2.2.2.2 hM hj hn hk_j (by omega)) q253 rfl (b := true) rfl dX0_set_37 ?_
    refine b_ifeq (w := true) (tgt := 58) hx hb dX0_set_40 (by decide) (fun h => absurd (h.symm.trans rfl) (by decide)) (fun _ => ?_)
    refine lv_aload_n hx hb dX0_set_43 rfl (lv_at hl 0 rfl) ?_
    refine w_cast hC hX (k := 2) (f := 2) (by decide) (by decide) (sy_thRk hC.2.2.2.2 hM hj hn hk_j (by omega)) q253 rfl rfl dX0_set_44 ?_
    refine lv_iload_n hx hb dX0_set_47 rfl (lv_at hl 1 rfl) ?_
    refine lv_iload_n hx hb dX0_set_48 rfl (lv_at hl 2 rfl) ?_
    refine lv_i2d hx hb dX0_set_49 ?_
    refine lv_ldc2d (v := 4620693217682128896) hx hb hown (hts _ q254) dX0_set_50 ?_
    refine lv_ddiv hx hb dX0_set_53 (de_put v).2 ?_
    refine sy_dast hC hM hS hj hn hk_j h3 (w := v.toInt64) a rfl (by omega) (de_put v).1 dX0_set_54 (fun H locs hM hS => ?_)
    refine lv_goto (tgt := 73) hx hb dX0_set_55 (by decide) ?_
    exact sy_vret hC hr hlk hM hS (by rw [hk_j]; first | done | rfl) (Nat.le_of_ble_eq_true rfl) (Nat.le_of_ble_eq_true rfl) dX0_set_73
  · refine lv_aload_n hx hb dX0_set_0 rfl (lv_at hl 0 rfl) ?_
    refine w_inst hC hX (k := 3) (f := 0) (by decide) (by decide) (sy_thRk hC.2.2.2.2 hM hj hn hk_j (by omega)) q100 rfl (b := false) rfl dX0_set_1 ?_
    refine b_ifeq (w := false) (tgt := 18) hx hb dX0_set_4 (by decide) (fun _ => ?_) (fun h => absurd (h.symm.trans rfl) (by decide))
    refine lv_aload_n hx hb dX0_set_18 rfl (lv_at hl 0 rfl) ?_
    refine w_inst hC hX (k := 3) (f := 1) (by decide) (by decide) (sy_thRk hC.2.2.2.2 hM hj hn hk_j (by omega)) q252 rfl (b := false) rfl dX0_set_19 ?_
    refine b_ifeq (w := false) (tgt := 36) hx hb dX0_set_22 (by decide) (fun _ => ?_) (fun h => absurd (h.symm.trans rfl) (by decide))
    refine lv_aload_n hx hb dX0_set_36 rfl (lv_at hl 0 rfl) ?_
    refine w_inst hC hX (k := 3) (f := 2) (by decide) (by decide) (sy_thRk hC.2.2.2.2 hM hj hn hk_j (by omega)) q253 rfl (b := false) rfl dX0_set_37 ?_
    refine b_ifeq (w := false) (tgt := 58) hx hb dX0_set_40 (by decide) (fun _ => ?_) (fun h => absurd (h.symm.trans rfl) (by decide))
    refine lv_aload_n hx hb dX0_set_58 rfl (lv_at hl 0 rfl) ?_
    refine w_cast hC hX (k := 3) (f := 3) (by decide) (by decide) (sy_thRk hC.2.2.2.2 hM hj hn hk_j (by omega)) q255 rfl rfl dX0_set_59 ?_
    refine lv_iload_n hx hb dX0_set_62 rfl (lv_at hl 1 rfl) ?_
    refine lv_iload_n hx hb dX0_set_63 rfl (lv_at hl 2 rfl) ?_
    refine w_tern (P := v = 0) (x := 0) (y := 1) (pcT := 71) (pcF := 67) (pcE := 72) (fun a b => lv_if_eq (tgt := 71) hx hb dX0_set_64 (by decide) a b) (fun k => lv_iconst (v := 0) hx hb dX0_set_71 (by decide) k) (fun k => lv_iconst (v := 1) hx hb dX0_set_67 (by decide) (lv_goto (tgt := 72) hx hb dX0_set_68 (by decide) k)) ?_
    refine sy_zast hC hM hS hj hn hk_j h3 (w := (keptN 3 v.toInt64)) a rfl (by omega) (kp_z v) dX0_set_72 (fun H locs hM hS => ?_)
    exact sy_vret hC hr hlk hM hS (by rw [hk_j]; first | done | rfl) (Nat.le_of_ble_eq_true rfl) (Nat.le_of_ble_eq_true rfl) dX0_set_73
theorem k_X0_set_cce (l : Launch) (hst : l.stackTraces = false) (D : va_G) (tc : Nat → ClassId) (x mo : Nat) (β : Nat → Nat) (μ : MS) (j : Nat) (hj : j < nn μ) (hn : nn μ ≤ 60) (hk : numN (kd μ j) = false) (h12 : kd μ j ≤ 12) (i v : Int32) : YX l yX0_set cX0_set 3 none 8 10300 D tc x mo β [.ref (β (64 + j)), .int i, .int v] μ 0 := by
  refine YX.of (by decide) rfl (Nat.le_of_ble_eq_true rfl) ?_
  intro p e s m below meth c hC hX hZ hlk hml htab hM hS ls hl
  have hx := hC.1
  have hb := hC.2.1
  have hts := hC.2.2.1
  have hown := hC.2.2.2.1
  have hl : lv_has ls 3 [(0, .ref (β (64 + j))), (1, .int i), (2, .int v)] := hl
  rcases (by simp [numN] at hk; omega : kd μ j = 4 ∨ kd μ j = 5 ∨ kd μ j = 6 ∨ kd μ j = 7 ∨ kd μ j = 8 ∨ kd μ j = 9 ∨ kd μ j = 10 ∨ kd μ j = 11 ∨ kd μ j = 12) with hk_j | hk_j | hk_j | hk_j | hk_j | hk_j | hk_j | hk_j | hk_j
  · refine lv_aload_n hx hb dX0_set_0 rfl (lv_at hl 0 rfl) ?_
    refine w_inst hC hX (k := 4) (f := 0) (by decide) (by decide) (sy_thRk hC.2.2.2.2 hM hj hn hk_j (by omega)) q100 rfl (b := false) rfl dX0_set_1 ?_
    refine b_ifeq (w := false) (tgt := 18) hx hb dX0_set_4 (by decide) (fun _ => ?_) (fun h => absurd (h.symm.trans rfl) (by decide))
    refine lv_aload_n hx hb dX0_set_18 rfl (lv_at hl 0 rfl) ?_
    refine w_inst hC hX (k := 4) (f := 1) (by decide) (by decide) (sy_thRk hC.2.2.2.2 hM hj hn hk_j (by omega)) q252 rfl (b := false) rfl dX0_set_19 ?_
    refine b_ifeq (w := false) (tgt := 36) hx hb dX0_set_22 (by decide) (fun _ => ?_) (fun h => absurd (h.symm.trans rfl) (by decide))
    refine lv_aload_n hx hb dX0_set_36 rfl (lv_at hl 0 rfl) ?_
    refine w_inst hC hX (k := 4) (f := 2) (by decide) (by decide) (sy_thRk hC.2.2.2.2 hM hj hn hk_j (by omega)) q253 rfl (b := false) rfl dX0_set_37 ?_
    refine b_ifeq (w := false) (tgt := 58) hx hb dX0_set_40 (by decide) (fun _ => ?_) (fun h => absurd (h.symm.trans rfl) (by decide))
    refine lv_aload_n hx hb dX0_set_58 rfl (lv_at hl 0 rfl) ?_
    exact w_castNo hC hX (k := 4) (f := 3) (by decide) (by decide) (sy_thRk hC.2.2.2.2 hM hj hn hk_j (by omega)) q255 rfl rfl dX0_set_59 (fun tx b1 b2 => sy_throw hC hX hst hZ hS (hl.1.trans hml.symm) hlk htab 0 (by decide) b1 b2 (Nat.le_of_ble_eq_true rfl) (Nat.le_of_ble_eq_true rfl) (Nat.le_of_ble_eq_true rfl) (Nat.le_of_ble_eq_true rfl))
  · refine lv_aload_n hx hb dX0_set_0 rfl (lv_at hl 0 rfl) ?_
    refine w_inst hC hX (k := 5) (f := 0) (by decide) (by decide) (sy_thRk hC.2.2.2.2 hM hj hn hk_j (by omega)) q100 rfl (b := false) rfl dX0_set_1 ?_
    refine b_ifeq (w := false) (tgt := 18) hx hb dX0_set_4 (by decide) (fun _ => ?_) (fun h => absurd (h.symm.trans rfl) (by decide))
    refine lv_aload_n hx hb dX0_set_18 rfl (lv_at hl 0 rfl) ?_
    refine w_inst hC hX (k := 5) (f := 1) (by decide) (by decide) (sy_thRk hC.2.2.2.2 hM hj hn hk_j (by omega)) q252 rfl (b := false) rfl dX0_set_19 ?_
    refine b_ifeq (w := false) (tgt := 36) hx hb dX0_set_22 (by decide) (fun _ => ?_) (fun h => absurd (h.symm.trans rfl) (by decide))
    refine lv_aload_n hx hb dX0_set_36 rfl (lv_at hl 0 rfl) ?_
    refine w_inst hC hX (k := 5) (f := 2) (by decide) (by decide) (sy_thRk hC.2.2.2.2 hM hj hn hk_j (by omega)) q253 rfl (b := false) rfl dX0_set_37 ?_
    refine b_ifeq (w := false) (tgt := 58) hx hb dX0_set_40 (by decide) (fun _ => ?_) (fun h => absurd (h.symm.trans rfl) (by decide))
    refine lv_aload_n hx hb dX0_set_58 rfl (lv_at hl 0 rfl) ?_
    exact w_castNo hC hX (k := 5) (f := 3) (by decide) (by decide) (sy_thRk hC.2.2.2.2 hM hj hn hk_j (by omega)) q255 rfl rfl dX0_set_59 (fun tx b1 b2 => sy_throw hC hX hst hZ hS (hl.1.trans hml.symm) hlk htab 0 (by decide) b1 b2 (Nat.le_of_ble_eq_true rfl) (Nat.le_of_ble_eq_true rfl) (Nat.le_of_ble_eq_true rfl) (Nat.le_of_ble_eq_true rfl))
  · refine lv_aload_n hx hb dX0_set_0 rfl (lv_at hl 0 rfl) ?_
    refine w_inst hC hX (k := 6) (f := 0) (by decide) (by decide) (sy_thRk hC.2.2.2.2 hM hj hn hk_j (by omega)) q100 rfl (b := false) rfl dX0_set_1 ?_
    refine b_ifeq (w := false) (tgt := 18) hx hb dX0_set_4 (by decide) (fun _ => ?_) (fun h => absurd (h.symm.trans rfl) (by decide))
    refine lv_aload_n hx hb dX0_set_18 rfl (lv_at hl 0 rfl) ?_
    refine w_inst hC hX (k := 6) (f := 1) (by decide) (by decide) (sy_thRk hC.2.2.2.2 hM hj hn hk_j (by omega)) q252 rfl (b := false) rfl dX0_set_19 ?_
    refine b_ifeq (w := false) (tgt := 36) hx hb dX0_set_22 (by decide) (fun _ => ?_) (fun h => absurd (h.symm.trans rfl) (by decide))
    refine lv_aload_n hx hb dX0_set_36 rfl (lv_at hl 0 rfl) ?_
    refine w_inst hC hX (k := 6) (f := 2) (by decide) (by decide) (sy_thRk hC.2.2.2.2 hM hj hn hk_j (by omega)) q253 rfl (b := false) rfl dX0_set_37 ?_
    refine b_ifeq (w := false) (tgt := 58) hx hb dX0_set_40 (by decide) (fun _ => ?_) (fun h => absurd (h.symm.trans rfl) (by decide))
    refine lv_aload_n hx hb dX0_set_58 rfl (lv_at hl 0 rfl) ?_
    exact w_castNo hC hX (k := 6) (f := 3) (by decide) (by decide) (sy_thRk hC.2.2.2.2 hM hj hn hk_j (by omega)) q255 rfl rfl dX0_set_59 (fun tx b1 b2 => sy_throw hC hX hst hZ hS (hl.1.trans hml.symm) hlk htab 0 (by decide) b1 b2 (Nat.le_of_ble_eq_true rfl) (Nat.le_of_ble_eq_true rfl) (Nat.le_of_ble_eq_true rfl) (Nat.le_of_ble_eq_true rfl))
  · refine lv_aload_n hx hb dX0_set_0 rfl (lv_at hl 0 rfl) ?_
    refine w_inst hC hX (k := 7) (f := 0) (by decide) (by decide) (sy_thRk hC.2.2.2.2 hM hj hn hk_j (by omega)) q100 rfl (b := false) rfl dX0_set_1 ?_
    refine b_ifeq (w := false) (tgt := 18) hx hb dX0_set_4 (by decide) (fun _ => ?_) (fun h => absurd (h.symm.trans rfl) (by decide))
    refine lv_aload_n hx hb dX0_set_18 rfl (lv_at hl 0 rfl) ?_
    refine w_inst hC hX (k := 7) (f := 1) (by decide) (by decide) (sy_thRk hC.2.2.2.2 hM hj hn hk_j (by omega)) q252 rfl (b := false) rfl dX0_set_19 ?_
    refine b_ifeq (w := false) (tgt := 36) hx hb dX0_set_22 (by decide) (fun _ => ?_) (fun h => absurd (h.symm.trans rfl) (by decide))
    refine lv_aload_n hx hb dX0_set_36 rfl (lv_at hl 0 rfl) ?_
    refine w_inst hC hX (k := 7) (f := 2) (by decide) (by decide) (sy_thRk hC.2.2.2.2 hM hj hn hk_j (by omega)) q253 rfl (b := false) rfl dX0_set_37 ?_
    refine b_ifeq (w := false) (tgt := 58) hx hb dX0_set_40 (by decide) (fun _ => ?_) (fun h => absurd (h.symm.trans rfl) (by decide))
    refine lv_aload_n hx hb dX0_set_58 rfl (lv_at hl 0 rfl) ?_
    exact w_castNo hC hX (k := 7) (f := 3) (by decide) (by decide) (sy_thRk hC.2.2.2.2 hM hj hn hk_j (by omega)) q255 rfl rfl dX0_set_59 (fun tx b1 b2 => sy_throw hC hX hst hZ hS (hl.1.trans hml.symm) hlk htab 0 (by decide) b1 b2 (Nat.le_of_ble_eq_true rfl) (Nat.le_of_ble_eq_true rfl) (Nat.le_of_ble_eq_true rfl) (Nat.le_of_ble_eq_true rfl))
  · refine lv_aload_n hx hb dX0_set_0 rfl (lv_at hl 0 rfl) ?_
    refine w_inst hC hX (k := 8) (f := 0) (by decide) (by decide) (sy_thRk hC.2.2.2.2 hM hj hn hk_j (by omega)) q100 rfl (b := false) rfl dX0_set_1 ?_
    refine b_ifeq (w := false) (tgt := 18) hx hb dX0_set_4 (by decide) (fun _ => ?_) (fun h => absurd (h.symm.trans rfl) (by decide))
    refine lv_aload_n hx hb dX0_set_18 rfl (lv_at hl 0 rfl) ?_
    refine w_inst hC hX (k := 8) (f := 1) (by decide) (by decide) (sy_thRk hC.2.2.2.2 hM hj hn hk_j (by omega)) q252 rfl (b := false) rfl dX0_set_19 ?_
    refine b_ifeq (w := false) (tgt := 36) hx hb dX0_set_22 (by decide) (fun _ => ?_) (fun h => absurd (h.symm.trans rfl) (by decide))
    refine lv_aload_n hx hb dX0_set_36 rfl (lv_at hl 0 rfl) ?_
    refine w_inst hC hX (k := 8) (f := 2) (by decide) (by decide) (sy_thRk hC.2.2.2.2 hM hj hn hk_j (by omega)) q253 rfl (b := false) rfl dX0_set_37 ?_
    refine b_ifeq (w := false) (tgt := 58) hx hb dX0_set_40 (by decide) (fun _ => ?_) (fun h => absurd (h.symm.trans rfl) (by decide))
    refine lv_aload_n hx hb dX0_set_58 rfl (lv_at hl 0 rfl) ?_
    exact w_castNo hC hX (k := 8) (f := 3) (by decide) (by decide) (sy_thRk hC.2.2.2.2 hM hj hn hk_j (by omega)) q255 rfl rfl dX0_set_59 (fun tx b1 b2 => sy_throw hC hX hst hZ hS (hl.1.trans hml.symm) hlk htab 0 (by decide) b1 b2 (Nat.le_of_ble_eq_true rfl) (Nat.le_of_ble_eq_true rfl) (Nat.le_of_ble_eq_true rfl) (Nat.le_of_ble_eq_true rfl))
  · refine lv_aload_n hx hb dX0_set_0 rfl (lv_at hl 0 rfl) ?_
    refine w_inst hC hX (k := 9) (f := 0) (by decide) (by decide) (sy_thRk hC.2.2.2.2 hM hj hn hk_j (by omega)) q100 rfl (b := false) rfl dX0_set_1 ?_
    refine b_ifeq (w := false) (tgt := 18) hx hb dX0_set_4 (by decide) (fun _ => ?_) (fun h => absurd (h.symm.trans rfl) (by decide))
    refine lv_aload_n hx hb dX0_set_18 rfl (lv_at hl 0 rfl) ?_
    refine w_inst hC hX (k := 9) (f := 1) (by decide) (by decide) (sy_thRk hC.2.2.2.2 hM hj hn hk_j (by omega)) q252 rfl (b := false) rfl dX0_set_19 ?_
    refine b_ifeq (w := false) (tgt := 36) hx hb dX0_set_22 (by decide) (fun _ => ?_) (fun h => absurd (h.symm.trans rfl) (by decide))
    refine lv_aload_n hx hb dX0_set_36 rfl (lv_at hl 0 rfl) ?_
    refine w_inst hC hX (k := 9) (f := 2) (by decide) (by decide) (sy_thRk hC.2.2.2.2 hM hj hn hk_j (by omega)) q253 rfl (b := false) rfl dX0_set_37 ?_
    refine b_ifeq (w := false) (tgt := 58) hx hb dX0_set_40 (by decide) (fun _ => ?_) (fun h => absurd (h.symm.trans rfl) (by decide))
    refine lv_aload_n hx hb dX0_set_58 rfl (lv_at hl 0 rfl) ?_
    exact w_castNo hC hX (k := 9) (f := 3) (by decide) (by decide) (sy_thRk hC.2.2.2.2 hM hj hn hk_j (by omega)) q255 rfl rfl dX0_set_59 (fun tx b1 b2 => sy_throw hC hX hst hZ hS (hl.1.trans hml.symm) hlk htab 0 (by decide) b1 b2 (Nat.le_of_ble_eq_true rfl) (Nat.le_of_ble_eq_true rfl) (Nat.le_of_ble_eq_true rfl) (Nat.le_of_ble_eq_true rfl))
  · refine lv_aload_n hx hb dX0_set_0 rfl (lv_at hl 0 rfl) ?_
    refine w_inst hC hX (k := 10) (f := 0) (by decide) (by decide) (sy_thRk hC.2.2.2.2 hM hj hn hk_j (by omega)) q100 rfl (b := false) rfl dX0_set_1 ?_
    refine b_ifeq (w := false) (tgt := 18) hx hb dX0_set_4 (by decide) (fun _ => ?_) (fun h => absurd (h.symm.trans rfl) (by decide))
    refine lv_aload_n hx hb dX0_set_18 rfl (lv_at hl 0 rfl) ?_
    refine w_inst hC hX (k := 10) (f := 1) (by decide) (by decide) (sy_thRk hC.2.2.2.2 hM hj hn hk_j (by omega)) q252 rfl (b := false) rfl dX0_set_19 ?_
    refine b_ifeq (w := false) (tgt := 36) hx hb dX0_set_22 (by decide) (fun _ => ?_) (fun h => absurd (h.symm.trans rfl) (by decide))
    refine lv_aload_n hx hb dX0_set_36 rfl (lv_at hl 0 rfl) ?_
    refine w_inst hC hX (k := 10) (f := 2) (by decide) (by decide) (sy_thRk hC.2.2.2.2 hM hj hn hk_j (by omega)) q253 rfl (b := false) rfl dX0_set_37 ?_
    refine b_ifeq (w := false) (tgt := 58) hx hb dX0_set_40 (by decide) (fun _ => ?_) (fun h => absurd (h.symm.trans rfl) (by decide))
    refine lv_aload_n hx hb dX0_set_58 rfl (lv_at hl 0 rfl) ?_
    exact w_castNo hC hX (k := 10) (f := 3) (by decide) (by decide) (sy_thRk hC.2.2.2.2 hM hj hn hk_j (by omega)) q255 rfl rfl dX0_set_59 (fun tx b1 b2 => sy_throw hC hX hst hZ hS (hl.1.trans hml.symm) hlk htab 0 (by decide) b1 b2 (Nat.le_of_ble_eq_true rfl) (Nat.le_of_ble_eq_true rfl) (Nat.le_of_ble_eq_true rfl) (Nat.le_of_ble_eq_true rfl))
  · refine lv_aload_n hx hb dX0_set_0 rfl (lv_at hl 0 rfl) ?_
    refine w_inst hC hX (k := 11) (f := 0) (by decide) (by decide) (sy_thRk hC.2.2.2.2 hM hj hn hk_j (by omega)) q100 rfl (b := false) rfl dX0_set_1 ?_
    refine b_ifeq (w := false) (tgt := 18) hx hb dX0_set_4 (by decide) (fun _ => ?_) (fun h => absurd (h.symm.trans rfl) (by decide))
    refine lv_aload_n hx hb dX0_set_18 rfl (lv_at hl 0 rfl) ?_
    refine w_inst hC hX (k := 11) (f := 1) (by decide) (by decide) (sy_thRk hC.2.2.2.2 hM hj hn hk_j (by omega)) q252 rfl (b := false) rfl dX0_set_19 ?_
    refine b_ifeq (w := false) (tgt := 36) hx hb dX0_set_22 (by decide) (fun _ => ?_) (fun h => absurd (h.symm.trans rfl) (by decide))
    refine lv_aload_n hx hb dX0_set_36 rfl (lv_at hl 0 rfl) ?_
    refine w_inst hC hX (k := 11) (f := 2) (by decide) (by decide) (sy_thRk hC.2.2.2.2 hM hj hn hk_j (by omega)) q253 rfl (b := false) rfl dX0_set_37 ?_
    refine b_ifeq (w := false) (tgt := 58) hx hb dX0_set_40 (by decide) (fun _ => ?_) (fun h => absurd (h.symm.trans rfl) (by decide))
    refine lv_aload_n hx hb dX0_set_58 rfl (lv_at hl 0 rfl) ?_
    exact w_castNo hC hX (k := 11) (f := 3) (by decide) (by decide) (sy_thRk hC.2.2.2.2 hM hj hn hk_j (by omega)) q255 rfl rfl dX0_set_59 (fun tx b1 b2 => sy_throw hC hX hst hZ hS (hl.1.trans hml.symm) hlk htab 0 (by decide) b1 b2 (Nat.le_of_ble_eq_true rfl) (Nat.le_of_ble_eq_true rfl) (Nat.le_of_ble_eq_true rfl) (Nat.le_of_ble_eq_true rfl))
  · refine lv_aload_n hx hb dX0_set_0 rfl (lv_at hl 0 rfl) ?_
    refine w_inst hC hX (k := 12) (f := 0) (by decide) (by decide) (sy_thRk hC.2.2.2.2 hM hj hn hk_j (by omega)) q100 rfl (b := false) rfl dX0_set_1 ?_
    refine b_ifeq (w := false) (tgt := 18) hx hb dX0_set_4 (by decide) (fun _ => ?_) (fun h => absurd (h.symm.trans rfl) (by decide))
    refine lv_aload_n hx hb dX0_set_18 rfl (lv_at hl 0 rfl) ?_
    refine w_inst hC hX (k := 12) (f := 1) (by decide) (by decide) (sy_thRk hC.2.2.2.2 hM hj hn hk_j (by omega)) q252 rfl (b := false) rfl dX0_set_19 ?_
    refine b_ifeq (w := false) (tgt := 36) hx hb dX0_set_22 (by decide) (fun _ => ?_) (fun h => absurd (h.symm.trans rfl) (by decide))
    refine lv_aload_n hx hb dX0_set_36 rfl (lv_at hl 0 rfl) ?_
    refine w_inst hC hX (k := 12) (f := 2) (by decide) (by decide) (sy_thRk hC.2.2.2.2 hM hj hn hk_j (by omega)) q253 rfl (b := false) rfl dX0_set_37 ?_
    refine b_ifeq (w := false) (tgt := 58) hx hb dX0_set_40 (by decide) (fun _ => ?_) (fun h => absurd (h.symm.trans rfl) (by decide))
    refine lv_aload_n hx hb dX0_set_58 rfl (lv_at hl 0 rfl) ?_
    exact w_castNo hC hX (k := 12) (f := 3) (by decide) (by decide) (sy_thRk hC.2.2.2.2 hM hj hn hk_j (by omega)) q255 rfl rfl dX0_set_59 (fun tx b1 b2 => sy_throw hC hX hst hZ hS (hl.1.trans hml.symm) hlk htab 0 (by decide) b1 b2 (Nat.le_of_ble_eq_true rfl) (Nat.le_of_ble_eq_true rfl) (Nat.le_of_ble_eq_true rfl) (Nat.le_of_ble_eq_true rfl))
theorem k_X0_set_oob (l : Launch) (hst : l.stackTraces = false) (D : va_G) (tc : Nat → ClassId) (x mo : Nat) (β : Nat → Nat) (μ : MS) (j : Nat) (hj : j < nn μ) (hn : nn μ ≤ 60) (hk : numN (kd μ j) = true) (h3 : sz μ j ≤ 3) (i v : Int32) (hout : ¬ vp_in i (sz μ j)) : YX l yX0_set cX0_set 3 none 8 10300 D tc x mo β [.ref (β (64 + j)), .int i, .int v] μ 1 := by
  refine YX.of (by decide) rfl (Nat.le_of_ble_eq_true rfl) ?_
  intro p e s m below meth c hC hX hZ hlk hml htab hM hS ls hl
  have hx := hC.1
  have hb := hC.2.1
  have hts := hC.2.2.1
  have hown := hC.2.2.2.1
  have hl : lv_has ls 3 [(0, .ref (β (64 + j))), (1, .int i), (2, .int v)] := hl
  rcases (by have := kd_num hk; omega : kd μ j = 0 ∨ kd μ j = 1 ∨ kd μ j = 2 ∨ kd μ j = 3) with hk_j | hk_j | hk_j | hk_j
  · refine lv_aload_n hx hb dX0_set_0 rfl (lv_at hl 0 rfl) ?_
    refine w_inst hC hX (k := 0) (f := 0) (by decide) (by decide) (sy_thRk hC.2.2.2.2 hM hj hn hk_j (by omega)) q100 rfl (b := true) rfl dX0_set_1 ?_
    refine b_ifeq (w := true) (tgt := 18) hx hb dX0_set_4 (by decide) (fun h => absurd (h.symm.trans rfl) (by decide)) (fun _ => ?_)
    refine lv_aload_n hx hb dX0_set_7 rfl (lv_at hl 0 rfl) ?_
    refine w_cast hC hX (k := 0) (f := 0) (by decide) (by decide) (sy_thRk hC.2.2.2.2 hM hj hn hk_j (by omega)) q100 rfl rfl dX0_set_8 ?_
    refine lv_iload_n hx hb dX0_set_11 rfl (lv_at hl 1 rfl) ?_
    refine lv_iload_n hx hb dX0_set_12 rfl (lv_at hl 2 rfl) ?_
    refine lv_i2c hx hb dX0_set_13 rfl ?_
    exact sy_castZ hC hM hj hn hk_j h3 hout dX0_set_14 (fun tx b1 b2 => sy_throw hC hX hst hZ hS (hl.1.trans hml.symm) hlk htab 1 (by decide) b1 b2 (Nat.le_of_ble_eq_true rfl) (Nat.le_of_ble_eq_true rfl) (Nat.le_of_ble_eq_true rfl) (Nat.le_of_ble_eq_true rfl))
  · refine lv_aload_n hx hb dX0_set_0 rfl (lv_at hl 0 rfl) ?_
    refine w_inst hC hX (k := 1) (f := 0) (by decide) (by decide) (sy_thRk hC.2.2.2.2 hM hj hn hk_j (by omega)) q100 rfl (b := false) rfl dX0_set_1 ?_
    refine b_ifeq (w := false) (tgt := 18) hx hb dX0_set_4 (by decide) (fun _ => ?_) (fun h => absurd (h.symm.trans rfl) (by decide))
    refine lv_aload_n hx hb dX0_set_18 rfl (lv_at hl 0 rfl) ?_
    refine w_inst hC hX (k := 1) (f := 1) (by decide) (by decide) (sy_thRk hC.2.2.2.2 hM hj hn hk_j (by omega)) q252 rfl (b := true) rfl dX0_set_19 ?_
    refine b_ifeq (w := true) (tgt := 36) hx hb dX0_set_22 (by decide) (fun h => absurd (h.symm.trans rfl) (by decide)) (fun _ => ?_)
    refine lv_aload_n hx hb dX0_set_25 rfl (lv_at hl 0 rfl) ?_
    refine w_cast hC hX (k := 1) (f := 1) (by decide) (by decide) (sy_thRk hC.2.2.2.2 hM hj hn hk_j (by omega)) q252 rfl rfl dX0_set_26 ?_
    refine lv_iload_n hx hb dX0_set_29 rfl (lv_at hl 1 rfl) ?_
    refine lv_iload_n hx hb dX0_set_30 rfl (lv_at hl 2 rfl) ?_
    refine lv_i2s hx hb dX0_set_31 rfl ?_
    exact sy_sastZ hC hM hj hn hk_j h3 hout dX0_set_32 (fun tx b1 b2 => sy_throw hC hX hst hZ hS (hl.1.trans hml.symm) hlk htab 1 (by decide) b1 b2 (Nat.le_of_ble_eq_true rfl) (Nat.le_of_ble_eq_true rfl) (Nat.le_of_ble_eq_true rfl) (Nat.le_of_ble_eq_true rfl))
  · refine lv_aload_n hx hb dX0_set_0 rfl (lv_at hl 0 rfl) ?_
    refine w_inst hC hX (k := 2) (f := 0) (by decide) (by decide) (sy_thRk hC.2.2.2.2 hM hj hn hk_j (by omega)) q100 rfl (b := false) rfl dX0_set_1 ?_
    refine b_ifeq (w := false) (tgt := 18) hx hb dX0_set_4 (by decide) (fun _ => ?_) (fun h => absurd (h.symm.trans rfl) (by decide))
    refine lv_aload_n hx hb dX0_set_18 rfl (lv_at hl 0 rfl) ?_
    refine w_inst hC hX (k := 2) (f := 1) (by decide) (by decide) (sy_thRk hC.2.2.2.2 hM hj hn hk_j (by omega)) q252 rfl (b := false) rfl dX0_set_19 ?_
    refine b_ifeq (w := false) (tgt := 36) hx hb dX0_set_22 (by decide) (fun _ => ?_) (fun h => absurd (h.symm.trans rfl) (by decide))
    refine lv_aload_n hx hb dX0_set_36 rfl (lv_at hl 0 rfl) ?_
    refine w_inst hC hX (k := 2) (f := 2) (by decide) (by decide) (sy_thRk hC.2.2.2.2 hM hj hn hk_j (by omega)) q253 rfl (b := true) rfl dX0_set_37 ?_
    refine b_ifeq (w := true) (tgt := 58) hx hb dX0_set_40 (by decide) (fun h => absurd (h.symm.trans rfl) (by decide)) (fun _ => ?_)
    refine lv_aload_n hx hb dX0_set_43 rfl (lv_at hl 0 rfl) ?_
    refine w_cast hC hX (k := 2) (f := 2) (by decide) (by decide) (sy_thRk hC.2.2.2.2 hM hj hn hk_j (by omega)) q253 rfl rfl dX0_set_44 ?_
    refine lv_iload_n hx hb dX0_set_47 rfl (lv_at hl 1 rfl) ?_
    refine lv_iload_n hx hb dX0_set_48 rfl (lv_at hl 2 rfl) ?_
    refine lv_i2d hx hb dX0_set_49 ?_
    refine lv_ldc2d (v := 4620693217682128896) hx hb hown (hts _ q254) dX0_set_50 ?_
    refine lv_ddiv hx hb dX0_set_53 (de_put v).2 ?_
    exact sy_dastZ hC hM hj hn hk_j h3 hout dX0_set_54 (fun tx b1 b2 => sy_throw hC hX hst hZ hS (hl.1.trans hml.symm) hlk htab 1 (by decide) b1 b2 (Nat.le_of_ble_eq_true rfl) (Nat.le_of_ble_eq_true rfl) (Nat.le_of_ble_eq_true rfl) (Nat.le_of_ble_eq_true rfl))
  · refine lv_aload_n hx hb dX0_set_0 rfl (lv_at hl 0 rfl) ?_
    refine w_inst hC hX (k := 3) (f := 0) (by decide) (by decide) (sy_thRk hC.2.2.2.2 hM hj hn hk_j (by omega)) q100 rfl (b := false) rfl dX0_set_1 ?_
    refine b_ifeq (w := false) (tgt := 18) hx hb dX0_set_4 (by decide) (fun _ => ?_) (fun h => absurd (h.symm.trans rfl) (by decide))
    refine lv_aload_n hx hb dX0_set_18 rfl (lv_at hl 0 rfl) ?_
    refine w_inst hC hX (k := 3) (f := 1) (by decide) (by decide) (sy_thRk hC.2.2.2.2 hM hj hn hk_j (by omega)) q252 rfl (b := false) rfl dX0_set_19 ?_
    refine b_ifeq (w := false) (tgt := 36) hx hb dX0_set_22 (by decide) (fun _ => ?_) (fun h => absurd (h.symm.trans rfl) (by decide))
    refine lv_aload_n hx hb dX0_set_36 rfl (lv_at hl 0 rfl) ?_
    refine w_inst hC hX (k := 3) (f := 2) (by decide) (by decide) (sy_thRk hC.2.2.2.2 hM hj hn hk_j (by omega)) q253 rfl (b := false) rfl dX0_set_37 ?_
    refine b_ifeq (w := false) (tgt := 58) hx hb dX0_set_40 (by decide) (fun _ => ?_) (fun h => absurd (h.symm.trans rfl) (by decide))
    refine lv_aload_n hx hb dX0_set_58 rfl (lv_at hl 0 rfl) ?_
    refine w_cast hC hX (k := 3) (f := 3) (by decide) (by decide) (sy_thRk hC.2.2.2.2 hM hj hn hk_j (by omega)) q255 rfl rfl dX0_set_59 ?_
    refine lv_iload_n hx hb dX0_set_62 rfl (lv_at hl 1 rfl) ?_
    refine lv_iload_n hx hb dX0_set_63 rfl (lv_at hl 2 rfl) ?_
    refine w_tern (P := v = 0) (x := 0) (y := 1) (pcT := 71) (pcF := 67) (pcE := 72) (fun a b => lv_if_eq (tgt := 71) hx hb dX0_set_64 (by decide) a b) (fun k => lv_iconst (v := 0) hx hb dX0_set_71 (by decide) k) (fun k => lv_iconst (v := 1) hx hb dX0_set_67 (by decide) (lv_goto (tgt := 72) hx hb dX0_set_68 (by decide) k)) ?_
    exact sy_zastZ hC hM hj hn hk_j h3 hout dX0_set_72 (fun tx b1 b2 => sy_throw hC hX hst hZ hS (hl.1.trans hml.symm) hlk htab 1 (by decide) b1 b2 (Nat.le_of_ble_eq_true rfl) (Nat.le_of_ble_eq_true rfl) (Nat.le_of_ble_eq_true rfl) (Nat.le_of_ble_eq_true rfl))
theorem k_X0_number_ok (l : Launch) (hst : l.stackTraces = false) (D : va_G) (tc : Nat → ClassId) (x mo : Nat) (β : Nat → Nat) (μ : MS) (j : Nat) (hj : j < nn μ) (hn : nn μ ≤ 60) (hk : numN (kd μ j) = true) (h3 : sz μ j ≤ 3) (a : Nat) (ha : a < sz μ j) (hc0 : kd μ j = 0 ∨ kd μ j = 1 → sC μ (3 * j + a) ≤ 2147483647) (hc3 : kd μ j = 3 → sC μ (3 * j + a) = 0 ∨ sC μ (3 * j + a) = 1) (hd : kd μ j = 2 → -2147483648 ≤ (sC μ (3 * j + a)).toInt ∧ (sC μ (3 * j + a)).toInt.natAbs < 2 ^ 53) : YC l yX0_number cX0_number 2 (some .int) 0 0 0 0 D tc x mo β [.ref (β (64 + j)), .int (nI a)] μ μ (some (.int (satI (sC μ (3 * j + a))))) := by
  refine YC.of (by decide) rfl (Nat.le_of_ble_eq_true rfl) ?_
  intro p e s m below meth c hC hX hZ hr hlk hml hM hS ls hl
  have hx := hC.1
  have hb := hC.2.1
  have hts := hC.2.2.1
  have hown := hC.2.2.2.1
  have hl : lv_has ls 2 [(0, .ref (β (64 + j))), (1, .int (nI a))] := hl
  rcases (by have := kd_num hk; omega : kd μ j = 0 ∨ kd μ j = 1 ∨ kd μ j = 2 ∨ kd μ j = 3) with hk_j | hk_j | hk_j | hk_j
  · refine lv_aload_n hx hb dX0_number_0 rfl (lv_at hl 0 rfl) ?_
    refine w_inst hC hX (k := 0) (f := 0) (by decide) (by decide) (sy_thRk hC.2.2.2.2 hM hj hn hk_j (by omega)) q100 rfl (b := true) rfl dX0_number_1 ?_
    refine b_ifeq (w := true) (tgt := 14) hx hb dX0_number_4 (by decide) (fun h => absurd (h.symm.trans rfl) (by decide)) (fun _ => ?_)
    refine lv_aload_n hx hb dX0_number_7 rfl (lv_at hl 0 rfl) ?_
    refine w_cast hC hX (k := 0) (f := 0) (by decide) (by decide) (sy_thRk hC.2.2.2.2 hM hj hn hk_j (by omega)) q100 rfl rfl dX0_number_8 ?_
    refine lv_iload_n hx hb dX0_number_11 rfl (lv_at hl 1 rfl) ?_
    refine sy_cald hC hM hj hn hk_j h3 a rfl (by omega) dX0_number_12 ?_
    exact sy_iret hC hr hlk hM hS rfl ((satI_le (hc0 (Or.inl hk_j))).symm) (Nat.le_of_ble_eq_true rfl) (Nat.le_of_ble_eq_true rfl) dX0_number_13
  · refine lv_aload_n hx hb dX0_number_0 rfl (lv_at hl 0 rfl) ?_
    refine w_inst hC hX (k := 1) (f := 0) (by decide) (by decide) (sy_thRk hC.2.2.2.2 hM hj hn hk_j (by omega)) q100 rfl (b := false) rfl dX0_number_1 ?_
    refine b_ifeq (w := false) (tgt := 14) hx hb dX0_number_4 (by decide) (fun _ => ?_) (fun h => absurd (h.symm.trans rfl) (by decide))
    refine lv_aload_n hx hb dX0_number_14 rfl (lv_at hl 0 rfl) ?_
    refine w_inst hC hX (k := 1) (f := 1) (by decide) (by decide) (sy_thRk hC.2.2.2.2 hM hj hn hk_j (by omega)) q252 rfl (b := true) rfl dX0_number_15 ?_
    refine b_ifeq (w := true) (tgt := 28) hx hb dX0_number_18 (by decide) (fun h => absurd (h.symm.trans rfl) (by decide)) (fun _ => ?_)
    refine lv_aload_n hx hb dX0_number_21 rfl (lv_at hl 0 rfl) ?_
    refine w_cast hC hX (k := 1) (f := 1) (by decide) (by decide) (sy_thRk hC.2.2.2.2 hM hj hn hk_j (by omega)) q252 rfl rfl dX0_number_22 ?_
    refine lv_iload_n hx hb dX0_number_25 rfl (lv_at hl 1 rfl) ?_
    refine sy_sald hC hM hj hn hk_j h3 a rfl (by omega) dX0_number_26 ?_
    exact sy_iret hC hr hlk hM hS rfl ((satI_le (hc0 (Or.inr hk_j))).symm) (Nat.le_of_ble_eq_true rfl) (Nat.le_of_ble_eq_true rfl) dX0_number_27
  · refine lv_aload_n hx hb dX0_number_0 rfl (lv_at hl 0 rfl) ?_
    refine w_inst hC hX (k := 2) (f := 0) (by decide) (by decide) (sy_thRk hC.2.2.2.2 hM hj hn hk_j (by omega)) q100 rfl (b := false) rfl dX0_number_1 ?_
    refine b_ifeq (w := false) (tgt := 14) hx hb dX0_number_4 (by decide) (fun _ => ?_) (fun h => absurd (h.symm.trans rfl) (by decide))
    refine lv_aload_n hx hb dX0_number_14 rfl (lv_at hl 0 rfl) ?_
    refine w_inst hC hX (k := 2) (f := 1) (by decide) (by decide) (sy_thRk hC.2.2.2.2 hM hj hn hk_j (by omega)) q252 rfl (b := false) rfl dX0_number_15 ?_
    refine b_ifeq (w := false) (tgt := 28) hx hb dX0_number_18 (by decide) (fun _ => ?_) (fun h => absurd (h.symm.trans rfl) (by decide))
    refine lv_aload_n hx hb dX0_number_28 rfl (lv_at hl 0 rfl) ?_
    refine w_inst hC hX (k := 2) (f := 2) (by decide) (by decide) (sy_thRk hC.2.2.2.2 hM hj hn hk_j (by omega)) q253 rfl (b := true) rfl dX0_number_29 ?_
    refine b_ifeq (w := true) (tgt := 47) hx hb dX0_number_32 (by decide) (fun h => absurd (h.symm.trans rfl) (by decide)) (fun _ => ?_)
    refine lv_aload_n hx hb dX0_number_35 rfl (lv_at hl 0 rfl) ?_
    refine w_cast hC hX (k := 2) (f := 2) (by decide) (by decide) (sy_thRk hC.2.2.2.2 hM hj hn hk_j (by omega)) q253 rfl rfl dX0_number_36 ?_
    refine lv_iload_n hx hb dX0_number_39 rfl (lv_at hl 1 rfl) ?_
    refine sy_dald hC hM hj hn hk_j h3 a rfl (by omega) dX0_number_40 ?_
    have hd2 := hd hk_j
    refine lv_ldc2d (v := 4620693217682128896) hx hb hown (hts _ q254) dX0_number_41 ?_
    refine lv_dmul hx hb dX0_number_44 (de_get hd2.2 hd2.1).2 ?_
    refine lv_d2i hx hb dX0_number_45 ?_
    refine w_top (congrArg Value.int (de_get hd2.2 hd2.1).1) ?_
    exact sy_iret hC hr hlk hM hS rfl rfl (Nat.le_of_ble_eq_true rfl) (Nat.le_of_ble_eq_true rfl) dX0_number_46
  · refine lv_aload_n hx hb dX0_number_0 rfl (lv_at hl 0 rfl) ?_
    refine w_inst hC hX (k := 3) (f := 0) (by decide) (by decide) (sy_thRk hC.2.2.2.2 hM hj hn hk_j (by omega)) q100 rfl (b := false) rfl dX0_number_1 ?_
    refine b_ifeq (w := false) (tgt := 14) hx hb dX0_number_4 (by decide) (fun _ => ?_) (fun h => absurd (h.symm.trans rfl) (by decide))
    refine lv_aload_n hx hb dX0_number_14 rfl (lv_at hl 0 rfl) ?_
    refine w_inst hC hX (k := 3) (f := 1) (by decide) (by decide) (sy_thRk hC.2.2.2.2 hM hj hn hk_j (by omega)) q252 rfl (b := false) rfl dX0_number_15 ?_
    refine b_ifeq (w := false) (tgt := 28) hx hb dX0_number_18 (by decide) (fun _ => ?_) (fun h => absurd (h.symm.trans rfl) (by decide))
    refine lv_aload_n hx hb dX0_number_28 rfl (lv_at hl 0 rfl) ?_
    refine w_inst hC hX (k := 3) (f := 2) (by decide) (by decide) (sy_thRk hC.2.2.2.2 hM hj hn hk_j (by omega)) q253 rfl (b := false) rfl dX0_number_29 ?_
    refine b_ifeq (w := false) (tgt := 47) hx hb dX0_number_32 (by decide) (fun _ => ?_) (fun h => absurd (h.symm.trans rfl) (by decide))
    refine lv_aload_n hx hb dX0_number_47 rfl (lv_at hl 0 rfl) ?_
    refine w_cast hC hX (k := 3) (f := 3) (by decide) (by decide) (sy_thRk hC.2.2.2.2 hM hj hn hk_j (by omega)) q255 rfl rfl dX0_number_48 ?_
    refine lv_iload_n hx hb dX0_number_51 rfl (lv_at hl 1 rfl) ?_
    refine sy_zald hC hM hj hn hk_j h3 a rfl (by omega) dX0_number_52 ?_
    rcases hc3 hk_j with e | e
    · refine lv_if_eq (tgt := 60) hx hb dX0_number_53 (by decide) (fun _ => ?_) (fun h => absurd (show (sC μ (3 * j + a)).toInt32 = 0 by rw [e]; rfl) h)
      refine lv_iconst (v := 0) hx hb dX0_number_60 (by decide) ?_
      exact sy_iret hC hr hlk hM hS rfl (by rw [e]; rfl) (Nat.le_of_ble_eq_true rfl) (Nat.le_of_ble_eq_true rfl) dX0_number_61
    · refine lv_if_eq (tgt := 60) hx hb dX0_number_53 (by decide) (fun h => absurd h (by rw [e]; decide)) (fun _ => ?_)
      refine lv_iconst (v := 1) hx hb dX0_number_56 (by decide) ?_
      refine lv_goto (tgt := 61) hx hb dX0_number_57 (by decide) ?_
      exact sy_iret hC hr hlk hM hS rfl (by rw [e]; rfl) (Nat.le_of_ble_eq_true rfl) (Nat.le_of_ble_eq_true rfl) dX0_number_61
theorem k_X0_number_cce (l : Launch) (hst : l.stackTraces = false) (D : va_G) (tc : Nat → ClassId) (x mo : Nat) (β : Nat → Nat) (μ : MS) (j : Nat) (hj : j < nn μ) (hn : nn μ ≤ 60) (hk : numN (kd μ j) = false) (h12 : kd μ j ≤ 12) (i : Int32) : YX l yX0_number cX0_number 2 (some .int) 8 10300 D tc x mo β [.ref (β (64 + j)), .int i] μ 0 := by
  refine YX.of (by decide) rfl (Nat.le_of_ble_eq_true rfl) ?_
  intro p e s m below meth c hC hX hZ hlk hml htab hM hS ls hl
  have hx := hC.1
  have hb := hC.2.1
  have hts := hC.2.2.1
  have hown := hC.2.2.2.1
  have hl : lv_has ls 2 [(0, .ref (β (64 + j))), (1, .int i)] := hl
  rcases (by simp [numN] at hk; omega : kd μ j = 4 ∨ kd μ j = 5 ∨ kd μ j = 6 ∨ kd μ j = 7 ∨ kd μ j = 8 ∨ kd μ j = 9 ∨ kd μ j = 10 ∨ kd μ j = 11 ∨ kd μ j = 12) with hk_j | hk_j | hk_j | hk_j | hk_j | hk_j | hk_j | hk_j | hk_j
  · refine lv_aload_n hx hb dX0_number_0 rfl (lv_at hl 0 rfl) ?_
    refine w_inst hC hX (k := 4) (f := 0) (by decide) (by decide) (sy_thRk hC.2.2.2.2 hM hj hn hk_j (by omega)) q100 rfl (b := false) rfl dX0_number_1 ?_
    refine b_ifeq (w := false) (tgt := 14) hx hb dX0_number_4 (by decide) (fun _ => ?_) (fun h => absurd (h.symm.trans rfl) (by decide))
    refine lv_aload_n hx hb dX0_number_14 rfl (lv_at hl 0 rfl) ?_
    refine w_inst hC hX (k := 4) (f := 1) (by decide) (by decide) (sy_thRk hC.2.2.2.2 hM hj hn hk_j (by omega)) q252 rfl (b := false) rfl dX0_number_15 ?_
    refine b_ifeq (w := false) (tgt := 28) hx hb dX0_number_18 (by decide) (fun _ => ?_) (fun h => absurd (h.symm.trans rfl) (by decide))
    refine lv_aload_n hx hb dX0_number_28 rfl (lv_at hl 0 rfl) ?_
    refine w_inst hC hX (k := 4) (f := 2) (by decide) (by decide) (sy_thRk hC.2.2.2.2 hM hj hn hk_j (by omega)) q253 rfl (b := false) rfl dX0_number_29 ?_
    refine b_ifeq (w := false) (tgt := 47) hx hb dX0_number_32 (by decide) (fun _ => ?_) (fun h => absurd (h.symm.trans rfl) (by decide))
    refine lv_aload_n hx hb dX0_number_47 rfl (lv_at hl 0 rfl) ?_
    exact w_castNo hC hX (k := 4) (f := 3) (by decide) (by decide) (sy_thRk hC.2.2.2.2 hM hj hn hk_j (by omega)) q255 rfl rfl dX0_number_48 (fun tx b1 b2 => sy_throw hC hX hst hZ hS (hl.1.trans hml.symm) hlk htab 0 (by decide) b1 b2 (Nat.le_of_ble_eq_true rfl) (Nat.le_of_ble_eq_true rfl) (Nat.le_of_ble_eq_true rfl) (Nat.le_of_ble_eq_true rfl))
  · refine lv_aload_n hx hb dX0_number_0 rfl (lv_at hl 0 rfl) ?_
    refine w_inst hC hX (k := 5) (f := 0) (by decide) (by decide) (sy_thRk hC.2.2.2.2 hM hj hn hk_j (by omega)) q100 rfl (b := false) rfl dX0_number_1 ?_
    refine b_ifeq (w := false) (tgt := 14) hx hb dX0_number_4 (by decide) (fun _ => ?_) (fun h => absurd (h.symm.trans rfl) (by decide))
    refine lv_aload_n hx hb dX0_number_14 rfl (lv_at hl 0 rfl) ?_
    refine w_inst hC hX (k := 5) (f := 1) (by decide) (by decide) (sy_thRk hC.2.2.2.2 hM hj hn hk_j (by omega)) q252 rfl (b := false) rfl dX0_number_15 ?_
    refine b_ifeq (w := false) (tgt := 28) hx hb dX0_number_18 (by decide) (fun _ => ?_) (fun h => absurd (h.symm.trans rfl) (by decide))
    refine lv_aload_n hx hb dX0_number_28 rfl (lv_at hl 0 rfl) ?_
    refine w_inst hC hX (k := 5) (f := 2) (by decide) (by decide) (sy_thRk hC.2.2.2.2 hM hj hn hk_j (by omega)) q253 rfl (b := false) rfl dX0_number_29 ?_
    refine b_ifeq (w := false) (tgt := 47) hx hb dX0_number_32 (by decide) (fun _ => ?_) (fun h => absurd (h.symm.trans rfl) (by decide))
    refine lv_aload_n hx hb dX0_number_47 rfl (lv_at hl 0 rfl) ?_
    exact w_castNo hC hX (k := 5) (f := 3) (by decide) (by decide) (sy_thRk hC.2.2.2.2 hM hj hn hk_j (by omega)) q255 rfl rfl dX0_number_48 (fun tx b1 b2 => sy_throw hC hX hst hZ hS (hl.1.trans hml.symm) hlk htab 0 (by decide) b1 b2 (Nat.le_of_ble_eq_true rfl) (Nat.le_of_ble_eq_true rfl) (Nat.le_of_ble_eq_true rfl) (Nat.le_of_ble_eq_true rfl))
  · refine lv_aload_n hx hb dX0_number_0 rfl (lv_at hl 0 rfl) ?_
    refine w_inst hC hX (k := 6) (f := 0) (by decide) (by decide) (sy_thRk hC.2.2.2.2 hM hj hn hk_j (by omega)) q100 rfl (b := false) rfl dX0_number_1 ?_
    refine b_ifeq (w := false) (tgt := 14) hx hb dX0_number_4 (by decide) (fun _ => ?_) (fun h => absurd (h.symm.trans rfl) (by decide))
    refine lv_aload_n hx hb dX0_number_14 rfl (lv_at hl 0 rfl) ?_
    refine w_inst hC hX (k := 6) (f := 1) (by decide) (by decide) (sy_thRk hC.2.2.2.2 hM hj hn hk_j (by omega)) q252 rfl (b := false) rfl dX0_number_15 ?_
    refine b_ifeq (w := false) (tgt := 28) hx hb dX0_number_18 (by decide) (fun _ => ?_) (fun h => absurd (h.symm.trans rfl) (by decide))
    refine lv_aload_n hx hb dX0_number_28 rfl (lv_at hl 0 rfl) ?_
    refine w_inst hC hX (k := 6) (f := 2) (by decide) (by decide) (sy_thRk hC.2.2.2.2 hM hj hn hk_j (by omega)) q253 rfl (b := false) rfl dX0_number_29 ?_
    refine b_ifeq (w := false) (tgt := 47) hx hb dX0_number_32 (by decide) (fun _ => ?_) (fun h => absurd (h.symm.trans rfl) (by decide))
    refine lv_aload_n hx hb dX0_number_47 rfl (lv_at hl 0 rfl) ?_
    exact w_castNo hC hX (k := 6) (f := 3) (by decide) (by decide) (sy_thRk hC.2.2.2.2 hM hj hn hk_j (by omega)) q255 rfl rfl dX0_number_48 (fun tx b1 b2 => sy_throw hC hX hst hZ hS (hl.1.trans hml.symm) hlk htab 0 (by decide) b1 b2 (Nat.le_of_ble_eq_true rfl) (Nat.le_of_ble_eq_true rfl) (Nat.le_of_ble_eq_true rfl) (Nat.le_of_ble_eq_true rfl))
  · refine lv_aload_n hx hb dX0_number_0 rfl (lv_at hl 0 rfl) ?_
    refine w_inst hC hX (k := 7) (f := 0) (by decide) (by decide) (sy_thRk hC.2.2.2.2 hM hj hn hk_j (by omega)) q100 rfl (b := false) rfl dX0_number_1 ?_
    refine b_ifeq (w := false) (tgt := 14) hx hb dX0_number_4 (by decide) (fun _ => ?_) (fun h => absurd (h.symm.trans rfl) (by decide))
    refine lv_aload_n hx hb dX0_number_14 rfl (lv_at hl 0 rfl) ?_
    refine w_inst hC hX (k := 7) (f := 1) (by decide) (by decide) (sy_thRk hC.2.2.2.2 hM hj hn hk_j (by omega)) q252 rfl (b := false) rfl dX0_number_15 ?_
    refine b_ifeq (w := false) (tgt := 28) hx hb dX0_number_18 (by decide) (fun _ => ?_) (fun h => absurd (h.symm.trans rfl) (by decide))
    refine lv_aload_n hx hb dX0_number_28 rfl (lv_at hl 0 rfl) ?_
    refine w_inst hC hX (k := 7) (f := 2) (by decide) (by decide) (sy_thRk hC.2.2.2.2 hM hj hn hk_j (by omega)) q253 rfl (b := false) rfl dX0_number_29 ?_
    refine b_ifeq (w := false) (tgt := 47) hx hb dX0_number_32 (by decide) (fun _ => ?_) (fun h => absurd (h.symm.trans rfl) (by decide))
    refine lv_aload_n hx hb dX0_number_47 rfl (lv_at hl 0 rfl) ?_
    exact w_castNo hC hX (k := 7) (f := 3) (by decide) (by decide) (sy_thRk hC.2.2.2.2 hM hj hn hk_j (by omega)) q255 rfl rfl dX0_number_48 (fun tx b1 b2 => sy_throw hC hX hst hZ hS (hl.1.trans hml.symm) hlk htab 0 (by decide) b1 b2 (Nat.le_of_ble_eq_true rfl) (Nat.le_of_ble_eq_true rfl) (Nat.le_of_ble_eq_true rfl) (Nat.le_of_ble_eq_true rfl))
  · refine lv_aload_n hx hb dX0_number_0 rfl (lv_at hl 0 rfl) ?_
    refine w_inst hC hX (k := 8) (f := 0) (by decide) (by decide) (sy_thRk hC.2.2.2.2 hM hj hn hk_j (by omega)) q100 rfl (b := false) rfl dX0_number_1 ?_
    refine b_ifeq (w := false) (tgt := 14) hx hb dX0_number_4 (by decide) (fun _ => ?_) (fun h => absurd (h.symm.trans rfl) (by decide))
    refine lv_aload_n hx hb dX0_number_14 rfl (lv_at hl 0 rfl) ?_
    refine w_inst hC hX (k := 8) (f := 1) (by decide) (by decide) (sy_thRk hC.2.2.2.2 hM hj hn hk_j (by omega)) q252 rfl (b := false) rfl dX0_number_15 ?_
    refine b_ifeq (w := false) (tgt := 28) hx hb dX0_number_18 (by decide) (fun _ => ?_) (fun h => absurd (h.symm.trans rfl) (by decide))
    refine lv_aload_n hx hb dX0_number_28 rfl (lv_at hl 0 rfl) ?_
    refine w_inst hC hX (k := 8) (f := 2) (by decide) (by decide) (sy_thRk hC.2.2.2.2 hM hj hn hk_j (by omega)) q253 rfl (b := false) rfl dX0_number_29 ?_
    refine b_ifeq (w := false) (tgt := 47) hx hb dX0_number_32 (by decide) (fun _ => ?_) (fun h => absurd (h.symm.trans rfl) (by decide))
    refine lv_aload_n hx hb dX0_number_47 rfl (lv_at hl 0 rfl) ?_
    exact w_castNo hC hX (k := 8) (f := 3) (by decide) (by decide) (sy_thRk hC.2.2.2.2 hM hj hn hk_j (by omega)) q255 rfl rfl dX0_number_48 (fun tx b1 b2 => sy_throw hC hX hst hZ hS (hl.1.trans hml.symm) hlk htab 0 (by decide) b1 b2 (Nat.le_of_ble_eq_true rfl) (Nat.le_of_ble_eq_true rfl) (Nat.le_of_ble_eq_true rfl) (Nat.le_of_ble_eq_true rfl))
  · refine lv_aload_n hx hb dX0_number_0 rfl (lv_at hl 0 rfl) ?_
    refine w_inst hC hX (k := 9) (f := 0) (by decide) (by decide) (sy_thRk hC.2.2.2.2 hM hj hn hk_j (by omega)) q100 rfl (b := false) rfl dX0_number_1 ?_
    refine b_ifeq (w := false) (tgt := 14) hx hb dX0_number_4 (by decide) (fun _ => ?_) (fun h => absurd (h.symm.trans rfl) (by decide))
    refine lv_aload_n hx hb dX0_number_14 rfl (lv_at hl 0 rfl) ?_
    refine w_inst hC hX (k := 9) (f := 1) (by decide) (by decide) (sy_thRk hC.2.2.2.2 hM hj hn hk_j (by omega)) q252 rfl (b := false) rfl dX0_number_15 ?_
    refine b_ifeq (w := false) (tgt := 28) hx hb dX0_number_18 (by decide) (fun _ => ?_) (fun h => absurd (h.symm.trans rfl) (by decide))
    refine lv_aload_n hx hb dX0_number_28 rfl (lv_at hl 0 rfl) ?_
    refine w_inst hC hX (k := 9) (f := 2) (by decide) (by decide) (sy_thRk hC.2.2.2.2 hM hj hn hk_j (by omega)) q253 rfl (b := false) rfl dX0_number_29 ?_
    refine b_ifeq (w := false) (tgt := 47) hx hb dX0_number_32 (by decide) (fun _ => ?_) (fun h => absurd (h.symm.trans rfl) (by decide))
    refine lv_aload_n hx hb dX0_number_47 rfl (lv_at hl 0 rfl) ?_
    exact w_castNo hC hX (k := 9) (f := 3) (by decide) (by decide) (sy_thRk hC.2.2.2.2 hM hj hn hk_j (by omega)) q255 rfl rfl dX0_number_48 (fun tx b1 b2 => sy_throw hC hX hst hZ hS (hl.1.trans hml.symm) hlk htab 0 (by decide) b1 b2 (Nat.le_of_ble_eq_true rfl) (Nat.le_of_ble_eq_true rfl) (Nat.le_of_ble_eq_true rfl) (Nat.le_of_ble_eq_true rfl))
  · refine lv_aload_n hx hb dX0_number_0 rfl (lv_at hl 0 rfl) ?_
    refine w_inst hC hX (k := 10) (f := 0) (by decide) (by decide) (sy_thRk hC.2.2.2.2 hM hj hn hk_j (by omega)) q100 rfl (b := false) rfl dX0_number_1 ?_
    refine b_ifeq (w := false) (tgt := 14) hx hb dX0_number_4 (by decide) (fun _ => ?_) (fun h => absurd (h.symm.trans rfl) (by decide))
    refine lv_aload_n hx hb dX0_number_14 rfl (lv_at hl 0 rfl) ?_
    refine w_inst hC hX (k := 10) (f := 1) (by decide) (by decide) (sy_thRk hC.2.2.2.2 hM hj hn hk_j (by omega)) q252 rfl (b := false) rfl dX0_number_15 ?_
    refine b_ifeq (w := false) (tgt := 28) hx hb dX0_number_18 (by decide) (fun _ => ?_) (fun h => absurd (h.symm.trans rfl) (by decide))
    refine lv_aload_n hx hb dX0_number_28 rfl (lv_at hl 0 rfl) ?_
    refine w_inst hC hX (k := 10) (f := 2) (by decide) (by decide) (sy_thRk hC.2.2.2.2 hM hj hn hk_j (by omega)) q253 rfl (b := false) rfl dX0_number_29 ?_
    refine b_ifeq (w := false) (tgt := 47) hx hb dX0_number_32 (by decide) (fun _ => ?_) (fun h => absurd (h.symm.trans rfl) (by decide))
    refine lv_aload_n hx hb dX0_number_47 rfl (lv_at hl 0 rfl) ?_
    exact w_castNo hC hX (k := 10) (f := 3) (by decide) (by decide) (sy_thRk hC.2.2.2.2 hM hj hn hk_j (by omega)) q255 rfl rfl dX0_number_48 (fun tx b1 b2 => sy_throw hC hX hst hZ hS (hl.1.trans hml.symm) hlk htab 0 (by decide) b1 b2 (Nat.le_of_ble_eq_true rfl) (Nat.le_of_ble_eq_true rfl) (Nat.le_of_ble_eq_true rfl) (Nat.le_of_ble_eq_true rfl))
  · refine lv_aload_n hx hb dX0_number_0 rfl (lv_at hl 0 rfl) ?_
    refine w_inst hC hX (k := 11) (f := 0) (by decide) (by decide) (sy_thRk hC.2.2.2.2 hM hj hn hk_j (by omega)) q100 rfl (b := false) rfl dX0_number_1 ?_
    refine b_ifeq (w := false) (tgt := 14) hx hb dX0_number_4 (by decide) (fun _ => ?_) (fun h => absurd (h.symm.trans rfl) (by decide))
    refine lv_aload_n hx hb dX0_number_14 rfl (lv_at hl 0 rfl) ?_
    refine w_inst hC hX (k := 11) (f := 1) (by decide) (by decide) (sy_thRk hC.2.2.2.2 hM hj hn hk_j (by omega)) q252 rfl (b := false) rfl dX0_number_15 ?_
    refine b_ifeq (w := false) (tgt := 28) hx hb dX0_number_18 (by decide) (fun _ => ?_) (fun h => absurd (h.symm.trans rfl) (by decide))
    refine lv_aload_n hx hb dX0_number_28 rfl (lv_at hl 0 rfl) ?_
    refine w_inst hC hX (k := 11) (f := 2) (by decide) (by decide) (sy_thRk hC.2.2.2.2 hM hj hn hk_j (by omega)) q253 rfl (b := false) rfl dX0_number_29 ?_
    refine b_ifeq (w := false) (tgt := 47) hx hb dX0_number_32 (by decide) (fun _ => ?_) (fun h => absurd (h.symm.trans rfl) (by decide))
    refine lv_aload_n hx hb dX0_number_47 rfl (lv_at hl 0 rfl) ?_
    exact w_castNo hC hX (k := 11) (f := 3) (by decide) (by decide) (sy_thRk hC.2.2.2.2 hM hj hn hk_j (by omega)) q255 rfl rfl dX0_number_48 (fun tx b1 b2 => sy_throw hC hX hst hZ hS (hl.1.trans hml.symm) hlk htab 0 (by decide) b1 b2 (Nat.le_of_ble_eq_true rfl) (Nat.le_of_ble_eq_true rfl) (Nat.le_of_ble_eq_true rfl) (Nat.le_of_ble_eq_true rfl))
  · refine lv_aload_n hx hb dX0_number_0 rfl (lv_at hl 0 rfl) ?_
    refine w_inst hC hX (k := 12) (f := 0) (by decide) (by decide) (sy_thRk hC.2.2.2.2 hM hj hn hk_j (by omega)) q100 rfl (b := false) rfl dX0_number_1 ?_
    refine b_ifeq (w := false) (tgt := 14) hx hb dX0_number_4 (by decide) (fun _ => ?_) (fun h => absurd (h.symm.trans rfl) (by decide))
    refine lv_aload_n hx hb dX0_number_14 rfl (lv_at hl 0 rfl) ?_
    refine w_inst hC hX (k := 12) (f := 1) (by decide) (by decide) (sy_thRk hC.2.2.2.2 hM hj hn hk_j (by omega)) q252 rfl (b := false) rfl dX0_number_15 ?_
    refine b_ifeq (w := false) (tgt := 28) hx hb dX0_number_18 (by decide) (fun _ => ?_) (fun h => absurd (h.symm.trans rfl) (by decide))
    refine lv_aload_n hx hb dX0_number_28 rfl (lv_at hl 0 rfl) ?_
    refine w_inst hC hX (k := 12) (f := 2) (by decide) (by decide) (sy_thRk hC.2.2.2.2 hM hj hn hk_j (by omega)) q253 rfl (b := false) rfl dX0_number_29 ?_
    refine b_ifeq (w := false) (tgt := 47) hx hb dX0_number_32 (by decide) (fun _ => ?_) (fun h => absurd (h.symm.trans rfl) (by decide))
    refine lv_aload_n hx hb dX0_number_47 rfl (lv_at hl 0 rfl) ?_
    exact w_castNo hC hX (k := 12) (f := 3) (by decide) (by decide) (sy_thRk hC.2.2.2.2 hM hj hn hk_j (by omega)) q255 rfl rfl dX0_number_48 (fun tx b1 b2 => sy_throw hC hX hst hZ hS (hl.1.trans hml.symm) hlk htab 0 (by decide) b1 b2 (Nat.le_of_ble_eq_true rfl) (Nat.le_of_ble_eq_true rfl) (Nat.le_of_ble_eq_true rfl) (Nat.le_of_ble_eq_true rfl))
theorem k_X0_number_oob (l : Launch) (hst : l.stackTraces = false) (D : va_G) (tc : Nat → ClassId) (x mo : Nat) (β : Nat → Nat) (μ : MS) (j : Nat) (hj : j < nn μ) (hn : nn μ ≤ 60) (hk : numN (kd μ j) = true) (h3 : sz μ j ≤ 3) (i : Int32) (hout : ¬ vp_in i (sz μ j)) : YX l yX0_number cX0_number 2 (some .int) 8 10300 D tc x mo β [.ref (β (64 + j)), .int i] μ 1 := by
  refine YX.of (by decide) rfl (Nat.le_of_ble_eq_true rfl) ?_
  intro p e s m below meth c hC hX hZ hlk hml htab hM hS ls hl
  have hx := hC.1
  have hb := hC.2.1
  have hts := hC.2.2.1
  have hown := hC.2.2.2.1
  have hl : lv_has ls 2 [(0, .ref (β (64 + j))), (1, .int i)] := hl
  rcases (by have := kd_num hk; omega : kd μ j = 0 ∨ kd μ j = 1 ∨ kd μ j = 2 ∨ kd μ j = 3) with hk_j | hk_j | hk_j | hk_j
  · refine lv_aload_n hx hb dX0_number_0 rfl (lv_at hl 0 rfl) ?_
    refine w_inst hC hX (k := 0) (f := 0) (by decide) (by decide) (sy_thRk hC.2.2.2.2 hM hj hn hk_j (by omega)) q100 rfl (b := true) rfl dX0_number_1 ?_
    refine b_ifeq (w := true) (tgt := 14) hx hb dX0_number_4 (by decide) (fun h => absurd (h.symm.trans rfl) (by decide)) (fun _ => ?_)
    refine lv_aload_n hx hb dX0_number_7 rfl (lv_at hl 0 rfl) ?_
    refine w_cast hC hX (k := 0) (f := 0) (by decide) (by decide) (sy_thRk hC.2.2.2.2 hM hj hn hk_j (by omega)) q100 rfl rfl dX0_number_8 ?_
    refine lv_iload_n hx hb dX0_number_11 rfl (lv_at hl 1 rfl) ?_
    exact sy_caldZ hC hM hj hn hk_j h3 hout dX0_number_12 (fun tx b1 b2 => sy_throw hC hX hst hZ hS (hl.1.trans hml.symm) hlk htab 1 (by decide) b1 b2 (Nat.le_of_ble_eq_true rfl) (Nat.le_of_ble_eq_true rfl) (Nat.le_of_ble_eq_true rfl) (Nat.le_of_ble_eq_true rfl))
  · refine lv_aload_n hx hb dX0_number_0 rfl (lv_at hl 0 rfl) ?_
    refine w_inst hC hX (k := 1) (f := 0) (by decide) (by decide) (sy_thRk hC.2.2.2.2 hM hj hn hk_j (by omega)) q100 rfl (b := false) rfl dX0_number_1 ?_
    refine b_ifeq (w := false) (tgt := 14) hx hb dX0_number_4 (by decide) (fun _ => ?_) (fun h => absurd (h.symm.trans rfl) (by decide))
    refine lv_aload_n hx hb dX0_number_14 rfl (lv_at hl 0 rfl) ?_
    refine w_inst hC hX (k := 1) (f := 1) (by decide) (by decide) (sy_thRk hC.2.2.2.2 hM hj hn hk_j (by omega)) q252 rfl (b := true) rfl dX0_number_15 ?_
    refine b_ifeq (w := true) (tgt := 28) hx hb dX0_number_18 (by decide) (fun h => absurd (h.symm.trans rfl) (by decide)) (fun _ => ?_)
    refine lv_aload_n hx hb dX0_number_21 rfl (lv_at hl 0 rfl) ?_
    refine w_cast hC hX (k := 1) (f := 1) (by decide) (by decide) (sy_thRk hC.2.2.2.2 hM hj hn hk_j (by omega)) q252 rfl rfl dX0_number_22 ?_
    refine lv_iload_n hx hb dX0_number_25 rfl (lv_at hl 1 rfl) ?_
    exact sy_saldZ hC hM hj hn hk_j h3 hout dX0_number_26 (fun tx b1 b2 => sy_throw hC hX hst hZ hS (hl.1.trans hml.symm) hlk htab 1 (by decide) b1 b2 (Nat.le_of_ble_eq_true rfl) (Nat.le_of_ble_eq_true rfl) (Nat.le_of_ble_eq_true rfl) (Nat.le_of_ble_eq_true rfl))
  · refine lv_aload_n hx hb dX0_number_0 rfl (lv_at hl 0 rfl) ?_
    refine w_inst hC hX (k := 2) (f := 0) (by decide) (by decide) (sy_thRk hC.2.2.2.2 hM hj hn hk_j (by omega)) q100 rfl (b := false) rfl dX0_number_1 ?_
    refine b_ifeq (w := false) (tgt := 14) hx hb dX0_number_4 (by decide) (fun _ => ?_) (fun h => absurd (h.symm.trans rfl) (by decide))
    refine lv_aload_n hx hb dX0_number_14 rfl (lv_at hl 0 rfl) ?_
    refine w_inst hC hX (k := 2) (f := 1) (by decide) (by decide) (sy_thRk hC.2.2.2.2 hM hj hn hk_j (by omega)) q252 rfl (b := false) rfl dX0_number_15 ?_
    refine b_ifeq (w := false) (tgt := 28) hx hb dX0_number_18 (by decide) (fun _ => ?_) (fun h => absurd (h.symm.trans rfl) (by decide))
    refine lv_aload_n hx hb dX0_number_28 rfl (lv_at hl 0 rfl) ?_
    refine w_inst hC hX (k := 2) (f := 2) (by decide) (by decide) (sy_thRk hC.2.2.2.2 hM hj hn hk_j (by omega)) q253 rfl (b := true) rfl dX0_number_29 ?_
    refine b_ifeq (w := true) (tgt := 47) hx hb dX0_number_32 (by decide) (fun h => absurd (h.symm.trans rfl) (by decide)) (fun _ => ?_)
    refine lv_aload_n hx hb dX0_number_35 rfl (lv_at hl 0 rfl) ?_
    refine w_cast hC hX (k := 2) (f := 2) (by decide) (by decide) (sy_thRk hC.2.2.2.2 hM hj hn hk_j (by omega)) q253 rfl rfl dX0_number_36 ?_
    refine lv_iload_n hx hb dX0_number_39 rfl (lv_at hl 1 rfl) ?_
    exact sy_daldZ hC hM hj hn hk_j h3 hout dX0_number_40 (fun tx b1 b2 => sy_throw hC hX hst hZ hS (hl.1.trans hml.symm) hlk htab 1 (by decide) b1 b2 (Nat.le_of_ble_eq_true rfl) (Nat.le_of_ble_eq_true rfl) (Nat.le_of_ble_eq_true rfl) (Nat.le_of_ble_eq_true rfl))
  · refine lv_aload_n hx hb dX0_number_0 rfl (lv_at hl 0 rfl) ?_
    refine w_inst hC hX (k := 3) (f := 0) (by decide) (by decide) (sy_thRk hC.2.2.2.2 hM hj hn hk_j (by omega)) q100 rfl (b := false) rfl dX0_number_1 ?_
    refine b_ifeq (w := false) (tgt := 14) hx hb dX0_number_4 (by decide) (fun _ => ?_) (fun h => absurd (h.symm.trans rfl) (by decide))
    refine lv_aload_n hx hb dX0_number_14 rfl (lv_at hl 0 rfl) ?_
    refine w_inst hC hX (k := 3) (f := 1) (by decide) (by decide) (sy_thRk hC.2.2.2.2 hM hj hn hk_j (by omega)) q252 rfl (b := false) rfl dX0_number_15 ?_
    refine b_ifeq (w := false) (tgt := 28) hx hb dX0_number_18 (by decide) (fun _ => ?_) (fun h => absurd (h.symm.trans rfl) (by decide))
    refine lv_aload_n hx hb dX0_number_28 rfl (lv_at hl 0 rfl) ?_
    refine w_inst hC hX (k := 3) (f := 2) (by decide) (by decide) (sy_thRk hC.2.2.2.2 hM hj hn hk_j (by omega)) q253 rfl (b := false) rfl dX0_number_29 ?_
    refine b_ifeq (w := false) (tgt := 47) hx hb dX0_number_32 (by decide) (fun _ => ?_) (fun h => absurd (h.symm.trans rfl) (by decide))
    refine lv_aload_n hx hb dX0_number_47 rfl (lv_at hl 0 rfl) ?_
    refine w_cast hC hX (k := 3) (f := 3) (by decide) (by decide) (sy_thRk hC.2.2.2.2 hM hj hn hk_j (by omega)) q255 rfl rfl dX0_number_48 ?_
    refine lv_iload_n hx hb dX0_number_51 rfl (lv_at hl 1 rfl) ?_
    exact sy_zaldZ hC hM hj hn hk_j h3 hout dX0_number_52 (fun tx b1 b2 => sy_throw hC hX hst hZ hS (hl.1.trans hml.symm) hlk htab 1 (by decide) b1 b2 (Nat.le_of_ble_eq_true rfl) (Nat.le_of_ble_eq_true rfl) (Nat.le_of_ble_eq_true rfl) (Nat.le_of_ble_eq_true rfl))
theorem k_X0_part_ok (l : Launch) (hst : l.stackTraces = false) (D : va_G) (tc : Nat → ClassId) (x mo : Nat) (β : Nat → Nat) (μ : MS) (j : Nat) (hj : j < nn μ) (hn : nn μ ≤ 60) (hk : thgN (kd μ j) = true) (h12 : kd μ j ≤ 12) (h3 : sz μ j ≤ 3) (a : Nat) (ha : a < sz μ j) : YC l yX0_part cX0_part 2 (some (.object "java/lang/Object")) 0 0 0 0 D tc x mo β [.ref (β (64 + j)), .int (nI a)] μ μ (some ((va_rf (qT β (sC μ (3 * j + a)))))) := by
  refine YC.of (by decide) rfl (Nat.le_of_ble_eq_true rfl) ?_
  intro p e s m below meth c hC hX hZ hr hlk hml hM hS ls hl
  have hx := hC.1
  have hb := hC.2.1
  have hts := hC.2.2.1
  have hown := hC.2.2.2.1
  have hl : lv_has ls 2 [(0, .ref (β (64 + j))), (1, .int (nI a))] := hl
  rcases (by simp [thgN] at hk; omega : kd μ j = 4 ∨ kd μ j = 8 ∨ kd μ j = 9 ∨ kd μ j = 10 ∨ kd μ j = 11 ∨ kd μ j = 12) with hk_j | hk_j | hk_j | hk_j | hk_j | hk_j
  · refine lv_aload_n hx hb dX0_part_0 rfl (lv_at hl 0 rfl) ?_
    refine w_inst hC hX (k := 4) (f := 4) (by decide) (by decide) (sy_thRk hC.2.2.2.2 hM hj hn hk_j (by omega)) q284 rfl (b := true) rfl dX0_part_1 ?_
    refine b_ifeq (w := true) (tgt := 14) hx hb dX0_part_4 (by decide) (fun h => absurd (h.symm.trans rfl) (by decide)) (fun _ => ?_)
    refine lv_aload_n hx hb dX0_part_7 rfl (lv_at hl 0 rfl) ?_
    refine w_cast hC hX (k := 4) (f := 4) (by decide) (by decide) (sy_thRk hC.2.2.2.2 hM hj hn hk_j (by omega)) q284 rfl rfl dX0_part_8 ?_
    refine lv_iload_n hx hb dX0_part_11 rfl (lv_at hl 1 rfl) ?_
    refine sy_aald hC hM hj hn hk_j (by omega) h3 a rfl (by omega) dX0_part_12 ?_
    exact sy_aret hC hr hlk hM hS rfl rfl (Nat.le_of_ble_eq_true rfl) (Nat.le_of_ble_eq_true rfl) dX0_part_13
  · refine lv_aload_n hx hb dX0_part_0 rfl (lv_at hl 0 rfl) ?_
    refine w_inst hC hX (k := 8) (f := 4) (by decide) (by decide) (sy_thRk hC.2.2.2.2 hM hj hn hk_j (by omega)) q284 rfl (b := false) rfl dX0_part_1 ?_
    refine b_ifeq (w := false) (tgt := 14) hx hb dX0_part_4 (by decide) (fun _ => ?_) (fun h => absurd (h.symm.trans rfl) (by decide))
    refine lv_aload_n hx hb dX0_part_14 rfl (lv_at hl 0 rfl) ?_
    refine w_inst hC hX (k := 8) (f := 10) (by decide) (by decide) (sy_thRk hC.2.2.2.2 hM hj hn hk_j (by omega)) q285 rfl (b := true) rfl dX0_part_15 ?_
    refine b_ifeq (w := true) (tgt := 28) hx hb dX0_part_18 (by decide) (fun h => absurd (h.symm.trans rfl) (by decide)) (fun _ => ?_)
    refine lv_aload_n hx hb dX0_part_21 rfl (lv_at hl 0 rfl) ?_
    refine w_cast hC hX (k := 8) (f := 10) (by decide) (by decide) (sy_thRk hC.2.2.2.2 hM hj hn hk_j (by omega)) q285 rfl rfl dX0_part_22 ?_
    refine lv_iload_n hx hb dX0_part_25 rfl (lv_at hl 1 rfl) ?_
    refine sy_aald hC hM hj hn hk_j (by omega) h3 a rfl (by omega) dX0_part_26 ?_
    exact sy_aret hC hr hlk hM hS rfl rfl (Nat.le_of_ble_eq_true rfl) (Nat.le_of_ble_eq_true rfl) dX0_part_27
  · refine lv_aload_n hx hb dX0_part_0 rfl (lv_at hl 0 rfl) ?_
    refine w_inst hC hX (k := 9) (f := 4) (by decide) (by decide) (sy_thRk hC.2.2.2.2 hM hj hn hk_j (by omega)) q284 rfl (b := false) rfl dX0_part_1 ?_
    refine b_ifeq (w := false) (tgt := 14) hx hb dX0_part_4 (by decide) (fun _ => ?_) (fun h => absurd (h.symm.trans rfl) (by decide))
    refine lv_aload_n hx hb dX0_part_14 rfl (lv_at hl 0 rfl) ?_
    refine w_inst hC hX (k := 9) (f := 10) (by decide) (by decide) (sy_thRk hC.2.2.2.2 hM hj hn hk_j (by omega)) q285 rfl (b := true) rfl dX0_part_15 ?_
    refine b_ifeq (w := true) (tgt := 28) hx hb dX0_part_18 (by decide) (fun h => absurd (h.symm.trans rfl) (by decide)) (fun _ => ?_)
    refine lv_aload_n hx hb dX0_part_21 rfl (lv_at hl 0 rfl) ?_
    refine w_cast hC hX (k := 9) (f := 10) (by decide) (by decide) (sy_thRk hC.2.2.2.2 hM hj hn hk_j (by omega)) q285 rfl rfl dX0_part_22 ?_
    refine lv_iload_n hx hb dX0_part_25 rfl (lv_at hl 1 rfl) ?_
    refine sy_aald hC hM hj hn hk_j (by omega) h3 a rfl (by omega) dX0_part_26 ?_
    exact sy_aret hC hr hlk hM hS rfl rfl (Nat.le_of_ble_eq_true rfl) (Nat.le_of_ble_eq_true rfl) dX0_part_27
  · refine lv_aload_n hx hb dX0_part_0 rfl (lv_at hl 0 rfl) ?_
    refine w_inst hC hX (k := 10) (f := 4) (by decide) (by decide) (sy_thRk hC.2.2.2.2 hM hj hn hk_j (by omega)) q284 rfl (b := false) rfl dX0_part_1 ?_
    refine b_ifeq (w := false) (tgt := 14) hx hb dX0_part_4 (by decide) (fun _ => ?_) (fun h => absurd (h.symm.trans rfl) (by decide))
    refine lv_aload_n hx hb dX0_part_14 rfl (lv_at hl 0 rfl) ?_
    refine w_inst hC hX (k := 10) (f := 10) (by decide) (by decide) (sy_thRk hC.2.2.2.2 hM hj hn hk_j (by omega)) q285 rfl (b := true) rfl dX0_part_15 ?_
    refine b_ifeq (w := true) (tgt := 28) hx hb dX0_part_18 (by decide) (fun h => absurd (h.symm.trans rfl) (by decide)) (fun _ => ?_)
    refine lv_aload_n hx hb dX0_part_21 rfl (lv_at hl 0 rfl) ?_
    refine w_cast hC hX (k := 10) (f := 10) (by decide) (by decide) (sy_thRk hC.2.2.2.2 hM hj hn hk_j (by omega)) q285 rfl rfl dX0_part_22 ?_
    refine lv_iload_n hx hb dX0_part_25 rfl (lv_at hl 1 rfl) ?_
    refine sy_aald hC hM hj hn hk_j (by omega) h3 a rfl (by omega) dX0_part_26 ?_
    exact sy_aret hC hr hlk hM hS rfl rfl (Nat.le_of_ble_eq_true rfl) (Nat.le_of_ble_eq_true rfl) dX0_part_27
  · refine lv_aload_n hx hb dX0_part_0 rfl (lv_at hl 0 rfl) ?_
    refine w_inst hC hX (k := 11) (f := 4) (by decide) (by decide) (sy_thRk hC.2.2.2.2 hM hj hn hk_j (by omega)) q284 rfl (b := false) rfl dX0_part_1 ?_
    refine b_ifeq (w := false) (tgt := 14) hx hb dX0_part_4 (by decide) (fun _ => ?_) (fun h => absurd (h.symm.trans rfl) (by decide))
    refine lv_aload_n hx hb dX0_part_14 rfl (lv_at hl 0 rfl) ?_
    refine w_inst hC hX (k := 11) (f := 10) (by decide) (by decide) (sy_thRk hC.2.2.2.2 hM hj hn hk_j (by omega)) q285 rfl (b := false) rfl dX0_part_15 ?_
    refine b_ifeq (w := false) (tgt := 28) hx hb dX0_part_18 (by decide) (fun _ => ?_) (fun h => absurd (h.symm.trans rfl) (by decide))
    refine lv_aload_n hx hb dX0_part_28 rfl (lv_at hl 0 rfl) ?_
    refine w_cast hC hX (k := 11) (f := 11) (by decide) (by decide) (sy_thRk hC.2.2.2.2 hM hj hn hk_j (by omega)) q286 rfl rfl dX0_part_29 ?_
    refine lv_iload_n hx hb dX0_part_32 rfl (lv_at hl 1 rfl) ?_
    refine sy_aald hC hM hj hn hk_j (by omega) h3 a rfl (by omega) dX0_part_33 ?_
    exact sy_aret hC hr hlk hM hS rfl rfl (Nat.le_of_ble_eq_true rfl) (Nat.le_of_ble_eq_true rfl) dX0_part_34
  · refine lv_aload_n hx hb dX0_part_0 rfl (lv_at hl 0 rfl) ?_
    refine w_inst hC hX (k := 12) (f := 4) (by decide) (by decide) (sy_thRk hC.2.2.2.2 hM hj hn hk_j (by omega)) q284 rfl (b := false) rfl dX0_part_1 ?_
    refine b_ifeq (w := false) (tgt := 14) hx hb dX0_part_4 (by decide) (fun _ => ?_) (fun h => absurd (h.symm.trans rfl) (by decide))
    refine lv_aload_n hx hb dX0_part_14 rfl (lv_at hl 0 rfl) ?_
    refine w_inst hC hX (k := 12) (f := 10) (by decide) (by decide) (sy_thRk hC.2.2.2.2 hM hj hn hk_j (by omega)) q285 rfl (b := false) rfl dX0_part_15 ?_
    refine b_ifeq (w := false) (tgt := 28) hx hb dX0_part_18 (by decide) (fun _ => ?_) (fun h => absurd (h.symm.trans rfl) (by decide))
    refine lv_aload_n hx hb dX0_part_28 rfl (lv_at hl 0 rfl) ?_
    refine w_cast hC hX (k := 12) (f := 11) (by decide) (by decide) (sy_thRk hC.2.2.2.2 hM hj hn hk_j (by omega)) q286 rfl rfl dX0_part_29 ?_
    refine lv_iload_n hx hb dX0_part_32 rfl (lv_at hl 1 rfl) ?_
    refine sy_aald hC hM hj hn hk_j (by omega) h3 a rfl (by omega) dX0_part_33 ?_
    exact sy_aret hC hr hlk hM hS rfl rfl (Nat.le_of_ble_eq_true rfl) (Nat.le_of_ble_eq_true rfl) dX0_part_34
theorem k_X0_part_cce (l : Launch) (hst : l.stackTraces = false) (D : va_G) (tc : Nat → ClassId) (x mo : Nat) (β : Nat → Nat) (μ : MS) (j : Nat) (hj : j < nn μ) (hn : nn μ ≤ 60) (hk : thgN (kd μ j) = false) (h12 : kd μ j ≤ 12) (i : Int32) : YX l yX0_part cX0_part 2 (some (.object "java/lang/Object")) 8 10300 D tc x mo β [.ref (β (64 + j)), .int i] μ 0 := by
  refine YX.of (by decide) rfl (Nat.le_of_ble_eq_true rfl) ?_
  intro p e s m below meth c hC hX hZ hlk hml htab hM hS ls hl
  have hx := hC.1
  have hb := hC.2.1
  have hts := hC.2.2.1
  have hown := hC.2.2.2.1
  have hl : lv_has ls 2 [(0, .ref (β (64 + j))), (1, .int i)] := hl
  rcases (by simp [thgN] at hk; omega : kd μ j = 0 ∨ kd μ j = 1 ∨ kd μ j = 2 ∨ kd μ j = 3 ∨ kd μ j = 5 ∨ kd μ j = 6 ∨ kd μ j = 7) with hk_j | hk_j | hk_j | hk_j | hk_j | hk_j | hk_j
  · refine lv_aload_n hx hb dX0_part_0 rfl (lv_at hl 0 rfl) ?_
    refine w_inst hC hX (k := 0) (f := 4) (by decide) (by decide) (sy_thRk hC.2.2.2.2 hM hj hn hk_j (by omega)) q284 rfl (b := false) rfl dX0_part_1 ?_
    refine b_ifeq (w := false) (tgt := 14) hx hb dX0_part_4 (by decide) (fun _ => ?_) (fun h => absurd (h.symm.trans rfl) (by decide))
    refine lv_aload_n hx hb dX0_part_14 rfl (lv_at hl 0 rfl) ?_
    refine w_inst hC hX (k := 0) (f := 10) (by decide) (by decide) (sy_thRk hC.2.2.2.2 hM hj hn hk_j (by omega)) q285 rfl (b := false) rfl dX0_part_15 ?_
    refine b_ifeq (w := false) (tgt := 28) hx hb dX0_part_18 (by decide) (fun _ => ?_) (fun h => absurd (h.symm.trans rfl) (by decide))
    refine lv_aload_n hx hb dX0_part_28 rfl (lv_at hl 0 rfl) ?_
    exact w_castNo hC hX (k := 0) (f := 11) (by decide) (by decide) (sy_thRk hC.2.2.2.2 hM hj hn hk_j (by omega)) q286 rfl rfl dX0_part_29 (fun tx b1 b2 => sy_throw hC hX hst hZ hS (hl.1.trans hml.symm) hlk htab 0 (by decide) b1 b2 (Nat.le_of_ble_eq_true rfl) (Nat.le_of_ble_eq_true rfl) (Nat.le_of_ble_eq_true rfl) (Nat.le_of_ble_eq_true rfl))
  · refine lv_aload_n hx hb dX0_part_0 rfl (lv_at hl 0 rfl) ?_
    refine w_inst hC hX (k := 1) (f := 4) (by decide) (by decide) (sy_thRk hC.2.2.2.2 hM hj hn hk_j (by omega)) q284 rfl (b := false) rfl dX0_part_1 ?_
    refine b_ifeq (w := false) (tgt := 14) hx hb dX0_part_4 (by decide) (fun _ => ?_) (fun h => absurd (h.symm.trans rfl) (by decide))
    refine lv_aload_n hx hb dX0_part_14 rfl (lv_at hl 0 rfl) ?_
    refine w_inst hC hX (k := 1) (f := 10) (by decide) (by decide) (sy_thRk hC.2.2.2.2 hM hj hn hk_j (by omega)) q285 rfl (b := false) rfl dX0_part_15 ?_
    refine b_ifeq (w := false) (tgt := 28) hx hb dX0_part_18 (by decide) (fun _ => ?_) (fun h => absurd (h.symm.trans rfl) (by decide))
    refine lv_aload_n hx hb dX0_part_28 rfl (lv_at hl 0 rfl) ?_
    exact w_castNo hC hX (k := 1) (f := 11) (by decide) (by decide) (sy_thRk hC.2.2.2.2 hM hj hn hk_j (by omega)) q286 rfl rfl dX0_part_29 (fun tx b1 b2 => sy_throw hC hX hst hZ hS (hl.1.trans hml.symm) hlk htab 0 (by decide) b1 b2 (Nat.le_of_ble_eq_true rfl) (Nat.le_of_ble_eq_true rfl) (Nat.le_of_ble_eq_true rfl) (Nat.le_of_ble_eq_true rfl))
  · refine lv_aload_n hx hb dX0_part_0 rfl (lv_at hl 0 rfl) ?_
    refine w_inst hC hX (k := 2) (f := 4) (by decide) (by decide) (sy_thRk hC.2.2.2.2 hM hj hn hk_j (by omega)) q284 rfl (b := false) rfl dX0_part_1 ?_
    refine b_ifeq (w := false) (tgt := 14) hx hb dX0_part_4 (by decide) (fun _ => ?_) (fun h => absurd (h.symm.trans rfl) (by decide))
    refine lv_aload_n hx hb dX0_part_14 rfl (lv_at hl 0 rfl) ?_
    refine w_inst hC hX (k := 2) (f := 10) (by decide) (by decide) (sy_thRk hC.2.2.2.2 hM hj hn hk_j (by omega)) q285 rfl (b := false) rfl dX0_part_15 ?_
    refine b_ifeq (w := false) (tgt := 28) hx hb dX0_part_18 (by decide) (fun _ => ?_) (fun h => absurd (h.symm.trans rfl) (by decide))
    refine lv_aload_n hx hb dX0_part_28 rfl (lv_at hl 0 rfl) ?_
    exact w_castNo hC hX (k := 2) (f := 11) (by decide) (by decide) (sy_thRk hC.2.2.2.2 hM hj hn hk_j (by omega)) q286 rfl rfl dX0_part_29 (fun tx b1 b2 => sy_throw hC hX hst hZ hS (hl.1.trans hml.symm) hlk htab 0 (by decide) b1 b2 (Nat.le_of_ble_eq_true rfl) (Nat.le_of_ble_eq_true rfl) (Nat.le_of_ble_eq_true rfl) (Nat.le_of_ble_eq_true rfl))
  · refine lv_aload_n hx hb dX0_part_0 rfl (lv_at hl 0 rfl) ?_
    refine w_inst hC hX (k := 3) (f := 4) (by decide) (by decide) (sy_thRk hC.2.2.2.2 hM hj hn hk_j (by omega)) q284 rfl (b := false) rfl dX0_part_1 ?_
    refine b_ifeq (w := false) (tgt := 14) hx hb dX0_part_4 (by decide) (fun _ => ?_) (fun h => absurd (h.symm.trans rfl) (by decide))
    refine lv_aload_n hx hb dX0_part_14 rfl (lv_at hl 0 rfl) ?_
    refine w_inst hC hX (k := 3) (f := 10) (by decide) (by decide) (sy_thRk hC.2.2.2.2 hM hj hn hk_j (by omega)) q285 rfl (b := false) rfl dX0_part_15 ?_
    refine b_ifeq (w := false) (tgt := 28) hx hb dX0_part_18 (by decide) (fun _ => ?_) (fun h => absurd (h.symm.trans rfl) (by decide))
    refine lv_aload_n hx hb dX0_part_28 rfl (lv_at hl 0 rfl) ?_
    exact w_castNo hC hX (k := 3) (f := 11) (by decide) (by decide) (sy_thRk hC.2.2.2.2 hM hj hn hk_j (by omega)) q286 rfl rfl dX0_part_29 (fun tx b1 b2 => sy_throw hC hX hst hZ hS (hl.1.trans hml.symm) hlk htab 0 (by decide) b1 b2 (Nat.le_of_ble_eq_true rfl) (Nat.le_of_ble_eq_true rfl) (Nat.le_of_ble_eq_true rfl) (Nat.le_of_ble_eq_true rfl))
  · refine lv_aload_n hx hb dX0_part_0 rfl (lv_at hl 0 rfl) ?_
    refine w_inst hC hX (k := 5) (f := 4) (by decide) (by decide) (sy_thRk hC.2.2.2.2 hM hj hn hk_j (by omega)) q284 rfl (b := false) rfl dX0_part_1 ?_
    refine b_ifeq (w := false) (tgt := 14) hx hb dX0_part_4 (by decide) (fun _ => ?_) (fun h => absurd (h.symm.trans rfl) (by decide))
    refine lv_aload_n hx hb dX0_part_14 rfl (lv_at hl 0 rfl) ?_
    refine w_inst hC hX (k := 5) (f := 10) (by decide) (by decide) (sy_thRk hC.2.2.2.2 hM hj hn hk_j (by omega)) q285 rfl (b := false) rfl dX0_part_15 ?_
    refine b_ifeq (w := false) (tgt := 28) hx hb dX0_part_18 (by decide) (fun _ => ?_) (fun h => absurd (h.symm.trans rfl) (by decide))
    refine lv_aload_n hx hb dX0_part_28 rfl (lv_at hl 0 rfl) ?_
    exact w_castNo hC hX (k := 5) (f := 11) (by decide) (by decide) (sy_thRk hC.2.2.2.2 hM hj hn hk_j (by omega)) q286 rfl rfl dX0_part_29 (fun tx b1 b2 => sy_throw hC hX hst hZ hS (hl.1.trans hml.symm) hlk htab 0 (by decide) b1 b2 (Nat.le_of_ble_eq_true rfl) (Nat.le_of_ble_eq_true rfl) (Nat.le_of_ble_eq_true rfl) (Nat.le_of_ble_eq_true rfl))
  · refine lv_aload_n hx hb dX0_part_0 rfl (lv_at hl 0 rfl) ?_
    refine w_inst hC hX (k := 6) (f := 4) (by decide) (by decide) (sy_thRk hC.2.2.2.2 hM hj hn hk_j (by omega)) q284 rfl (b := false) rfl dX0_part_1 ?_
    refine b_ifeq (w := false) (tgt := 14) hx hb dX0_part_4 (by decide) (fun _ => ?_) (fun h => absurd (h.symm.trans rfl) (by decide))
    refine lv_aload_n hx hb dX0_part_14 rfl (lv_at hl 0 rfl) ?_
    refine w_inst hC hX (k := 6) (f := 10) (by decide) (by decide) (sy_thRk hC.2.2.2.2 hM hj hn hk_j (by omega)) q285 rfl (b := false) rfl dX0_part_15 ?_
    refine b_ifeq (w := false) (tgt := 28) hx hb dX0_part_18 (by decide) (fun _ => ?_) (fun h => absurd (h.symm.trans rfl) (by decide))
    refine lv_aload_n hx hb dX0_part_28 rfl (lv_at hl 0 rfl) ?_
    exact w_castNo hC hX (k := 6) (f := 11) (by decide) (by decide) (sy_thRk hC.2.2.2.2 hM hj hn hk_j (by omega)) q286 rfl rfl dX0_part_29 (fun tx b1 b2 => sy_throw hC hX hst hZ hS (hl.1.trans hml.symm) hlk htab 0 (by decide) b1 b2 (Nat.le_of_ble_eq_true rfl) (Nat.le_of_ble_eq_true rfl) (Nat.le_of_ble_eq_true rfl) (Nat.le_of_ble_eq_true rfl))
  · refine lv_aload_n hx hb dX0_part_0 rfl (lv_at hl 0 rfl) ?_
    refine w_inst hC hX (k := 7) (f := 4) (by decide) (by decide) (sy_thRk hC.2.2.2.2 hM hj hn hk_j (by omega)) q284 rfl (b := false) rfl dX0_part_1 ?_
    refine b_ifeq (w := false) (tgt := 14) hx hb dX0_part_4 (by decide) (fun _ => ?_) (fun h => absurd (h.symm.trans rfl) (by decide))
    refine lv_aload_n hx hb dX0_part_14 rfl (lv_at hl 0 rfl) ?_
    refine w_inst hC hX (k := 7) (f := 10) (by decide) (by decide) (sy_thRk hC.2.2.2.2 hM hj hn hk_j (by omega)) q285 rfl (b := false) rfl dX0_part_15 ?_
    refine b_ifeq (w := false) (tgt := 28) hx hb dX0_part_18 (by decide) (fun _ => ?_) (fun h => absurd (h.symm.trans rfl) (by decide))
    refine lv_aload_n hx hb dX0_part_28 rfl (lv_at hl 0 rfl) ?_
    exact w_castNo hC hX (k := 7) (f := 11) (by decide) (by decide) (sy_thRk hC.2.2.2.2 hM hj hn hk_j (by omega)) q286 rfl rfl dX0_part_29 (fun tx b1 b2 => sy_throw hC hX hst hZ hS (hl.1.trans hml.symm) hlk htab 0 (by decide) b1 b2 (Nat.le_of_ble_eq_true rfl) (Nat.le_of_ble_eq_true rfl) (Nat.le_of_ble_eq_true rfl) (Nat.le_of_ble_eq_true rfl))
theorem k_X0_part_oob (l : Launch) (hst : l.stackTraces = false) (D : va_G) (tc : Nat → ClassId) (x mo : Nat) (β : Nat → Nat) (μ : MS) (j : Nat) (hj : j < nn μ) (hn : nn μ ≤ 60) (hk : thgN (kd μ j) = true) (h12 : kd μ j ≤ 12) (h3 : sz μ j ≤ 3) (i : Int32) (hout : ¬ vp_in i (sz μ j)) : YX l yX0_part cX0_part 2 (some (.object "java/lang/Object")) 8 10300 D tc x mo β [.ref (β (64 + j)), .int i] μ 1 := by
  refine YX.of (by decide) rfl (Nat.le_of_ble_eq_true rfl) ?_
  intro p e s m below meth c hC hX hZ hlk hml htab hM hS ls hl
  have hx := hC.1
  have hb := hC.2.1
  have hts := hC.2.2.1
  have hown := hC.2.2.2.1
  have hl : lv_has ls 2 [(0, .ref (β (64 + j))), (1, .int i)] := hl
  rcases (by simp [thgN] at hk; omega : kd μ j = 4 ∨ kd μ j = 8 ∨ kd μ j = 9 ∨ kd μ j = 10 ∨ kd μ j = 11 ∨ kd μ j = 12) with hk_j | hk_j | hk_j | hk_j | hk_j | hk_j
  · refine lv_aload_n hx hb dX0_part_0 rfl (lv_at hl 0 rfl) ?_
    refine w_inst hC hX (k := 4) (f := 4) (by decide) (by decide) (sy_thRk hC.2.2.2.2 hM hj hn hk_j (by omega)) q284 rfl (b := true) rfl dX0_part_1 ?_
    refine b_ifeq (w := true) (tgt := 14) hx hb dX0_part_4 (by decide) (fun h => absurd (h.symm.trans rfl) (by decide)) (fun _ => ?_)
    refine lv_aload_n hx hb dX0_part_7 rfl (lv_at hl 0 rfl) ?_
    refine w_cast hC hX (k := 4) (f := 4) (by decide) (by decide) (sy_thRk hC.2.2.2.2 hM hj hn hk_j (by omega)) q284 rfl rfl dX0_part_8 ?_
    refine lv_iload_n hx hb dX0_part_11 rfl (lv_at hl 1 rfl) ?_
    exact sy_aaldZ hC hM hj hn hk_j (by omega) h3 hout dX0_part_12 (fun tx b1 b2 => sy_throw hC hX hst hZ hS (hl.1.trans hml.symm) hlk htab 1 (by decide) b1 b2 (Nat.le_of_ble_eq_true rfl) (Nat.le_of_ble_eq_true rfl) (Nat.le_of_ble_eq_true rfl) (Nat.le_of_ble_eq_true rfl))
  · refine lv_aload_n hx hb dX0_part_0 rfl (lv_at hl 0 rfl) ?_
    refine w_inst hC hX (k := 8) (f := 4) (by decide) (by decide) (sy_thRk hC.2.2.2.2 hM hj hn hk_j (by omega)) q284 rfl (b := false) rfl dX0_part_1 ?_
    refine b_ifeq (w := false) (tgt := 14) hx hb dX0_part_4 (by decide) (fun _ => ?_) (fun h => absurd (h.symm.trans rfl) (by decide))
    refine lv_aload_n hx hb dX0_part_14 rfl (lv_at hl 0 rfl) ?_
    refine w_inst hC hX (k := 8) (f := 10) (by decide) (by decide) (sy_thRk hC.2.2.2.2 hM hj hn hk_j (by omega)) q285 rfl (b := true) rfl dX0_part_15 ?_
    refine b_ifeq (w := true) (tgt := 28) hx hb dX0_part_18 (by decide) (fun h => absurd (h.symm.trans rfl) (by decide)) (fun _ => ?_)
    refine lv_aload_n hx hb dX0_part_21 rfl (lv_at hl 0 rfl) ?_
    refine w_cast hC hX (k := 8) (f := 10) (by decide) (by decide) (sy_thRk hC.2.2.2.2 hM hj hn hk_j (by omega)) q285 rfl rfl dX0_part_22 ?_
    refine lv_iload_n hx hb dX0_part_25 rfl (lv_at hl 1 rfl) ?_
    exact sy_aaldZ hC hM hj hn hk_j (by omega) h3 hout dX0_part_26 (fun tx b1 b2 => sy_throw hC hX hst hZ hS (hl.1.trans hml.symm) hlk htab 1 (by decide) b1 b2 (Nat.le_of_ble_eq_true rfl) (Nat.le_of_ble_eq_true rfl) (Nat.le_of_ble_eq_true rfl) (Nat.le_of_ble_eq_true rfl))
  · refine lv_aload_n hx hb dX0_part_0 rfl (lv_at hl 0 rfl) ?_
    refine w_inst hC hX (k := 9) (f := 4) (by decide) (by decide) (sy_thRk hC.2.2.2.2 hM hj hn hk_j (by omega)) q284 rfl (b := false) rfl dX0_part_1 ?_
    refine b_ifeq (w := false) (tgt := 14) hx hb dX0_part_4 (by decide) (fun _ => ?_) (fun h => absurd (h.symm.trans rfl) (by decide))
    refine lv_aload_n hx hb dX0_part_14 rfl (lv_at hl 0 rfl) ?_
    refine w_inst hC hX (k := 9) (f := 10) (by decide) (by decide) (sy_thRk hC.2.2.2.2 hM hj hn hk_j (by omega)) q285 rfl (b := true) rfl dX0_part_15 ?_
    refine b_ifeq (w := true) (tgt := 28) hx hb dX0_part_18 (by decide) (fun h => absurd (h.symm.trans rfl) (by decide)) (fun _ => ?_)
    refine lv_aload_n hx hb dX0_part_21 rfl (lv_at hl 0 rfl) ?_
    refine w_cast hC hX (k := 9) (f := 10) (by decide) (by decide) (sy_thRk hC.2.2.2.2 hM hj hn hk_j (by omega)) q285 rfl rfl dX0_part_22 ?_
    refine lv_iload_n hx hb dX0_part_25 rfl (lv_at hl 1 rfl) ?_
    exact sy_aaldZ hC hM hj hn hk_j (by omega) h3 hout dX0_part_26 (fun tx b1 b2 => sy_throw hC hX hst hZ hS (hl.1.trans hml.symm) hlk htab 1 (by decide) b1 b2 (Nat.le_of_ble_eq_true rfl) (Nat.le_of_ble_eq_true rfl) (Nat.le_of_ble_eq_true rfl) (Nat.le_of_ble_eq_true rfl))
  · refine lv_aload_n hx hb dX0_part_0 rfl (lv_at hl 0 rfl) ?_
    refine w_inst hC hX (k := 10) (f := 4) (by decide) (by decide) (sy_thRk hC.2.2.2.2 hM hj hn hk_j (by omega)) q284 rfl (b := false) rfl dX0_part_1 ?_
    refine b_ifeq (w := false) (tgt := 14) hx hb dX0_part_4 (by decide) (fun _ => ?_) (fun h => absurd (h.symm.trans rfl) (by decide))
    refine lv_aload_n hx hb dX0_part_14 rfl (lv_at hl 0 rfl) ?_
    refine w_inst hC hX (k := 10) (f := 10) (by decide) (by decide) (sy_thRk hC.2.2.2.2 hM hj hn hk_j (by omega)) q285 rfl (b := true) rfl dX0_part_15 ?_
    refine b_ifeq (w := true) (tgt := 28) hx hb dX0_part_18 (by decide) (fun h => absurd (h.symm.trans rfl) (by decide)) (fun _ => ?_)
    refine lv_aload_n hx hb dX0_part_21 rfl (lv_at hl 0 rfl) ?_
    refine w_cast hC hX (k := 10) (f := 10) (by decide) (by decide) (sy_thRk hC.2.2.2.2 hM hj hn hk_j (by omega)) q285 rfl rfl dX0_part_22 ?_
    refine lv_iload_n hx hb dX0_part_25 rfl (lv_at hl 1 rfl) ?_
    exact sy_aaldZ hC hM hj hn hk_j (by omega) h3 hout dX0_part_26 (fun tx b1 b2 => sy_throw hC hX hst hZ hS (hl.1.trans hml.symm) hlk htab 1 (by decide) b1 b2 (Nat.le_of_ble_eq_true rfl) (Nat.le_of_ble_eq_true rfl) (Nat.le_of_ble_eq_true rfl) (Nat.le_of_ble_eq_true rfl))
  · refine lv_aload_n hx hb dX0_part_0 rfl (lv_at hl 0 rfl) ?_
    refine w_inst hC hX (k := 11) (f := 4) (by decide) (by decide) (sy_thRk hC.2.2.2.2 hM hj hn hk_j (by omega)) q284 rfl (b := false) rfl dX0_part_1 ?_
    refine b_ifeq (w := false) (tgt := 14) hx hb dX0_part_4 (by decide) (fun _ => ?_) (fun h => absurd (h.symm.trans rfl) (by decide))
    refine lv_aload_n hx hb dX0_part_14 rfl (lv_at hl 0 rfl) ?_
    refine w_inst hC hX (k := 11) (f := 10) (by decide) (by decide) (sy_thRk hC.2.2.2.2 hM hj hn hk_j (by omega)) q285 rfl (b := false) rfl dX0_part_15 ?_
    refine b_ifeq (w := false) (tgt := 28) hx hb dX0_part_18 (by decide) (fun _ => ?_) (fun h => absurd (h.symm.trans rfl) (by decide))
    refine lv_aload_n hx hb dX0_part_28 rfl (lv_at hl 0 rfl) ?_
    refine w_cast hC hX (k := 11) (f := 11) (by decide) (by decide) (sy_thRk hC.2.2.2.2 hM hj hn hk_j (by omega)) q286 rfl rfl dX0_part_29 ?_
    refine lv_iload_n hx hb dX0_part_32 rfl (lv_at hl 1 rfl) ?_
    exact sy_aaldZ hC hM hj hn hk_j (by omega) h3 hout dX0_part_33 (fun tx b1 b2 => sy_throw hC hX hst hZ hS (hl.1.trans hml.symm) hlk htab 1 (by decide) b1 b2 (Nat.le_of_ble_eq_true rfl) (Nat.le_of_ble_eq_true rfl) (Nat.le_of_ble_eq_true rfl) (Nat.le_of_ble_eq_true rfl))
  · refine lv_aload_n hx hb dX0_part_0 rfl (lv_at hl 0 rfl) ?_
    refine w_inst hC hX (k := 12) (f := 4) (by decide) (by decide) (sy_thRk hC.2.2.2.2 hM hj hn hk_j (by omega)) q284 rfl (b := false) rfl dX0_part_1 ?_
    refine b_ifeq (w := false) (tgt := 14) hx hb dX0_part_4 (by decide) (fun _ => ?_) (fun h => absurd (h.symm.trans rfl) (by decide))
    refine lv_aload_n hx hb dX0_part_14 rfl (lv_at hl 0 rfl) ?_
    refine w_inst hC hX (k := 12) (f := 10) (by decide) (by decide) (sy_thRk hC.2.2.2.2 hM hj hn hk_j (by omega)) q285 rfl (b := false) rfl dX0_part_15 ?_
    refine b_ifeq (w := false) (tgt := 28) hx hb dX0_part_18 (by decide) (fun _ => ?_) (fun h => absurd (h.symm.trans rfl) (by decide))
    refine lv_aload_n hx hb dX0_part_28 rfl (lv_at hl 0 rfl) ?_
    refine w_cast hC hX (k := 12) (f := 11) (by decide) (by decide) (sy_thRk hC.2.2.2.2 hM hj hn hk_j (by omega)) q286 rfl rfl dX0_part_29 ?_
    refine lv_iload_n hx hb dX0_part_32 rfl (lv_at hl 1 rfl) ?_
    exact sy_aaldZ hC hM hj hn hk_j (by omega) h3 hout dX0_part_33 (fun tx b1 b2 => sy_throw hC hX hst hZ hS (hl.1.trans hml.symm) hlk htab 1 (by decide) b1 b2 (Nat.le_of_ble_eq_true rfl) (Nat.le_of_ble_eq_true rfl) (Nat.le_of_ble_eq_true rfl) (Nat.le_of_ble_eq_true rfl))
theorem k_X0_size (l : Launch) (hst : l.stackTraces = false) (D : va_G) (tc : Nat → ClassId) (x mo : Nat) (β : Nat → Nat) (μ : MS) (j : Nat) (hj : j < nn μ) (hn : nn μ ≤ 60) (h12 : kd μ j ≤ 12) : YC l yX0_size cX0_size 1 (some .int) 0 0 0 0 D tc x mo β [.ref (β (64 + j))] μ μ (some (.int (talI μ j))) := by
  refine YC.of (by decide) rfl (Nat.le_of_ble_eq_true rfl) ?_
  intro p e s m below meth c hC hX hZ hr hlk hml hM hS ls hl
  have hx := hC.1
  have hb := hC.2.1
  have hts := hC.2.2.1
  have hown := hC.2.2.2.1
  have hl : lv_has ls 1 [(0, .ref (β (64 + j)))] := hl
  rcases (by omega : kd μ j = 0 ∨ kd μ j = 1 ∨ kd μ j = 2 ∨ kd μ j = 3 ∨ kd μ j = 4 ∨ kd μ j = 5 ∨ kd μ j = 6 ∨ kd μ j = 7 ∨ kd μ j = 8 ∨ kd μ j = 9 ∨ kd μ j = 10 ∨ kd μ j = 11 ∨ kd μ j = 12) with hk_j | hk_j | hk_j | hk_j | hk_j | hk_j | hk_j | hk_j | hk_j | hk_j | hk_j | hk_j | hk_j
  · refine lv_aload_n hx hb dX0_size_0 rfl (lv_at hl 0 rfl) ?_
    refine w_inst hC hX (k := 0) (f := 0) (by decide) (by decide) (sy_thRk hC.2.2.2.2 hM hj hn hk_j (by omega)) q100 rfl (b := true) rfl dX0_size_1 ?_
    refine b_ifeq (w := true) (tgt := 13) hx hb dX0_size_4 (by decide) (fun h => absurd (h.symm.trans rfl) (by decide)) (fun _ => ?_)
    refine lv_aload_n hx hb dX0_size_7 rfl (lv_at hl 0 rfl) ?_
    refine w_cast hC hX (k := 0) (f := 0) (by decide) (by decide) (sy_thRk hC.2.2.2.2 hM hj hn hk_j (by omega)) q100 rfl rfl dX0_size_8 ?_
    refine sy_alen hC hM hj hn (by have := hk_j; show kd μ j ≤ 12; omega) (by rw [show kd μ j = 0 from hk_j]; rfl) dX0_size_11 ?_
    exact sy_iret hC hr hlk hM hS rfl (by unfold talI; rw [hk_j]; rfl) (Nat.le_of_ble_eq_true rfl) (Nat.le_of_ble_eq_true rfl) dX0_size_12
  · refine lv_aload_n hx hb dX0_size_0 rfl (lv_at hl 0 rfl) ?_
    refine w_inst hC hX (k := 1) (f := 0) (by decide) (by decide) (sy_thRk hC.2.2.2.2 hM hj hn hk_j (by omega)) q100 rfl (b := false) rfl dX0_size_1 ?_
    refine b_ifeq (w := false) (tgt := 13) hx hb dX0_size_4 (by decide) (fun _ => ?_) (fun h => absurd (h.symm.trans rfl) (by decide))
    refine lv_aload_n hx hb dX0_size_13 rfl (lv_at hl 0 rfl) ?_
    refine w_inst hC hX (k := 1) (f := 1) (by decide) (by decide) (sy_thRk hC.2.2.2.2 hM hj hn hk_j (by omega)) q252 rfl (b := true) rfl dX0_size_14 ?_
    refine b_ifeq (w := true) (tgt := 26) hx hb dX0_size_17 (by decide) (fun h => absurd (h.symm.trans rfl) (by decide)) (fun _ => ?_)
    refine lv_aload_n hx hb dX0_size_20 rfl (lv_at hl 0 rfl) ?_
    refine w_cast hC hX (k := 1) (f := 1) (by decide) (by decide) (sy_thRk hC.2.2.2.2 hM hj hn hk_j (by omega)) q252 rfl rfl dX0_size_21 ?_
    refine sy_alen hC hM hj hn (by have := hk_j; show kd μ j ≤ 12; omega) (by rw [show kd μ j = 1 from hk_j]; rfl) dX0_size_24 ?_
    exact sy_iret hC hr hlk hM hS rfl (by unfold talI; rw [hk_j]; rfl) (Nat.le_of_ble_eq_true rfl) (Nat.le_of_ble_eq_true rfl) dX0_size_25
  · refine lv_aload_n hx hb dX0_size_0 rfl (lv_at hl 0 rfl) ?_
    refine w_inst hC hX (k := 2) (f := 0) (by decide) (by decide) (sy_thRk hC.2.2.2.2 hM hj hn hk_j (by omega)) q100 rfl (b := false) rfl dX0_size_1 ?_
    refine b_ifeq (w := false) (tgt := 13) hx hb dX0_size_4 (by decide) (fun _ => ?_) (fun h => absurd (h.symm.trans rfl) (by decide))
    refine lv_aload_n hx hb dX0_size_13 rfl (lv_at hl 0 rfl) ?_
    refine w_inst hC hX (k := 2) (f := 1) (by decide) (by decide) (sy_thRk hC.2.2.2.2 hM hj hn hk_j (by omega)) q252 rfl (b := false) rfl dX0_size_14 ?_
    refine b_ifeq (w := false) (tgt := 26) hx hb dX0_size_17 (by decide) (fun _ => ?_) (fun h => absurd (h.symm.trans rfl) (by decide))
    refine lv_aload_n hx hb dX0_size_26 rfl (lv_at hl 0 rfl) ?_
    refine w_inst hC hX (k := 2) (f := 2) (by decide) (by decide) (sy_thRk hC.2.2.2.2 hM hj hn hk_j (by omega)) q253 rfl (b := true) rfl dX0_size_27 ?_
    refine b_ifeq (w := true) (tgt := 39) hx hb dX0_size_30 (by decide) (fun h => absurd (h.symm.trans rfl) (by decide)) (fun _ => ?_)
    refine lv_aload_n hx hb dX0_size_33 rfl (lv_at hl 0 rfl) ?_
    refine w_cast hC hX (k := 2) (f := 2) (by decide) (by decide) (sy_thRk hC.2.2.2.2 hM hj hn hk_j (by omega)) q253 rfl rfl dX0_size_34 ?_
    refine sy_alen hC hM hj hn (by have := hk_j; show kd μ j ≤ 12; omega) (by rw [show kd μ j = 2 from hk_j]; rfl) dX0_size_37 ?_
    exact sy_iret hC hr hlk hM hS rfl (by unfold talI; rw [hk_j]; rfl) (Nat.le_of_ble_eq_true rfl) (Nat.le_of_ble_eq_true rfl) dX0_size_38
  · refine lv_aload_n hx hb dX0_size_0 rfl (lv_at hl 0 rfl) ?_
    refine w_inst hC hX (k := 3) (f := 0) (by decide) (by decide) (sy_thRk hC.2.2.2.2 hM hj hn hk_j (by omega)) q100 rfl (b := false) rfl dX0_size_1 ?_
    refine b_ifeq (w := false) (tgt := 13) hx hb dX0_size_4 (by decide) (fun _ => ?_) (fun h => absurd (h.symm.trans rfl) (by decide))
    refine lv_aload_n hx hb dX0_size_13 rfl (lv_at hl 0 rfl) ?_
    refine w_inst hC hX (k := 3) (f := 1) (by decide) (by decide) (sy_thRk hC.2.2.2.2 hM hj hn hk_j (by omega)) q252 rfl (b := false) rfl dX0_size_14 ?_
    refine b_ifeq (w := false) (tgt := 26) hx hb dX0_size_17 (by decide) (fun _ => ?_) (fun h => absurd (h.symm.trans rfl) (by decide))
    refine lv_aload_n hx hb dX0_size_26 rfl (lv_at hl 0 rfl) ?_
    refine w_inst hC hX (k := 3) (f := 2) (by decide) (by decide) (sy_thRk hC.2.2.2.2 hM hj hn hk_j (by omega)) q253 rfl (b := false) rfl dX0_size_27 ?_
    refine b_ifeq (w := false) (tgt := 39) hx hb dX0_size_30 (by decide) (fun _ => ?_) (fun h => absurd (h.symm.trans rfl) (by decide))
    refine lv_aload_n hx hb dX0_size_39 rfl (lv_at hl 0 rfl) ?_
    refine w_inst hC hX (k := 3) (f := 3) (by decide) (by decide) (sy_thRk hC.2.2.2.2 hM hj hn hk_j (by omega)) q255 rfl (b := true) rfl dX0_size_40 ?_
    refine b_ifeq (w := true) (tgt := 52) hx hb dX0_size_43 (by decide) (fun h => absurd (h.symm.trans rfl) (by decide)) (fun _ => ?_)
    refine lv_aload_n hx hb dX0_size_46 rfl (lv_at hl 0 rfl) ?_
    refine w_cast hC hX (k := 3) (f := 3) (by decide) (by decide) (sy_thRk hC.2.2.2.2 hM hj hn hk_j (by omega)) q255 rfl rfl dX0_size_47 ?_
    refine sy_alen hC hM hj hn (by have := hk_j; show kd μ j ≤ 12; omega) (by rw [show kd μ j = 3 from hk_j]; rfl) dX0_size_50 ?_
    exact sy_iret hC hr hlk hM hS rfl (by unfold talI; rw [hk_j]; rfl) (Nat.le_of_ble_eq_true rfl) (Nat.le_of_ble_eq_true rfl) dX0_size_51
  · refine lv_aload_n hx hb dX0_size_0 rfl (lv_at hl 0 rfl) ?_
    refine w_inst hC hX (k := 4) (f := 0) (by decide) (by decide) (sy_thRk hC.2.2.2.2 hM hj hn hk_j (by omega)) q100 rfl (b := false) rfl dX0_size_1 ?_
    refine b_ifeq (w := false) (tgt := 13) hx hb dX0_size_4 (by decide) (fun _ => ?_) (fun h => absurd (h.symm.trans rfl) (by decide))
    refine lv_aload_n hx hb dX0_size_13 rfl (lv_at hl 0 rfl) ?_
    refine w_inst hC hX (k := 4) (f := 1) (by decide) (by decide) (sy_thRk hC.2.2.2.2 hM hj hn hk_j (by omega)) q252 rfl (b := false) rfl dX0_size_14 ?_
    refine b_ifeq (w := false) (tgt := 26) hx hb dX0_size_17 (by decide) (fun _ => ?_) (fun h => absurd (h.symm.trans rfl) (by decide))
    refine lv_aload_n hx hb dX0_size_26 rfl (lv_at hl 0 rfl) ?_
    refine w_inst hC hX (k := 4) (f := 2) (by decide) (by decide) (sy_thRk hC.2.2.2.2 hM hj hn hk_j (by omega)) q253 rfl (b := false) rfl dX0_size_27 ?_
    refine b_ifeq (w := false) (tgt := 39) hx hb dX0_size_30 (by decide) (fun _ => ?_) (fun h => absurd (h.symm.trans rfl) (by decide))
    refine lv_aload_n hx hb dX0_size_39 rfl (lv_at hl 0 rfl) ?_
    refine w_inst hC hX (k := 4) (f := 3) (by decide) (by decide) (sy_thRk hC.2.2.2.2 hM hj hn hk_j (by omega)) q255 rfl (b := false) rfl dX0_size_40 ?_
    refine b_ifeq (w := false) (tgt := 52) hx hb dX0_size_43 (by decide) (fun _ => ?_) (fun h => absurd (h.symm.trans rfl) (by decide))
    refine lv_aload_n hx hb dX0_size_52 rfl (lv_at hl 0 rfl) ?_
    refine w_inst hC hX (k := 4) (f := 4) (by decide) (by decide) (sy_thRk hC.2.2.2.2 hM hj hn hk_j (by omega)) q284 rfl (b := true) rfl dX0_size_53 ?_
    refine b_ifeq (w := true) (tgt := 65) hx hb dX0_size_56 (by decide) (fun h => absurd (h.symm.trans rfl) (by decide)) (fun _ => ?_)
    refine lv_aload_n hx hb dX0_size_59 rfl (lv_at hl 0 rfl) ?_
    refine w_cast hC hX (k := 4) (f := 4) (by decide) (by decide) (sy_thRk hC.2.2.2.2 hM hj hn hk_j (by omega)) q284 rfl rfl dX0_size_60 ?_
    refine sy_alen hC hM hj hn (by have := hk_j; show kd μ j ≤ 12; omega) (by rw [show kd μ j = 4 from hk_j]; rfl) dX0_size_63 ?_
    exact sy_iret hC hr hlk hM hS rfl (by unfold talI; rw [hk_j]; rfl) (Nat.le_of_ble_eq_true rfl) (Nat.le_of_ble_eq_true rfl) dX0_size_64
  · refine lv_aload_n hx hb dX0_size_0 rfl (lv_at hl 0 rfl) ?_
    refine w_inst hC hX (k := 5) (f := 0) (by decide) (by decide) (sy_thRk hC.2.2.2.2 hM hj hn hk_j (by omega)) q100 rfl (b := false) rfl dX0_size_1 ?_
    refine b_ifeq (w := false) (tgt := 13) hx hb dX0_size_4 (by decide) (fun _ => ?_) (fun h => absurd (h.symm.trans rfl) (by decide))
    refine lv_aload_n hx hb dX0_size_13 rfl (lv_at hl 0 rfl) ?_
    refine w_inst hC hX (k := 5) (f := 1) (by decide) (by decide) (sy_thRk hC.2.2.2.2 hM hj hn hk_j (by omega)) q252 rfl (b := false) rfl dX0_size_14 ?_
    refine b_ifeq (w := false) (tgt := 26) hx hb dX0_size_17 (by decide) (fun _ => ?_) (fun h => absurd (h.symm.trans rfl) (by decide))
    refine lv_aload_n hx hb dX0_size_26 rfl (lv_at hl 0 rfl) ?_
    refine w_inst hC hX (k := 5) (f := 2) (by decide) (by decide) (sy_thRk hC.2.2.2.2 hM hj hn hk_j (by omega)) q253 rfl (b := false) rfl dX0_size_27 ?_
    refine b_ifeq (w := false) (tgt := 39) hx hb dX0_size_30 (by decide) (fun _ => ?_) (fun h => absurd (h.symm.trans rfl) (by decide))
    refine lv_aload_n hx hb dX0_size_39 rfl (lv_at hl 0 rfl) ?_
    refine w_inst hC hX (k := 5) (f := 3) (by decide) (by decide) (sy_thRk hC.2.2.2.2 hM hj hn hk_j (by omega)) q255 rfl (b := false) rfl dX0_size_40 ?_
    refine b_ifeq (w := false) (tgt := 52) hx hb dX0_size_43 (by decide) (fun _ => ?_) (fun h => absurd (h.symm.trans rfl) (by decide))
    refine lv_aload_n hx hb dX0_size_52 rfl (lv_at hl 0 rfl) ?_
    refine w_inst hC hX (k := 5) (f := 4) (by decide) (by decide) (sy_thRk hC.2.2.2.2 hM hj hn hk_j (by omega)) q284 rfl (b := false) rfl dX0_size_53 ?_
    refine b_ifeq (w := false) (tgt := 65) hx hb dX0_size_56 (by decide) (fun _ => ?_) (fun h => absurd (h.symm.trans rfl) (by decide))
    refine lv_aload_n hx hb dX0_size_65 rfl (lv_at hl 0 rfl) ?_
    refine w_inst hC hX (k := 5) (f := 10) (by decide) (by decide) (sy_thRk hC.2.2.2.2 hM hj hn hk_j (by omega)) q285 rfl (b := false) rfl dX0_size_66 ?_
    refine b_ifeq (w := false) (tgt := 78) hx hb dX0_size_69 (by decide) (fun _ => ?_) (fun h => absurd (h.symm.trans rfl) (by decide))
    refine lv_aload_n hx hb dX0_size_78 rfl (lv_at hl 0 rfl) ?_
    refine w_inst hC hX (k := 5) (f := 11) (by decide) (by decide) (sy_thRk hC.2.2.2.2 hM hj hn hk_j (by omega)) q286 rfl (b := false) rfl dX0_size_79 ?_
    refine b_ifeq (w := false) (tgt := 93) hx hb dX0_size_82 (by decide) (fun _ => ?_) (fun h => absurd (h.symm.trans rfl) (by decide))
    refine lv_iconst (v := 1) hx hb dX0_size_93 (by decide) ?_
    exact sy_iret hC hr hlk hM hS rfl (by unfold talI; rw [hk_j]; rfl) (Nat.le_of_ble_eq_true rfl) (Nat.le_of_ble_eq_true rfl) dX0_size_94
  · refine lv_aload_n hx hb dX0_size_0 rfl (lv_at hl 0 rfl) ?_
    refine w_inst hC hX (k := 6) (f := 0) (by decide) (by decide) (sy_thRk hC.2.2.2.2 hM hj hn hk_j (by omega)) q100 rfl (b := false) rfl dX0_size_1 ?_
    refine b_ifeq (w := false) (tgt := 13) hx hb dX0_size_4 (by decide) (fun _ => ?_) (fun h => absurd (h.symm.trans rfl) (by decide))
    refine lv_aload_n hx hb dX0_size_13 rfl (lv_at hl 0 rfl) ?_
    refine w_inst hC hX (k := 6) (f := 1) (by decide) (by decide) (sy_thRk hC.2.2.2.2 hM hj hn hk_j (by omega)) q252 rfl (b := false) rfl dX0_size_14 ?_
    refine b_ifeq (w := false) (tgt := 26) hx hb dX0_size_17 (by decide) (fun _ => ?_) (fun h => absurd (h.symm.trans rfl) (by decide))
    refine lv_aload_n hx hb dX0_size_26 rfl (lv_at hl 0 rfl) ?_
    refine w_inst hC hX (k := 6) (f := 2) (by decide) (by decide) (sy_thRk hC.2.2.2.2 hM hj hn hk_j (by omega)) q253 rfl (b := false) rfl dX0_size_27 ?_
    refine b_ifeq (w := false) (tgt := 39) hx hb dX0_size_30 (by decide) (fun _ => ?_) (fun h => absurd (h.symm.trans rfl) (by decide))
    refine lv_aload_n hx hb dX0_size_39 rfl (lv_at hl 0 rfl) ?_
    refine w_inst hC hX (k := 6) (f := 3) (by decide) (by decide) (sy_thRk hC.2.2.2.2 hM hj hn hk_j (by omega)) q255 rfl (b := false) rfl dX0_size_40 ?_
    refine b_ifeq (w := false) (tgt := 52) hx hb dX0_size_43 (by decide) (fun _ => ?_) (fun h => absurd (h.symm.trans rfl) (by decide))
    refine lv_aload_n hx hb dX0_size_52 rfl (lv_at hl 0 rfl) ?_
    refine w_inst hC hX (k := 6) (f := 4) (by decide) (by decide) (sy_thRk hC.2.2.2.2 hM hj hn hk_j (by omega)) q284 rfl (b := false) rfl dX0_size_53 ?_
    refine b_ifeq (w := false) (tgt := 65) hx hb dX0_size_56 (by decide) (fun _ => ?_) (fun h => absurd (h.symm.trans rfl) (by decide))
    refine lv_aload_n hx hb dX0_size_65 rfl (lv_at hl 0 rfl) ?_
    refine w_inst hC hX (k := 6) (f := 10) (by decide) (by decide) (sy_thRk hC.2.2.2.2 hM hj hn hk_j (by omega)) q285 rfl (b := false) rfl dX0_size_66 ?_
    refine b_ifeq (w := false) (tgt := 78) hx hb dX0_size_69 (by decide) (fun _ => ?_) (fun h => absurd (h.symm.trans rfl) (by decide))
    refine lv_aload_n hx hb dX0_size_78 rfl (lv_at hl 0 rfl) ?_
    refine w_inst hC hX (k := 6) (f := 11) (by decide) (by decide) (sy_thRk hC.2.2.2.2 hM hj hn hk_j (by omega)) q286 rfl (b := false) rfl dX0_size_79 ?_
    refine b_ifeq (w := false) (tgt := 93) hx hb dX0_size_82 (by decide) (fun _ => ?_) (fun h => absurd (h.symm.trans rfl) (by decide))
    refine lv_iconst (v := 1) hx hb dX0_size_93 (by decide) ?_
    exact sy_iret hC hr hlk hM hS rfl (by unfold talI; rw [hk_j]; rfl) (Nat.le_of_ble_eq_true rfl) (Nat.le_of_ble_eq_true rfl) dX0_size_94
  · refine lv_aload_n hx hb dX0_size_0 rfl (lv_at hl 0 rfl) ?_
    refine w_inst hC hX (k := 7) (f := 0) (by decide) (by decide) (sy_thRk hC.2.2.2.2 hM hj hn hk_j (by omega)) q100 rfl (b := false) rfl dX0_size_1 ?_
    refine b_ifeq (w := false) (tgt := 13) hx hb dX0_size_4 (by decide) (fun _ => ?_) (fun h => absurd (h.symm.trans rfl) (by decide))
    refine lv_aload_n hx hb dX0_size_13 rfl (lv_at hl 0 rfl) ?_
    refine w_inst hC hX (k := 7) (f := 1) (by decide) (by decide) (sy_thRk hC.2.2.2.2 hM hj hn hk_j (by omega)) q252 rfl (b := false) rfl dX0_size_14 ?_
    refine b_ifeq (w := false) (tgt := 26) hx hb dX0_size_17 (by decide) (fun _ => ?_) (fun h => absurd (h.symm.trans rfl) (by decide))
    refine lv_aload_n hx hb dX0_size_26 rfl (lv_at hl 0 rfl) ?_
    refine w_inst hC hX (k := 7) (f := 2) (by decide) (by decide) (sy_thRk hC.2.2.2.2 hM hj hn hk_j (by omega)) q253 rfl (b := false) rfl dX0_size_27 ?_
    refine b_ifeq (w := false) (tgt := 39) hx hb dX0_size_30 (by decide) (fun _ => ?_) (fun h => absurd (h.symm.trans rfl) (by decide))
    refine lv_aload_n hx hb dX0_size_39 rfl (lv_at hl 0 rfl) ?_
    refine w_inst hC hX (k := 7) (f := 3) (by decide) (by decide) (sy_thRk hC.2.2.2.2 hM hj hn hk_j (by omega)) q255 rfl (b := false) rfl dX0_size_40 ?_
    refine b_ifeq (w := false) (tgt := 52) hx hb dX0_size_43 (by decide) (fun _ => ?_) (fun h => absurd (h.symm.trans rfl) (by decide))
    refine lv_aload_n hx hb dX0_size_52 rfl (lv_at hl 0 rfl) ?_
    refine w_inst hC hX (k := 7) (f := 4) (by decide) (by decide) (sy_thRk hC.2.2.2.2 hM hj hn hk_j (by omega)) q284 rfl (b := false) rfl dX0_size_53 ?_
    refine b_ifeq (w := false) (tgt := 65) hx hb dX0_size_56 (by decide) (fun _ => ?_) (fun h => absurd (h.symm.trans rfl) (by decide))
    refine lv_aload_n hx hb dX0_size_65 rfl (lv_at hl 0 rfl) ?_
    refine w_inst hC hX (k := 7) (f := 10) (by decide) (by decide) (sy_thRk hC.2.2.2.2 hM hj hn hk_j (by omega)) q285 rfl (b := false) rfl dX0_size_66 ?_
    refine b_ifeq (w := false) (tgt := 78) hx hb dX0_size_69 (by decide) (fun _ => ?_) (fun h => absurd (h.symm.trans rfl) (by decide))
    refine lv_aload_n hx hb dX0_size_78 rfl (lv_at hl 0 rfl) ?_
    refine w_inst hC hX (k := 7) (f := 11) (by decide) (by decide) (sy_thRk hC.2.2.2.2 hM hj hn hk_j (by omega)) q286 rfl (b := false) rfl dX0_size_79 ?_
    refine b_ifeq (w := false) (tgt := 93) hx hb dX0_size_82 (by decide) (fun _ => ?_) (fun h => absurd (h.symm.trans rfl) (by decide))
    refine lv_iconst (v := 1) hx hb dX0_size_93 (by decide) ?_
    exact sy_iret hC hr hlk hM hS rfl (by unfold talI; rw [hk_j]; rfl) (Nat.le_of_ble_eq_true rfl) (Nat.le_of_ble_eq_true rfl) dX0_size_94
  · refine lv_aload_n hx hb dX0_size_0 rfl (lv_at hl 0 rfl) ?_
    refine w_inst hC hX (k := 8) (f := 0) (by decide) (by decide) (sy_thRk hC.2.2.2.2 hM hj hn hk_j (by omega)) q100 rfl (b := false) rfl dX0_size_1 ?_
    refine b_ifeq (w := false) (tgt := 13) hx hb dX0_size_4 (by decide) (fun _ => ?_) (fun h => absurd (h.symm.trans rfl) (by decide))
    refine lv_aload_n hx hb dX0_size_13 rfl (lv_at hl 0 rfl) ?_
    refine w_inst hC hX (k := 8) (f := 1) (by decide) (by decide) (sy_thRk hC.2.2.2.2 hM hj hn hk_j (by omega)) q252 rfl (b := false) rfl dX0_size_14 ?_
    refine b_ifeq (w := false) (tgt := 26) hx hb dX0_size_17 (by decide) (fun _ => ?_) (fun h => absurd (h.symm.trans rfl) (by decide))
    refine lv_aload_n hx hb dX0_size_26 rfl (lv_at hl 0 rfl) ?_
    refine w_inst hC hX (k := 8) (f := 2) (by decide) (by decide) (sy_thRk hC.2.2.2.2 hM hj hn hk_j (by omega)) q253 rfl (b := false) rfl dX0_size_27 ?_
    refine b_ifeq (w := false) (tgt := 39) hx hb dX0_size_30 (by decide) (fun _ => ?_) (fun h => absurd (h.symm.trans rfl) (by decide))
    refine lv_aload_n hx hb dX0_size_39 rfl (lv_at hl 0 rfl) ?_
    refine w_inst hC hX (k := 8) (f := 3) (by decide) (by decide) (sy_thRk hC.2.2.2.2 hM hj hn hk_j (by omega)) q255 rfl (b := false) rfl dX0_size_40 ?_
    refine b_ifeq (w := false) (tgt := 52) hx hb dX0_size_43 (by decide) (fun _ => ?_) (fun h => absurd (h.symm.trans rfl) (by decide))
    refine lv_aload_n hx hb dX0_size_52 rfl (lv_at hl 0 rfl) ?_
    refine w_inst hC hX (k := 8) (f := 4) (by decide) (by decide) (sy_thRk hC.2.2.2.2 hM hj hn hk_j (by omega)) q284 rfl (b := false) rfl dX0_size_53 ?_
    refine b_ifeq (w := false) (tgt := 65) hx hb dX0_size_56 (by decide) (fun _ => ?_) (fun h => absurd (h.symm.trans rfl) (by decide))
    refine lv_aload_n hx hb dX0_size_65 rfl (lv_at hl 0 rfl) ?_
    refine w_inst hC hX (k := 8) (f := 10) (by decide) (by decide) (sy_thRk hC.2.2.2.2 hM hj hn hk_j (by omega)) q285 rfl (b := true) rfl dX0_size_66 ?_
    refine b_ifeq (w := true) (tgt := 78) hx hb dX0_size_69 (by decide) (fun h => absurd (h.symm.trans rfl) (by decide)) (fun _ => ?_)
    refine lv_aload_n hx hb dX0_size_72 rfl (lv_at hl 0 rfl) ?_
    refine w_cast hC hX (k := 8) (f := 10) (by decide) (by decide) (sy_thRk hC.2.2.2.2 hM hj hn hk_j (by omega)) q285 rfl rfl dX0_size_73 ?_
    refine sy_alen hC hM hj hn (by have := hk_j; show kd μ j ≤ 12; omega) (by rw [show kd μ j = 8 from hk_j]; rfl) dX0_size_76 ?_
    exact sy_iret hC hr hlk hM hS rfl (by unfold talI; rw [hk_j]; rfl) (Nat.le_of_ble_eq_true rfl) (Nat.le_of_ble_eq_true rfl) dX0_size_77
  · refine lv_aload_n hx hb dX0_size_0 rfl (lv_at hl 0 rfl) ?_
    refine w_inst hC hX (k := 9) (f := 0) (by decide) (by decide) (sy_thRk hC.2.2.2.2 hM hj hn hk_j (by omega)) q100 rfl (b := false) rfl dX0_size_1 ?_
    refine b_ifeq (w := false) (tgt := 13) hx hb dX0_size_4 (by decide) (fun _ => ?_) (fun h => absurd (h.symm.trans rfl) (by decide))
    refine lv_aload_n hx hb dX0_size_13 rfl (lv_at hl 0 rfl) ?_
    refine w_inst hC hX (k := 9) (f := 1) (by decide) (by decide) (sy_thRk hC.2.2.2.2 hM hj hn hk_j (by omega)) q252 rfl (b := false) rfl dX0_size_14 ?_
    refine b_ifeq (w := false) (tgt := 26) hx hb dX0_size_17 (by decide) (fun _ => ?_) (fun h => absurd (h.symm.trans rfl) (by decide))
    refine lv_aload_n hx hb dX0_size_26 rfl (lv_at hl 0 rfl) ?_
    refine w_inst hC hX (k := 9) (f := 2) (by decide) (by decide) (sy_thRk hC.2.2.2.2 hM hj hn hk_j (by omega)) q253 rfl (b := false) rfl dX0_size_27 ?_
    refine b_ifeq (w := false) (tgt := 39) hx hb dX0_size_30 (by decide) (fun _ => ?_) (fun h => absurd (h.symm.trans rfl) (by decide))
    refine lv_aload_n hx hb dX0_size_39 rfl (lv_at hl 0 rfl) ?_
    refine w_inst hC hX (k := 9) (f := 3) (by decide) (by decide) (sy_thRk hC.2.2.2.2 hM hj hn hk_j (by omega)) q255 rfl (b := false) rfl dX0_size_40 ?_
    refine b_ifeq (w := false) (tgt := 52) hx hb dX0_size_43 (by decide) (fun _ => ?_) (fun h => absurd (h.symm.trans rfl) (by decide))
    refine lv_aload_n hx hb dX0_size_52 rfl (lv_at hl 0 rfl) ?_
    refine w_inst hC hX (k := 9) (f := 4) (by decide) (by decide) (sy_thRk hC.2.2.2.2 hM hj hn hk_j (by omega)) q284 rfl (b := false) rfl dX0_size_53 ?_
    refine b_ifeq (w := false) (tgt := 65) hx hb dX0_size_56 (by decide) (fun _ => ?_) (fun h => absurd (h.symm.trans rfl) (by decide))
    refine lv_aload_n hx hb dX0_size_65 rfl (lv_at hl 0 rfl) ?_
    refine w_inst hC hX (k := 9) (f := 10) (by decide) (by decide) (sy_thRk hC.2.2.2.2 hM hj hn hk_j (by omega)) q285 rfl (b := true) rfl dX0_size_66 ?_
    refine b_ifeq (w := true) (tgt := 78) hx hb dX0_size_69 (by decide) (fun h => absurd (h.symm.trans rfl) (by decide)) (fun _ => ?_)
    refine lv_aload_n hx hb dX0_size_72 rfl (lv_at hl 0 rfl) ?_
    refine w_cast hC hX (k := 9) (f := 10) (by decide) (by decide) (sy_thRk hC.2.2.2.2 hM hj hn hk_j (by omega)) q285 rfl rfl dX0_size_73 ?_
    refine sy_alen hC hM hj hn (by have := hk_j; show kd μ j ≤ 12; omega) (by rw [show kd μ j = 9 from hk_j]; rfl) dX0_size_76 ?_
    exact sy_iret hC hr hlk hM hS rfl (by unfold talI; rw [hk_j]; rfl) (Nat.le_of_ble_eq_true rfl) (Nat.le_of_ble_eq_true rfl) dX0_size_77
  · refine lv_aload_n hx hb dX0_size_0 rfl (lv_at hl 0 rfl) ?_
    refine w_inst hC hX (k := 10) (f := 0) (by decide) (by decide) (sy_thRk hC.2.2.2.2 hM hj hn hk_j (by omega)) q100 rfl (b := false) rfl dX0_size_1 ?_
    refine b_ifeq (w := false) (tgt := 13) hx hb dX0_size_4 (by decide) (fun _ => ?_) (fun h => absurd (h.symm.trans rfl) (by decide))
    refine lv_aload_n hx hb dX0_size_13 rfl (lv_at hl 0 rfl) ?_
    refine w_inst hC hX (k := 10) (f := 1) (by decide) (by decide) (sy_thRk hC.2.2.2.2 hM hj hn hk_j (by omega)) q252 rfl (b := false) rfl dX0_size_14 ?_
    refine b_ifeq (w := false) (tgt := 26) hx hb dX0_size_17 (by decide) (fun _ => ?_) (fun h => absurd (h.symm.trans rfl) (by decide))
    refine lv_aload_n hx hb dX0_size_26 rfl (lv_at hl 0 rfl) ?_
    refine w_inst hC hX (k := 10) (f := 2) (by decide) (by decide) (sy_thRk hC.2.2.2.2 hM hj hn hk_j (by omega)) q253 rfl (b := false) rfl dX0_size_27 ?_
    refine b_ifeq (w := false) (tgt := 39) hx hb dX0_size_30 (by decide) (fun _ => ?_) (fun h => absurd (h.symm.trans rfl) (by decide))
    refine lv_aload_n hx hb dX0_size_39 rfl (lv_at hl 0 rfl) ?_
    refine w_inst hC hX (k := 10) (f := 3) (by decide) (by decide) (sy_thRk hC.2.2.2.2 hM hj hn hk_j (by omega)) q255 rfl (b := false) rfl dX0_size_40 ?_
    refine b_ifeq (w := false) (tgt := 52) hx hb dX0_size_43 (by decide) (fun _ => ?_) (fun h => absurd (h.symm.trans rfl) (by decide))
    refine lv_aload_n hx hb dX0_size_52 rfl (lv_at hl 0 rfl) ?_
    refine w_inst hC hX (k := 10) (f := 4) (by decide) (by decide) (sy_thRk hC.2.2.2.2 hM hj hn hk_j (by omega)) q284 rfl (b := false) rfl dX0_size_53 ?_
    refine b_ifeq (w := false) (tgt := 65) hx hb dX0_size_56 (by decide) (fun _ => ?_) (fun h => absurd (h.symm.trans rfl) (by decide))
    refine lv_aload_n hx hb dX0_size_65 rfl (lv_at hl 0 rfl) ?_
    refine w_inst hC hX (k := 10) (f := 10) (by decide) (by decide) (sy_thRk hC.2.2.2.2 hM hj hn hk_j (by omega)) q285 rfl (b := true) rfl dX0_size_66 ?_
    refine b_ifeq (w := true) (tgt := 78) hx hb dX0_size_69 (by decide) (fun h => absurd (h.symm.trans rfl) (by decide)) (fun _ => ?_)
    refine lv_aload_n hx hb dX0_size_72 rfl (lv_at hl 0 rfl) ?_
    refine w_cast hC hX (k := 10) (f := 10) (by decide) (by decide) (sy_thRk hC.2.2.2.2 hM hj hn hk_j (by omega)) q285 rfl rfl dX0_size_73 ?_
    refine sy_alen hC hM hj hn (by have := hk_j; show kd μ j ≤ 12; omega) (by rw [show kd μ j = 10 from hk_j]; rfl) dX0_size_76 ?_
    exact sy_iret hC hr hlk hM hS rfl (by unfold talI; rw [hk_j]; rfl) (Nat.le_of_ble_eq_true rfl) (Nat.le_of_ble_eq_true rfl) dX0_size_77
  · refine lv_aload_n hx hb dX0_size_0 rfl (lv_at hl 0 rfl) ?_
    refine w_inst hC hX (k := 11) (f := 0) (by decide) (by decide) (sy_thRk hC.2.2.2.2 hM hj hn hk_j (by omega)) q100 rfl (b := false) rfl dX0_size_1 ?_
    refine b_ifeq (w := false) (tgt := 13) hx hb dX0_size_4 (by decide) (fun _ => ?_) (fun h => absurd (h.symm.trans rfl) (by decide))
    refine lv_aload_n hx hb dX0_size_13 rfl (lv_at hl 0 rfl) ?_
    refine w_inst hC hX (k := 11) (f := 1) (by decide) (by decide) (sy_thRk hC.2.2.2.2 hM hj hn hk_j (by omega)) q252 rfl (b := false) rfl dX0_size_14 ?_
    refine b_ifeq (w := false) (tgt := 26) hx hb dX0_size_17 (by decide) (fun _ => ?_) (fun h => absurd (h.symm.trans rfl) (by decide))
    refine lv_aload_n hx hb dX0_size_26 rfl (lv_at hl 0 rfl) ?_
    refine w_inst hC hX (k := 11) (f := 2) (by decide) (by decide) (sy_thRk hC.2.2.2.2 hM hj hn hk_j (by omega)) q253 rfl (b := false) rfl dX0_size_27 ?_
    refine b_ifeq (w := false) (tgt := 39) hx hb dX0_size_30 (by decide) (fun _ => ?_) (fun h => absurd (h.symm.trans rfl) (by decide))
    refine lv_aload_n hx hb dX0_size_39 rfl (lv_at hl 0 rfl) ?_
    refine w_inst hC hX (k := 11) (f := 3) (by decide) (by decide) (sy_thRk hC.2.2.2.2 hM hj hn hk_j (by omega)) q255 rfl (b := false) rfl dX0_size_40 ?_
    refine b_ifeq (w := false) (tgt := 52) hx hb dX0_size_43 (by decide) (fun _ => ?_) (fun h => absurd (h.symm.trans rfl) (by decide))
    refine lv_aload_n hx hb dX0_size_52 rfl (lv_at hl 0 rfl) ?_
    refine w_inst hC hX (k := 11) (f := 4) (by decide) (by decide) (sy_thRk hC.2.2.2.2 hM hj hn hk_j (by omega)) q284 rfl (b := false) rfl dX0_size_53 ?_
    refine b_ifeq (w := false) (tgt := 65) hx hb dX0_size_56 (by decide) (fun _ => ?_) (fun h => absurd (h.symm.trans rfl) (by decide))
    refine lv_aload_n hx hb dX0_size_65 rfl (lv_at hl 0 rfl) ?_
    refine w_inst hC hX (k := 11) (f := 10) (by decide) (by decide) (sy_thRk hC.2.2.2.2 hM hj hn hk_j (by omega)) q285 rfl (b := false) rfl dX0_size_66 ?_
    refine b_ifeq (w := false) (tgt := 78) hx hb dX0_size_69 (by decide) (fun _ => ?_) (fun h => absurd (h.symm.trans rfl) (by decide))
    refine lv_aload_n hx hb dX0_size_78 rfl (lv_at hl 0 rfl) ?_
    refine w_inst hC hX (k := 11) (f := 11) (by decide) (by decide) (sy_thRk hC.2.2.2.2 hM hj hn hk_j (by omega)) q286 rfl (b := true) rfl dX0_size_79 ?_
    refine b_ifeq (w := true) (tgt := 93) hx hb dX0_size_82 (by decide) (fun h => absurd (h.symm.trans rfl) (by decide)) (fun _ => ?_)
    refine lv_aload_n hx hb dX0_size_85 rfl (lv_at hl 0 rfl) ?_
    refine w_cast hC hX (k := 11) (f := 11) (by decide) (by decide) (sy_thRk hC.2.2.2.2 hM hj hn hk_j (by omega)) q286 rfl rfl dX0_size_86 ?_
    refine sy_alen hC hM hj hn (by have := hk_j; show kd μ j ≤ 12; omega) (by rw [show kd μ j = 11 from hk_j]; rfl) dX0_size_89 ?_
    refine lv_goto (tgt := 94) hx hb dX0_size_90 (by decide) ?_
    exact sy_iret hC hr hlk hM hS rfl (by unfold talI; rw [hk_j]; rfl) (Nat.le_of_ble_eq_true rfl) (Nat.le_of_ble_eq_true rfl) dX0_size_94
  · refine lv_aload_n hx hb dX0_size_0 rfl (lv_at hl 0 rfl) ?_
    refine w_inst hC hX (k := 12) (f := 0) (by decide) (by decide) (sy_thRk hC.2.2.2.2 hM hj hn hk_j (by omega)) q100 rfl (b := false) rfl dX0_size_1 ?_
    refine b_ifeq (w := false) (tgt := 13) hx hb dX0_size_4 (by decide) (fun _ => ?_) (fun h => absurd (h.symm.trans rfl) (by decide))
    refine lv_aload_n hx hb dX0_size_13 rfl (lv_at hl 0 rfl) ?_
    refine w_inst hC hX (k := 12) (f := 1) (by decide) (by decide) (sy_thRk hC.2.2.2.2 hM hj hn hk_j (by omega)) q252 rfl (b := false) rfl dX0_size_14 ?_
    refine b_ifeq (w := false) (tgt := 26) hx hb dX0_size_17 (by decide) (fun _ => ?_) (fun h => absurd (h.symm.trans rfl) (by decide))
    refine lv_aload_n hx hb dX0_size_26 rfl (lv_at hl 0 rfl) ?_
    refine w_inst hC hX (k := 12) (f := 2) (by decide) (by decide) (sy_thRk hC.2.2.2.2 hM hj hn hk_j (by omega)) q253 rfl (b := false) rfl dX0_size_27 ?_
    refine b_ifeq (w := false) (tgt := 39) hx hb dX0_size_30 (by decide) (fun _ => ?_) (fun h => absurd (h.symm.trans rfl) (by decide))
    refine lv_aload_n hx hb dX0_size_39 rfl (lv_at hl 0 rfl) ?_
    refine w_inst hC hX (k := 12) (f := 3) (by decide) (by decide) (sy_thRk hC.2.2.2.2 hM hj hn hk_j (by omega)) q255 rfl (b := false) rfl dX0_size_40 ?_
    refine b_ifeq (w := false) (tgt := 52) hx hb dX0_size_43 (by decide) (fun _ => ?_) (fun h => absurd (h.symm.trans rfl) (by decide))
    refine lv_aload_n hx hb dX0_size_52 rfl (lv_at hl 0 rfl) ?_
    refine w_inst hC hX (k := 12) (f := 4) (by decide) (by decide) (sy_thRk hC.2.2.2.2 hM hj hn hk_j (by omega)) q284 rfl (b := false) rfl dX0_size_53 ?_
    refine b_ifeq (w := false) (tgt := 65) hx hb dX0_size_56 (by decide) (fun _ => ?_) (fun h => absurd (h.symm.trans rfl) (by decide))
    refine lv_aload_n hx hb dX0_size_65 rfl (lv_at hl 0 rfl) ?_
    refine w_inst hC hX (k := 12) (f := 10) (by decide) (by decide) (sy_thRk hC.2.2.2.2 hM hj hn hk_j (by omega)) q285 rfl (b := false) rfl dX0_size_66 ?_
    refine b_ifeq (w := false) (tgt := 78) hx hb dX0_size_69 (by decide) (fun _ => ?_) (fun h => absurd (h.symm.trans rfl) (by decide))
    refine lv_aload_n hx hb dX0_size_78 rfl (lv_at hl 0 rfl) ?_
    refine w_inst hC hX (k := 12) (f := 11) (by decide) (by decide) (sy_thRk hC.2.2.2.2 hM hj hn hk_j (by omega)) q286 rfl (b := true) rfl dX0_size_79 ?_
    refine b_ifeq (w := true) (tgt := 93) hx hb dX0_size_82 (by decide) (fun h => absurd (h.symm.trans rfl) (by decide)) (fun _ => ?_)
    refine lv_aload_n hx hb dX0_size_85 rfl (lv_at hl 0 rfl) ?_
    refine w_cast hC hX (k := 12) (f := 11) (by decide) (by decide) (sy_thRk hC.2.2.2.2 hM hj hn hk_j (by omega)) q286 rfl rfl dX0_size_86 ?_
    refine sy_alen hC hM hj hn (by have := hk_j; show kd μ j ≤ 12; omega) (by rw [show kd μ j = 12 from hk_j]; rfl) dX0_size_89 ?_
    refine lv_goto (tgt := 94) hx hb dX0_size_90 (by decide) ?_
    exact sy_iret hC hr hlk hM hS rfl (by unfold talI; rw [hk_j]; rfl) (Nat.le_of_ble_eq_true rfl) (Nat.le_of_ble_eq_true rfl) dX0_size_94
theorem k_X0_isOfThings (l : Launch) (hst : l.stackTraces = false) (D : va_G) (tc : Nat → ClassId) (x mo : Nat) (β : Nat → Nat) (μ : MS) (j : Nat) (hj : j < nn μ) (hn : nn μ ≤ 60) (h12 : kd μ j ≤ 12) : YC l yX0_isOfThings cX0_isOfThings 1 (some .boolean) 0 0 0 0 D tc x mo β [.ref (β (64 + j))] μ μ (some (.int (bI (thgN (kd μ j))))) := by
  refine YC.of (by decide) rfl (Nat.le_of_ble_eq_true rfl) ?_
  intro p e s m below meth c hC hX hZ hr hlk hml hM hS ls hl
  have hx := hC.1
  have hb := hC.2.1
  have hts := hC.2.2.1
  have hown := hC.2.2.2.1
  have hl : lv_has ls 1 [(0, .ref (β (64 + j)))] := hl
  rcases (by omega : kd μ j = 0 ∨ kd μ j = 1 ∨ kd μ j = 2 ∨ kd μ j = 3 ∨ kd μ j = 4 ∨ kd μ j = 5 ∨ kd μ j = 6 ∨ kd μ j = 7 ∨ kd μ j = 8 ∨ kd μ j = 9 ∨ kd μ j = 10 ∨ kd μ j = 11 ∨ kd μ j = 12) with hk_j | hk_j | hk_j | hk_j | hk_j | hk_j | hk_j | hk_j | hk_j | hk_j | hk_j | hk_j | hk_j
  · refine lv_aload_n hx hb dX0_isOfThings_0 rfl (lv_at hl 0 rfl) ?_
    refine w_inst hC hX (k := 0) (f := 4) (by decide) (by decide) (sy_thRk hC.2.2.2.2 hM hj hn hk_j (by omega)) q284 rfl (b := false) rfl dX0_isOfThings_1 ?_
    refine b_ifne (w := false) (tgt := 21) hx hb dX0_isOfThings_4 (by decide) (fun h => absurd (h.symm.trans rfl) (by decide)) (fun _ => ?_)
    refine lv_aload_n hx hb dX0_isOfThings_7 rfl (lv_at hl 0 rfl) ?_
    refine w_inst hC hX (k := 0) (f := 10) (by decide) (by decide) (sy_thRk hC.2.2.2.2 hM hj hn hk_j (by omega)) q285 rfl (b := false) rfl dX0_isOfThings_8 ?_
    refine b_ifne (w := false) (tgt := 21) hx hb dX0_isOfThings_11 (by decide) (fun h => absurd (h.symm.trans rfl) (by decide)) (fun _ => ?_)
    refine lv_aload_n hx hb dX0_isOfThings_14 rfl (lv_at hl 0 rfl) ?_
    refine w_inst hC hX (k := 0) (f := 11) (by decide) (by decide) (sy_thRk hC.2.2.2.2 hM hj hn hk_j (by omega)) q286 rfl (b := false) rfl dX0_isOfThings_15 ?_
    refine b_ifeq (w := false) (tgt := 25) hx hb dX0_isOfThings_18 (by decide) (fun _ => ?_) (fun h => absurd (h.symm.trans rfl) (by decide))
    refine lv_iconst (v := 0) hx hb dX0_isOfThings_25 (by decide) ?_
    exact sy_zret hC hr hlk hM hS rfl (by rw [hk_j]; rfl) (Nat.le_of_ble_eq_true rfl) (Nat.le_of_ble_eq_true rfl) dX0_isOfThings_26
  · refine lv_aload_n hx hb dX0_isOfThings_0 rfl (lv_at hl 0 rfl) ?_
    refine w_inst hC hX (k := 1) (f := 4) (by decide) (by decide) (sy_thRk hC.2.2.2.2 hM hj hn hk_j (by omega)) q284 rfl (b := false) rfl dX0_isOfThings_1 ?_
    refine b_ifne (w := false) (tgt := 21) hx hb dX0_isOfThings_4 (by decide) (fun h => absurd (h.symm.trans rfl) (by decide)) (fun _ => ?_)
    refine lv_aload_n hx hb dX0_isOfThings_7 rfl (lv_at hl 0 rfl) ?_
    refine w_inst hC hX (k := 1) (f := 10) (by decide) (by decide) (sy_thRk hC.2.2.2.2 hM hj hn hk_j (by omega)) q285 rfl (b := false) rfl dX0_isOfThings_8 ?_
    refine b_ifne (w := false) (tgt := 21) hx hb dX0_isOfThings_11 (by decide) (fun h => absurd (h.symm.trans rfl) (by decide)) (fun _ => ?_)
    refine lv_aload_n hx hb dX0_isOfThings_14 rfl (lv_at hl 0 rfl) ?_
    refine w_inst hC hX (k := 1) (f := 11) (by decide) (by decide) (sy_thRk hC.2.2.2.2 hM hj hn hk_j (by omega)) q286 rfl (b := false) rfl dX0_isOfThings_15 ?_
    refine b_ifeq (w := false) (tgt := 25) hx hb dX0_isOfThings_18 (by decide) (fun _ => ?_) (fun h => absurd (h.symm.trans rfl) (by decide))
    refine lv_iconst (v := 0) hx hb dX0_isOfThings_25 (by decide) ?_
    exact sy_zret hC hr hlk hM hS rfl (by rw [hk_j]; rfl) (Nat.le_of_ble_eq_true rfl) (Nat.le_of_ble_eq_true rfl) dX0_isOfThings_26
  · refine lv_aload_n hx hb dX0_isOfThings_0 rfl (lv_at hl 0 rfl) ?_
    refine w_inst hC hX (k := 2) (f := 4) (by decide) (by decide) (sy_thRk hC.2.2.2.2 hM hj hn hk_j (by omega)) q284 rfl (b := false) rfl dX0_isOfThings_1 ?_
    refine b_ifne (w := false) (tgt := 21) hx hb dX0_isOfThings_4 (by decide) (fun h => absurd (h.symm.trans rfl) (by decide)) (fun _ => ?_)
    refine lv_aload_n hx hb dX0_isOfThings_7 rfl (lv_at hl 0 rfl) ?_
    refine w_inst hC hX (k := 2) (f := 10) (by decide) (by decide) (sy_thRk hC.2.2.2.2 hM hj hn hk_j (by omega)) q285 rfl (b := false) rfl dX0_isOfThings_8 ?_
    refine b_ifne (w := false) (tgt := 21) hx hb dX0_isOfThings_11 (by decide) (fun h => absurd (h.symm.trans rfl) (by decide)) (fun _ => ?_)
    refine lv_aload_n hx hb dX0_isOfThings_14 rfl (lv_at hl 0 rfl) ?_
    refine w_inst hC hX (k := 2) (f := 11) (by decide) (by decide) (sy_thRk hC.2.2.2.2 hM hj hn hk_j (by omega)) q286 rfl (b := false) rfl dX0_isOfThings_15 ?_
    refine b_ifeq (w := false) (tgt := 25) hx hb dX0_isOfThings_18 (by decide) (fun _ => ?_) (fun h => absurd (h.symm.trans rfl) (by decide))
    refine lv_iconst (v := 0) hx hb dX0_isOfThings_25 (by decide) ?_
    exact sy_zret hC hr hlk hM hS rfl (by rw [hk_j]; rfl) (Nat.le_of_ble_eq_true rfl) (Nat.le_of_ble_eq_true rfl) dX0_isOfThings_26
  · refine lv_aload_n hx hb dX0_isOfThings_0 rfl (lv_at hl 0 rfl) ?_
    refine w_inst hC hX (k := 3) (f := 4) (by decide) (by decide) (sy_thRk hC.2.2.2.2 hM hj hn hk_j (by omega)) q284 rfl (b := false) rfl dX0_isOfThings_1 ?_
    refine b_ifne (w := false) (tgt := 21) hx hb dX0_isOfThings_4 (by decide) (fun h => absurd (h.symm.trans rfl) (by decide)) (fun _ => ?_)
    refine lv_aload_n hx hb dX0_isOfThings_7 rfl (lv_at hl 0 rfl) ?_
    refine w_inst hC hX (k := 3) (f := 10) (by decide) (by decide) (sy_thRk hC.2.2.2.2 hM hj hn hk_j (by omega)) q285 rfl (b := false) rfl dX0_isOfThings_8 ?_
    refine b_ifne (w := false) (tgt := 21) hx hb dX0_isOfThings_11 (by decide) (fun h => absurd (h.symm.trans rfl) (by decide)) (fun _ => ?_)
    refine lv_aload_n hx hb dX0_isOfThings_14 rfl (lv_at hl 0 rfl) ?_
    refine w_inst hC hX (k := 3) (f := 11) (by decide) (by decide) (sy_thRk hC.2.2.2.2 hM hj hn hk_j (by omega)) q286 rfl (b := false) rfl dX0_isOfThings_15 ?_
    refine b_ifeq (w := false) (tgt := 25) hx hb dX0_isOfThings_18 (by decide) (fun _ => ?_) (fun h => absurd (h.symm.trans rfl) (by decide))
    refine lv_iconst (v := 0) hx hb dX0_isOfThings_25 (by decide) ?_
    exact sy_zret hC hr hlk hM hS rfl (by rw [hk_j]; rfl) (Nat.le_of_ble_eq_true rfl) (Nat.le_of_ble_eq_true rfl) dX0_isOfThings_26
  · refine lv_aload_n hx hb dX0_isOfThings_0 rfl (lv_at hl 0 rfl) ?_
    refine w_inst hC hX (k := 4) (f := 4) (by decide) (by decide) (sy_thRk hC.2.2.2.2 hM hj hn hk_j (by omega)) q284 rfl (b := true) rfl dX0_isOfThings_1 ?_
    refine b_ifne (w := true) (tgt := 21) hx hb dX0_isOfThings_4 (by decide) (fun _ => ?_) (fun h => absurd (h.symm.trans rfl) (by decide))
    refine lv_iconst (v := 1) hx hb dX0_isOfThings_21 (by decide) ?_
    refine lv_goto (tgt := 26) hx hb dX0_isOfThings_22 (by decide) ?_
    exact sy_zret hC hr hlk hM hS rfl (by rw [hk_j]; rfl) (Nat.le_of_ble_eq_true rfl) (Nat.le_of_ble_eq_true rfl) dX0_isOfThings_26
  · refine lv_aload_n hx hb dX0_isOfThings_0 rfl (lv_at hl 0 rfl) ?_
    refine w_inst hC hX (k := 5) (f := 4) (by decide) (by decide) (sy_thRk hC.2.2.2.2 hM hj hn hk_j (by omega)) q284 rfl (b := false) rfl dX0_isOfThings_1 ?_
    refine b_ifne (w := false) (tgt := 21) hx hb dX0_isOfThings_4 (by decide) (fun h => absurd (h.symm.trans rfl) (by decide)) (fun _ => ?_)
    refine lv_aload_n hx hb dX0_isOfThings_7 rfl (lv_at hl 0 rfl) ?_
    refine w_inst hC hX (k := 5) (f := 10) (by decide) (by decide) (sy_thRk hC.2.2.2.2 hM hj hn hk_j (by omega)) q285 rfl (b := false) rfl dX0_isOfThings_8 ?_
    refine b_ifne (w := false) (tgt := 21) hx hb dX0_isOfThings_11 (by decide) (fun h => absurd (h.symm.trans rfl) (by decide)) (fun _ => ?_)
    refine lv_aload_n hx hb dX0_isOfThings_14 rfl (lv_at hl 0 rfl) ?_
    refine w_inst hC hX (k := 5) (f := 11) (by decide) (by decide) (sy_thRk hC.2.2.2.2 hM hj hn hk_j (by omega)) q286 rfl (b := false) rfl dX0_isOfThings_15 ?_
    refine b_ifeq (w := false) (tgt := 25) hx hb dX0_isOfThings_18 (by decide) (fun _ => ?_) (fun h => absurd (h.symm.trans rfl) (by decide))
    refine lv_iconst (v := 0) hx hb dX0_isOfThings_25 (by decide) ?_
    exact sy_zret hC hr hlk hM hS rfl (by rw [hk_j]; rfl) (Nat.le_of_ble_eq_true rfl) (Nat.le_of_ble_eq_true rfl) dX0_isOfThings_26
  · refine lv_aload_n hx hb dX0_isOfThings_0 rfl (lv_at hl 0 rfl) ?_
    refine w_inst hC hX (k := 6) (f := 4) (by decide) (by decide) (sy_thRk hC.2.2.2.2 hM hj hn hk_j (by omega)) q284 rfl (b := false) rfl dX0_isOfThings_1 ?_
    refine b_ifne (w := false) (tgt := 21) hx hb dX0_isOfThings_4 (by decide) (fun h => absurd (h.symm.trans rfl) (by decide)) (fun _ => ?_)
    refine lv_aload_n hx hb dX0_isOfThings_7 rfl (lv_at hl 0 rfl) ?_
    refine w_inst hC hX (k := 6) (f := 10) (by decide) (by decide) (sy_thRk hC.2.2.2.2 hM hj hn hk_j (by omega)) q285 rfl (b := false) rfl dX0_isOfThings_8 ?_
    refine b_ifne (w := false) (tgt := 21) hx hb dX0_isOfThings_11 (by decide) (fun h => absurd (h.symm.trans rfl) (by decide)) (fun _ => ?_)
    refine lv_aload_n hx hb dX0_isOfThings_14 rfl (lv_at hl 0 rfl) ?_
    refine w_inst hC hX (k := 6) (f := 11) (by decide) (by decide) (sy_thRk hC.2.2.2.2 hM hj hn hk_j (by omega)) q286 rfl (b := false) rfl dX0_isOfThings_15 ?_
    refine b_ifeq (w := false) (tgt := 25) hx hb dX0_isOfThings_18 (by decide) (fun _ => ?_) (fun h => absurd (h.symm.trans rfl) (by decide))
    refine lv_iconst (v := 0) hx hb dX0_isOfThings_25 (by decide) ?_
    exact sy_zret hC hr hlk hM hS rfl (by rw [hk_j]; rfl) (Nat.le_of_ble_eq_true rfl) (Nat.le_of_ble_eq_true rfl) dX0_isOfThings_26
  · refine lv_aload_n hx hb dX0_isOfThings_0 rfl (lv_at hl 0 rfl) ?_
    refine w_inst hC hX (k := 7) (f := 4) (by decide) (by decide) (sy_thRk hC.2.2.2.2 hM hj hn hk_j (by omega)) q284 rfl (b := false) rfl dX0_isOfThings_1 ?_
    refine b_ifne (w := false) (tgt := 21) hx hb dX0_isOfThings_4 (by decide) (fun h => absurd (h.symm.trans rfl) (by decide)) (fun _ => ?_)
    refine lv_aload_n hx hb dX0_isOfThings_7 rfl (lv_at hl 0 rfl) ?_
    refine w_inst hC hX (k := 7) (f := 10) (by decide) (by decide) (sy_thRk hC.2.2.2.2 hM hj hn hk_j (by omega)) q285 rfl (b := false) rfl dX0_isOfThings_8 ?_
    refine b_ifne (w := false) (tgt := 21) hx hb dX0_isOfThings_11 (by decide) (fun h => absurd (h.symm.trans rfl) (by decide)) (fun _ => ?_)
    refine lv_aload_n hx hb dX0_isOfThings_14 rfl (lv_at hl 0 rfl) ?_
    refine w_inst hC hX (k := 7) (f := 11) (by decide) (by decide) (sy_thRk hC.2.2.2.2 hM hj hn hk_j (by omega)) q286 rfl (b := false) rfl dX0_isOfThings_15 ?_
    refine b_ifeq (w := false) (tgt := 25) hx hb dX0_isOfThings_18 (by decide) (fun _ => ?_) (fun h => absurd (h.symm.trans rfl) (by decide))
    refine lv_iconst (v := 0) hx hb dX0_isOfThings_25 (by decide) ?_
    exact sy_zret hC hr hlk hM hS rfl (by rw [hk_j]; rfl) (Nat.le_of_ble_eq_true rfl) (Nat.le_of_ble_eq_true rfl) dX0_isOfThings_26
  · refine lv_aload_n hx hb dX0_isOfThings_0 rfl (lv_at hl 0 rfl) ?_
    refine w_inst hC hX (k := 8) (f := 4) (by decide) (by decide) (sy_thRk hC.2.2.2.2 hM hj hn hk_j (by omega)) q284 rfl (b := false) rfl dX0_isOfThings_1 ?_
    refine b_ifne (w := false) (tgt := 21) hx hb dX0_isOfThings_4 (by decide) (fun h => absurd (h.symm.trans rfl) (by decide)) (fun _ => ?_)
    refine lv_aload_n hx hb dX0_isOfThings_7 rfl (lv_at hl 0 rfl) ?_
    refine w_inst hC hX (k := 8) (f := 10) (by decide) (by decide) (sy_thRk hC.2.2.2.2 hM hj hn hk_j (by omega)) q285 rfl (b := true) rfl dX0_isOfThings_8 ?_
    refine b_ifne (w := true) (tgt := 21) hx hb dX0_isOfThings_11 (by decide) (fun _ => ?_) (fun h => absurd (h.symm.trans rfl) (by decide))
    refine lv_iconst (v := 1) hx hb dX0_isOfThings_21 (by decide) ?_
    refine lv_goto (tgt := 26) hx hb dX0_isOfThings_22 (by decide) ?_
    exact sy_zret hC hr hlk hM hS rfl (by rw [hk_j]; rfl) (Nat.le_of_ble_eq_true rfl) (Nat.le_of_ble_eq_true rfl) dX0_isOfThings_26
  · refine lv_aload_n hx hb dX0_isOfThings_0 rfl (lv_at hl 0 rfl) ?_
    refine w_inst hC hX (k := 9) (f := 4) (by decide) (by decide) (sy_thRk hC.2.2.2.2 hM hj hn hk_j (by omega)) q284 rfl (b := false) rfl dX0_isOfThings_1 ?_
    refine b_ifne (w := false) (tgt := 21) hx hb dX0_isOfThings_4 (by decide) (fun h => absurd (h.symm.trans rfl) (by decide)) (fun _ => ?_)
    refine lv_aload_n hx hb dX0_isOfThings_7 rfl (lv_at hl 0 rfl) ?_
    refine w_inst hC hX (k := 9) (f := 10) (by decide) (by decide) (sy_thRk hC.2.2.2.2 hM hj hn hk_j (by omega)) q285 rfl (b := true) rfl dX0_isOfThings_8 ?_
    refine b_ifne (w := true) (tgt := 21) hx hb dX0_isOfThings_11 (by decide) (fun _ => ?_) (fun h => absurd (h.symm.trans rfl) (by decide))
    refine lv_iconst (v := 1) hx hb dX0_isOfThings_21 (by decide) ?_
    refine lv_goto (tgt := 26) hx hb dX0_isOfThings_22 (by decide) ?_
    exact sy_zret hC hr hlk hM hS rfl (by rw [hk_j]; rfl) (Nat.le_of_ble_eq_true rfl) (Nat.le_of_ble_eq_true rfl) dX0_isOfThings_26
  · refine lv_aload_n hx hb dX0_isOfThings_0 rfl (lv_at hl 0 rfl) ?_
    refine w_inst hC hX (k := 10) (f := 4) (by decide) (by decide) (sy_thRk hC.2.2.2.2 hM hj hn hk_j (by omega)) q284 rfl (b := false) rfl dX0_isOfThings_1 ?_
    refine b_ifne (w := false) (tgt := 21) hx hb dX0_isOfThings_4 (by decide) (fun h => absurd (h.symm.trans rfl) (by decide)) (fun _ => ?_)
    refine lv_aload_n hx hb dX0_isOfThings_7 rfl (lv_at hl 0 rfl) ?_
    refine w_inst hC hX (k := 10) (f := 10) (by decide) (by decide) (sy_thRk hC.2.2.2.2 hM hj hn hk_j (by omega)) q285 rfl (b := true) rfl dX0_isOfThings_8 ?_
    refine b_ifne (w := true) (tgt := 21) hx hb dX0_isOfThings_11 (by decide) (fun _ => ?_) (fun h => absurd (h.symm.trans rfl) (by decide))
    refine lv_iconst (v := 1) hx hb dX0_isOfThings_21 (by decide) ?_
    refine lv_goto (tgt := 26) hx hb dX0_isOfThings_22 (by decide) ?_
    exact sy_zret hC hr hlk hM hS rfl (by rw [hk_j]; rfl) (Nat.le_of_ble_eq_true rfl) (Nat.le_of_ble_eq_true rfl) dX0_isOfThings_26
  · refine lv_aload_n hx hb dX0_isOfThings_0 rfl (lv_at hl 0 rfl) ?_
    refine w_inst hC hX (k := 11) (f := 4) (by decide) (by decide) (sy_thRk hC.2.2.2.2 hM hj hn hk_j (by omega)) q284 rfl (b := false) rfl dX0_isOfThings_1 ?_
    refine b_ifne (w := false) (tgt := 21) hx hb dX0_isOfThings_4 (by decide) (fun h => absurd (h.symm.trans rfl) (by decide)) (fun _ => ?_)
    refine lv_aload_n hx hb dX0_isOfThings_7 rfl (lv_at hl 0 rfl) ?_
    refine w_inst hC hX (k := 11) (f := 10) (by decide) (by decide) (sy_thRk hC.2.2.2.2 hM hj hn hk_j (by omega)) q285 rfl (b := false) rfl dX0_isOfThings_8 ?_
    refine b_ifne (w := false) (tgt := 21) hx hb dX0_isOfThings_11 (by decide) (fun h => absurd (h.symm.trans rfl) (by decide)) (fun _ => ?_)
    refine lv_aload_n hx hb dX0_isOfThings_14 rfl (lv_at hl 0 rfl) ?_
    refine w_inst hC hX (k := 11) (f := 11) (by decide) (by decide) (sy_thRk hC.2.2.2.2 hM hj hn hk_j (by omega)) q286 rfl (b := true) rfl dX0_isOfThings_15 ?_
    refine b_ifeq (w := true) (tgt := 25) hx hb dX0_isOfThings_18 (by decide) (fun h => absurd (h.symm.trans rfl) (by decide)) (fun _ => ?_)
    refine lv_iconst (v := 1) hx hb dX0_isOfThings_21 (by decide) ?_
    refine lv_goto (tgt := 26) hx hb dX0_isOfThings_22 (by decide) ?_
    exact sy_zret hC hr hlk hM hS rfl (by rw [hk_j]; rfl) (Nat.le_of_ble_eq_true rfl) (Nat.le_of_ble_eq_true rfl) dX0_isOfThings_26
  · refine lv_aload_n hx hb dX0_isOfThings_0 rfl (lv_at hl 0 rfl) ?_
    refine w_inst hC hX (k := 12) (f := 4) (by decide) (by decide) (sy_thRk hC.2.2.2.2 hM hj hn hk_j (by omega)) q284 rfl (b := false) rfl dX0_isOfThings_1 ?_
    refine b_ifne (w := false) (tgt := 21) hx hb dX0_isOfThings_4 (by decide) (fun h => absurd (h.symm.trans rfl) (by decide)) (fun _ => ?_)
    refine lv_aload_n hx hb dX0_isOfThings_7 rfl (lv_at hl 0 rfl) ?_
    refine w_inst hC hX (k := 12) (f := 10) (by decide) (by decide) (sy_thRk hC.2.2.2.2 hM hj hn hk_j (by omega)) q285 rfl (b := false) rfl dX0_isOfThings_8 ?_
    refine b_ifne (w := false) (tgt := 21) hx hb dX0_isOfThings_11 (by decide) (fun h => absurd (h.symm.trans rfl) (by decide)) (fun _ => ?_)
    refine lv_aload_n hx hb dX0_isOfThings_14 rfl (lv_at hl 0 rfl) ?_
    refine w_inst hC hX (k := 12) (f := 11) (by decide) (by decide) (sy_thRk hC.2.2.2.2 hM hj hn hk_j (by omega)) q286 rfl (b := true) rfl dX0_isOfThings_15 ?_
    refine b_ifeq (w := true) (tgt := 25) hx hb dX0_isOfThings_18 (by decide) (fun h => absurd (h.symm.trans rfl) (by decide)) (fun _ => ?_)
    refine lv_iconst (v := 1) hx hb dX0_isOfThings_21 (by decide) ?_
    refine lv_goto (tgt := 26) hx hb dX0_isOfThings_22 (by decide) ?_
    exact sy_zret hC hr hlk hM hS rfl (by rw [hk_j]; rfl) (Nat.le_of_ble_eq_true rfl) (Nat.le_of_ble_eq_true rfl) dX0_isOfThings_26
theorem k_X0_isOf (l : Launch) (hst : l.stackTraces = false) (D : va_G) (tc : Nat → ClassId) (x mo : Nat) (β : Nat → Nat) (μ : MS) (j : Nat) (hj : j < nn μ) (hn : nn μ ≤ 60) (hk12 : kd μ j ≤ 12) (f : Nat) (hf : f < 14) : YC l yX0_isOf cX0_isOf 2 (some .boolean) 0 0 0 0 D tc x mo β [.ref (β (64 + j)), .int (nI f)] μ μ (some (.int (bI (goesN (kd μ j) f)))) := by
  refine YC.of (by decide) rfl (Nat.le_of_ble_eq_true rfl) ?_
  intro p e s m below meth c hC hX hZ hr hlk hml hM hS ls hl
  have hx := hC.1
  have hb := hC.2.1
  have hts := hC.2.2.1
  have hown := hC.2.2.2.1
  have hl : lv_has ls 2 [(0, .ref (β (64 + j))), (1, .int (nI f))] := hl
  rcases (by omega : f = 0 ∨ f = 1 ∨ f = 2 ∨ f = 3 ∨ f = 4 ∨ f = 5 ∨ f = 6 ∨ f = 7 ∨ f = 8 ∨ f = 9 ∨ f = 10 ∨ f = 11 ∨ f = 12 ∨ f = 13) with rfl | rfl | rfl | rfl | rfl | rfl | rfl | rfl | rfl | rfl | rfl | rfl | rfl | rfl
  · refine lv_iload_n hx hb dX0_isOf_0 rfl (lv_at hl 1 rfl) ?_
    refine lv_tableIn (off := 67) (tgt := 68) hx hb dX0_isOf_1 (by decide) (by decide) rfl (by decide) ?_
    refine lv_aload_n hx hb dX0_isOf_68 rfl (lv_at hl 0 rfl) ?_
    refine w_inst hC hX (k := kd μ j) (f := 0) (by omega) (by decide) (sy_thR hC.2.2.2.2 hM hj hn hk12) q100 rfl (b := (goesN (kd μ j) 0)) rfl dX0_isOf_69 ?_
    exact sy_zret hC hr hlk hM hS rfl rfl (Nat.le_of_ble_eq_true rfl) (Nat.le_of_ble_eq_true rfl) dX0_isOf_72
  · refine lv_iload_n hx hb dX0_isOf_0 rfl (lv_at hl 1 rfl) ?_
    refine lv_tableIn (off := 72) (tgt := 73) hx hb dX0_isOf_1 (by decide) (by decide) rfl (by decide) ?_
    refine lv_aload_n hx hb dX0_isOf_73 rfl (lv_at hl 0 rfl) ?_
    refine w_inst hC hX (k := kd μ j) (f := 1) (by omega) (by decide) (sy_thR hC.2.2.2.2 hM hj hn hk12) q252 rfl (b := (goesN (kd μ j) 1)) rfl dX0_isOf_74 ?_
    exact sy_zret hC hr hlk hM hS rfl rfl (Nat.le_of_ble_eq_true rfl) (Nat.le_of_ble_eq_true rfl) dX0_isOf_77
  · refine lv_iload_n hx hb dX0_isOf_0 rfl (lv_at hl 1 rfl) ?_
    refine lv_tableIn (off := 77) (tgt := 78) hx hb dX0_isOf_1 (by decide) (by decide) rfl (by decide) ?_
    refine lv_aload_n hx hb dX0_isOf_78 rfl (lv_at hl 0 rfl) ?_
    refine w_inst hC hX (k := kd μ j) (f := 2) (by omega) (by decide) (sy_thR hC.2.2.2.2 hM hj hn hk12) q253 rfl (b := (goesN (kd μ j) 2)) rfl dX0_isOf_79 ?_
    exact sy_zret hC hr hlk hM hS rfl rfl (Nat.le_of_ble_eq_true rfl) (Nat.le_of_ble_eq_true rfl) dX0_isOf_82
  · refine lv_iload_n hx hb dX0_isOf_0 rfl (lv_at hl 1 rfl) ?_
    refine lv_tableIn (off := 82) (tgt := 83) hx hb dX0_isOf_1 (by decide) (by decide) rfl (by decide) ?_
    refine lv_aload_n hx hb dX0_isOf_83 rfl (lv_at hl 0 rfl) ?_
    refine w_inst hC hX (k := kd μ j) (f := 3) (by omega) (by decide) (sy_thR hC.2.2.2.2 hM hj hn hk12) q255 rfl (b := (goesN (kd μ j) 3)) rfl dX0_isOf_84 ?_
    exact sy_zret hC hr hlk hM hS rfl rfl (Nat.le_of_ble_eq_true rfl) (Nat.le_of_ble_eq_true rfl) dX0_isOf_87
  · refine lv_iload_n hx hb dX0_isOf_0 rfl (lv_at hl 1 rfl) ?_
    refine lv_tableIn (off := 87) (tgt := 88) hx hb dX0_isOf_1 (by decide) (by decide) rfl (by decide) ?_
    refine lv_aload_n hx hb dX0_isOf_88 rfl (lv_at hl 0 rfl) ?_
    refine w_inst hC hX (k := kd μ j) (f := 4) (by omega) (by decide) (sy_thR hC.2.2.2.2 hM hj hn hk12) q284 rfl (b := (goesN (kd μ j) 4)) rfl dX0_isOf_89 ?_
    exact sy_zret hC hr hlk hM hS rfl rfl (Nat.le_of_ble_eq_true rfl) (Nat.le_of_ble_eq_true rfl) dX0_isOf_92
  · refine lv_iload_n hx hb dX0_isOf_0 rfl (lv_at hl 1 rfl) ?_
    refine lv_tableIn (off := 92) (tgt := 93) hx hb dX0_isOf_1 (by decide) (by decide) rfl (by decide) ?_
    refine lv_aload_n hx hb dX0_isOf_93 rfl (lv_at hl 0 rfl) ?_
    refine w_inst hC hX (k := kd μ j) (f := 5) (by omega) (by decide) (sy_thR hC.2.2.2.2 hM hj hn hk12) q102 rfl (b := (goesN (kd μ j) 5)) rfl dX0_isOf_94 ?_
    exact sy_zret hC hr hlk hM hS rfl rfl (Nat.le_of_ble_eq_true rfl) (Nat.le_of_ble_eq_true rfl) dX0_isOf_97
  · refine lv_iload_n hx hb dX0_isOf_0 rfl (lv_at hl 1 rfl) ?_
    refine lv_tableIn (off := 97) (tgt := 98) hx hb dX0_isOf_1 (by decide) (by decide) rfl (by decide) ?_
    refine lv_aload_n hx hb dX0_isOf_98 rfl (lv_at hl 0 rfl) ?_
    refine w_inst hC hX (k := kd μ j) (f := 6) (by omega) (by decide) (sy_thR hC.2.2.2.2 hM hj hn hk12) q116 rfl (b := (goesN (kd μ j) 6)) rfl dX0_isOf_99 ?_
    exact sy_zret hC hr hlk hM hS rfl rfl (Nat.le_of_ble_eq_true rfl) (Nat.le_of_ble_eq_true rfl) dX0_isOf_102
  · refine lv_iload_n hx hb dX0_isOf_0 rfl (lv_at hl 1 rfl) ?_
    refine lv_tableIn (off := 102) (tgt := 103) hx hb dX0_isOf_1 (by decide) (by decide) rfl (by decide) ?_
    refine lv_aload_n hx hb dX0_isOf_103 rfl (lv_at hl 0 rfl) ?_
    refine w_inst hC hX (k := kd μ j) (f := 7) (by omega) (by decide) (sy_thR hC.2.2.2.2 hM hj hn hk12) q124 rfl (b := (goesN (kd μ j) 7)) rfl dX0_isOf_104 ?_
    exact sy_zret hC hr hlk hM hS rfl rfl (Nat.le_of_ble_eq_true rfl) (Nat.le_of_ble_eq_true rfl) dX0_isOf_107
  · refine lv_iload_n hx hb dX0_isOf_0 rfl (lv_at hl 1 rfl) ?_
    refine lv_tableIn (off := 107) (tgt := 108) hx hb dX0_isOf_1 (by decide) (by decide) rfl (by decide) ?_
    refine lv_aload_n hx hb dX0_isOf_108 rfl (lv_at hl 0 rfl) ?_
    refine w_inst hC hX (k := kd μ j) (f := 8) (by omega) (by decide) (sy_thR hC.2.2.2.2 hM hj hn hk12) q138 rfl (b := (goesN (kd μ j) 8)) rfl dX0_isOf_109 ?_
    exact sy_zret hC hr hlk hM hS rfl rfl (Nat.le_of_ble_eq_true rfl) (Nat.le_of_ble_eq_true rfl) dX0_isOf_112
  · refine lv_iload_n hx hb dX0_isOf_0 rfl (lv_at hl 1 rfl) ?_
    refine lv_tableIn (off := 112) (tgt := 113) hx hb dX0_isOf_1 (by decide) (by decide) rfl (by decide) ?_
    refine lv_aload_n hx hb dX0_isOf_113 rfl (lv_at hl 0 rfl) ?_
    refine w_inst hC hX (k := kd μ j) (f := 9) (by omega) (by decide) (sy_thR hC.2.2.2.2 hM hj hn hk12) q140 rfl (b := (goesN (kd μ j) 9)) rfl dX0_isOf_114 ?_
    exact sy_zret hC hr hlk hM hS rfl rfl (Nat.le_of_ble_eq_true rfl) (Nat.le_of_ble_eq_true rfl) dX0_isOf_117
  · refine lv_iload_n hx hb dX0_isOf_0 rfl (lv_at hl 1 rfl) ?_
    refine lv_tableIn (off := 117) (tgt := 118) hx hb dX0_isOf_1 (by decide) (by decide) rfl (by decide) ?_
    refine lv_aload_n hx hb dX0_isOf_118 rfl (lv_at hl 0 rfl) ?_
    refine w_inst hC hX (k := kd μ j) (f := 10) (by omega) (by decide) (sy_thR hC.2.2.2.2 hM hj hn hk12) q285 rfl (b := (goesN (kd μ j) 10)) rfl dX0_isOf_119 ?_
    exact sy_zret hC hr hlk hM hS rfl rfl (Nat.le_of_ble_eq_true rfl) (Nat.le_of_ble_eq_true rfl) dX0_isOf_122
  · refine lv_iload_n hx hb dX0_isOf_0 rfl (lv_at hl 1 rfl) ?_
    refine lv_tableIn (off := 122) (tgt := 123) hx hb dX0_isOf_1 (by decide) (by decide) rfl (by decide) ?_
    refine lv_aload_n hx hb dX0_isOf_123 rfl (lv_at hl 0 rfl) ?_
    refine w_inst hC hX (k := kd μ j) (f := 11) (by omega) (by decide) (sy_thR hC.2.2.2.2 hM hj hn hk12) q286 rfl (b := (goesN (kd μ j) 11)) rfl dX0_isOf_124 ?_
    exact sy_zret hC hr hlk hM hS rfl rfl (Nat.le_of_ble_eq_true rfl) (Nat.le_of_ble_eq_true rfl) dX0_isOf_127
  · refine lv_iload_n hx hb dX0_isOf_0 rfl (lv_at hl 1 rfl) ?_
    refine lv_tableIn (off := 127) (tgt := 128) hx hb dX0_isOf_1 (by decide) (by decide) rfl (by decide) ?_
    refine lv_aload_n hx hb dX0_isOf_128 rfl (lv_at hl 0 rfl) ?_
    refine w_inst hC hX (k := kd μ j) (f := 12) (by omega) (by decide) (sy_thR hC.2.2.2.2 hM hj hn hk12) q305 rfl (b := (goesN (kd μ j) 12)) rfl dX0_isOf_129 ?_
    exact sy_zret hC hr hlk hM hS rfl rfl (Nat.le_of_ble_eq_true rfl) (Nat.le_of_ble_eq_true rfl) dX0_isOf_132
  · refine lv_iload_n hx hb dX0_isOf_0 rfl (lv_at hl 1 rfl) ?_
    refine lv_tableOut (tgt := 133) hx hb dX0_isOf_1 (by decide) (by decide) ?_
    refine lv_aload_n hx hb dX0_isOf_133 rfl (lv_at hl 0 rfl) ?_
    refine w_inst hC hX (k := kd μ j) (f := 13) (by omega) (by decide) (sy_thR hC.2.2.2.2 hM hj hn hk12) q136 rfl (b := (goesN (kd μ j) 13)) rfl dX0_isOf_134 ?_
    exact sy_zret hC hr hlk hM hS rfl rfl (Nat.le_of_ble_eq_true rfl) (Nat.le_of_ble_eq_true rfl) dX0_isOf_137
theorem k_X0_as_ok (l : Launch) (hst : l.stackTraces = false) (D : va_G) (tc : Nat → ClassId) (x mo : Nat) (β : Nat → Nat) (μ : MS) (j : Nat) (hj : j < nn μ) (hn : nn μ ≤ 60) (hk12 : kd μ j ≤ 12) (f : Nat) (hf : f < 14) (hg : goesN (kd μ j) f = true) : YC l yX0_as cX0_as 2 (some (.object "java/lang/Object")) 0 0 0 0 D tc x mo β [.ref (β (64 + j)), .int (nI f)] μ μ (some ((va_rf (some (β (64 + j)))))) := by
  refine YC.of (by decide) rfl (Nat.le_of_ble_eq_true rfl) ?_
  intro p e s m below meth c hC hX hZ hr hlk hml hM hS ls hl
  have hx := hC.1
  have hb := hC.2.1
  have hts := hC.2.2.1
  have hown := hC.2.2.2.1
  have hl : lv_has ls 2 [(0, .ref (β (64 + j))), (1, .int (nI f))] := hl
  rcases (by omega : f = 0 ∨ f = 1 ∨ f = 2 ∨ f = 3 ∨ f = 4 ∨ f = 5 ∨ f = 6 ∨ f = 7 ∨ f = 8 ∨ f = 9 ∨ f = 10 ∨ f = 11 ∨ f = 12 ∨ f = 13) with rfl | rfl | rfl | rfl | rfl | rfl | rfl | rfl | rfl | rfl | rfl | rfl | rfl | rfl
  · refine lv_iload_n hx hb dX0_as_0 rfl (lv_at hl 1 rfl) ?_
    refine lv_tableIn (off := 67) (tgt := 68) hx hb dX0_as_1 (by decide) (by decide) rfl (by decide) ?_
    refine lv_aload_n hx hb dX0_as_68 rfl (lv_at hl 0 rfl) ?_
    refine w_cast hC hX (k := kd μ j) (f := 0) (by omega) (by decide) (sy_thR hC.2.2.2.2 hM hj hn hk12) q100 rfl hg dX0_as_69 ?_
    exact sy_aret hC hr hlk hM hS rfl rfl (Nat.le_of_ble_eq_true rfl) (Nat.le_of_ble_eq_true rfl) dX0_as_72
  · refine lv_iload_n hx hb dX0_as_0 rfl (lv_at hl 1 rfl) ?_
    refine lv_tableIn (off := 72) (tgt := 73) hx hb dX0_as_1 (by decide) (by decide) rfl (by decide) ?_
    refine lv_aload_n hx hb dX0_as_73 rfl (lv_at hl 0 rfl) ?_
    refine w_cast hC hX (k := kd μ j) (f := 1) (by omega) (by decide) (sy_thR hC.2.2.2.2 hM hj hn hk12) q252 rfl hg dX0_as_74 ?_
    exact sy_aret hC hr hlk hM hS rfl rfl (Nat.le_of_ble_eq_true rfl) (Nat.le_of_ble_eq_true rfl) dX0_as_77
  · refine lv_iload_n hx hb dX0_as_0 rfl (lv_at hl 1 rfl) ?_
    refine lv_tableIn (off := 77) (tgt := 78) hx hb dX0_as_1 (by decide) (by decide) rfl (by decide) ?_
    refine lv_aload_n hx hb dX0_as_78 rfl (lv_at hl 0 rfl) ?_
    refine w_cast hC hX (k := kd μ j) (f := 2) (by omega) (by decide) (sy_thR hC.2.2.2.2 hM hj hn hk12) q253 rfl hg dX0_as_79 ?_
    exact sy_aret hC hr hlk hM hS rfl rfl (Nat.le_of_ble_eq_true rfl) (Nat.le_of_ble_eq_true rfl) dX0_as_82
  · refine lv_iload_n hx hb dX0_as_0 rfl (lv_at hl 1 rfl) ?_
    refine lv_tableIn (off := 82) (tgt := 83) hx hb dX0_as_1 (by decide) (by decide) rfl (by decide) ?_
    refine lv_aload_n hx hb dX0_as_83 rfl (lv_at hl 0 rfl) ?_
    refine w_cast hC hX (k := kd μ j) (f := 3) (by omega) (by decide) (sy_thR hC.2.2.2.2 hM hj hn hk12) q255 rfl hg dX0_as_84 ?_
    exact sy_aret hC hr hlk hM hS rfl rfl (Nat.le_of_ble_eq_true rfl) (Nat.le_of_ble_eq_true rfl) dX0_as_87
  · refine lv_iload_n hx hb dX0_as_0 rfl (lv_at hl 1 rfl) ?_
    refine lv_tableIn (off := 87) (tgt := 88) hx hb dX0_as_1 (by decide) (by decide) rfl (by decide) ?_
    refine lv_aload_n hx hb dX0_as_88 rfl (lv_at hl 0 rfl) ?_
    refine w_cast hC hX (k := kd μ j) (f := 4) (by omega) (by decide) (sy_thR hC.2.2.2.2 hM hj hn hk12) q284 rfl hg dX0_as_89 ?_
    exact sy_aret hC hr hlk hM hS rfl rfl (Nat.le_of_ble_eq_true rfl) (Nat.le_of_ble_eq_true rfl) dX0_as_92
  · refine lv_iload_n hx hb dX0_as_0 rfl (lv_at hl 1 rfl) ?_
    refine lv_tableIn (off := 92) (tgt := 93) hx hb dX0_as_1 (by decide) (by decide) rfl (by decide) ?_
    refine lv_aload_n hx hb dX0_as_93 rfl (lv_at hl 0 rfl) ?_
    refine w_cast hC hX (k := kd μ j) (f := 5) (by omega) (by decide) (sy_thR hC.2.2.2.2 hM hj hn hk12) q102 rfl hg dX0_as_94 ?_
    exact sy_aret hC hr hlk hM hS rfl rfl (Nat.le_of_ble_eq_true rfl) (Nat.le_of_ble_eq_true rfl) dX0_as_97
  · refine lv_iload_n hx hb dX0_as_0 rfl (lv_at hl 1 rfl) ?_
    refine lv_tableIn (off := 97) (tgt := 98) hx hb dX0_as_1 (by decide) (by decide) rfl (by decide) ?_
    refine lv_aload_n hx hb dX0_as_98 rfl (lv_at hl 0 rfl) ?_
    refine w_cast hC hX (k := kd μ j) (f := 6) (by omega) (by decide) (sy_thR hC.2.2.2.2 hM hj hn hk12) q116 rfl hg dX0_as_99 ?_
    exact sy_aret hC hr hlk hM hS rfl rfl (Nat.le_of_ble_eq_true rfl) (Nat.le_of_ble_eq_true rfl) dX0_as_102
  · refine lv_iload_n hx hb dX0_as_0 rfl (lv_at hl 1 rfl) ?_
    refine lv_tableIn (off := 102) (tgt := 103) hx hb dX0_as_1 (by decide) (by decide) rfl (by decide) ?_
    refine lv_aload_n hx hb dX0_as_103 rfl (lv_at hl 0 rfl) ?_
    refine w_cast hC hX (k := kd μ j) (f := 7) (by omega) (by decide) (sy_thR hC.2.2.2.2 hM hj hn hk12) q124 rfl hg dX0_as_104 ?_
    exact sy_aret hC hr hlk hM hS rfl rfl (Nat.le_of_ble_eq_true rfl) (Nat.le_of_ble_eq_true rfl) dX0_as_107
  · refine lv_iload_n hx hb dX0_as_0 rfl (lv_at hl 1 rfl) ?_
    refine lv_tableIn (off := 107) (tgt := 108) hx hb dX0_as_1 (by decide) (by decide) rfl (by decide) ?_
    refine lv_aload_n hx hb dX0_as_108 rfl (lv_at hl 0 rfl) ?_
    refine w_cast hC hX (k := kd μ j) (f := 8) (by omega) (by decide) (sy_thR hC.2.2.2.2 hM hj hn hk12) q138 rfl hg dX0_as_109 ?_
    exact sy_aret hC hr hlk hM hS rfl rfl (Nat.le_of_ble_eq_true rfl) (Nat.le_of_ble_eq_true rfl) dX0_as_112
  · refine lv_iload_n hx hb dX0_as_0 rfl (lv_at hl 1 rfl) ?_
    refine lv_tableIn (off := 112) (tgt := 113) hx hb dX0_as_1 (by decide) (by decide) rfl (by decide) ?_
    refine lv_aload_n hx hb dX0_as_113 rfl (lv_at hl 0 rfl) ?_
    refine w_cast hC hX (k := kd μ j) (f := 9) (by omega) (by decide) (sy_thR hC.2.2.2.2 hM hj hn hk12) q140 rfl hg dX0_as_114 ?_
    exact sy_aret hC hr hlk hM hS rfl rfl (Nat.le_of_ble_eq_true rfl) (Nat.le_of_ble_eq_true rfl) dX0_as_117
  · refine lv_iload_n hx hb dX0_as_0 rfl (lv_at hl 1 rfl) ?_
    refine lv_tableIn (off := 117) (tgt := 118) hx hb dX0_as_1 (by decide) (by decide) rfl (by decide) ?_
    refine lv_aload_n hx hb dX0_as_118 rfl (lv_at hl 0 rfl) ?_
    refine w_cast hC hX (k := kd μ j) (f := 10) (by omega) (by decide) (sy_thR hC.2.2.2.2 hM hj hn hk12) q285 rfl hg dX0_as_119 ?_
    exact sy_aret hC hr hlk hM hS rfl rfl (Nat.le_of_ble_eq_true rfl) (Nat.le_of_ble_eq_true rfl) dX0_as_122
  · refine lv_iload_n hx hb dX0_as_0 rfl (lv_at hl 1 rfl) ?_
    refine lv_tableIn (off := 122) (tgt := 123) hx hb dX0_as_1 (by decide) (by decide) rfl (by decide) ?_
    refine lv_aload_n hx hb dX0_as_123 rfl (lv_at hl 0 rfl) ?_
    refine w_cast hC hX (k := kd μ j) (f := 11) (by omega) (by decide) (sy_thR hC.2.2.2.2 hM hj hn hk12) q286 rfl hg dX0_as_124 ?_
    exact sy_aret hC hr hlk hM hS rfl rfl (Nat.le_of_ble_eq_true rfl) (Nat.le_of_ble_eq_true rfl) dX0_as_127
  · refine lv_iload_n hx hb dX0_as_0 rfl (lv_at hl 1 rfl) ?_
    refine lv_tableIn (off := 127) (tgt := 128) hx hb dX0_as_1 (by decide) (by decide) rfl (by decide) ?_
    refine lv_aload_n hx hb dX0_as_128 rfl (lv_at hl 0 rfl) ?_
    refine w_cast hC hX (k := kd μ j) (f := 12) (by omega) (by decide) (sy_thR hC.2.2.2.2 hM hj hn hk12) q305 rfl hg dX0_as_129 ?_
    exact sy_aret hC hr hlk hM hS rfl rfl (Nat.le_of_ble_eq_true rfl) (Nat.le_of_ble_eq_true rfl) dX0_as_132
  · refine lv_iload_n hx hb dX0_as_0 rfl (lv_at hl 1 rfl) ?_
    refine lv_tableOut (tgt := 133) hx hb dX0_as_1 (by decide) (by decide) ?_
    refine lv_aload_n hx hb dX0_as_133 rfl (lv_at hl 0 rfl) ?_
    refine w_cast hC hX (k := kd μ j) (f := 13) (by omega) (by decide) (sy_thR hC.2.2.2.2 hM hj hn hk12) q136 rfl hg dX0_as_134 ?_
    exact sy_aret hC hr hlk hM hS rfl rfl (Nat.le_of_ble_eq_true rfl) (Nat.le_of_ble_eq_true rfl) dX0_as_137
theorem k_X0_as_cce (l : Launch) (hst : l.stackTraces = false) (D : va_G) (tc : Nat → ClassId) (x mo : Nat) (β : Nat → Nat) (μ : MS) (j : Nat) (hj : j < nn μ) (hn : nn μ ≤ 60) (hk12 : kd μ j ≤ 12) (f : Nat) (hf : f < 14) (hg : goesN (kd μ j) f = false) : YX l yX0_as cX0_as 2 (some (.object "java/lang/Object")) 8 10300 D tc x mo β [.ref (β (64 + j)), .int (nI f)] μ 0 := by
  refine YX.of (by decide) rfl (Nat.le_of_ble_eq_true rfl) ?_
  intro p e s m below meth c hC hX hZ hlk hml htab hM hS ls hl
  have hx := hC.1
  have hb := hC.2.1
  have hts := hC.2.2.1
  have hown := hC.2.2.2.1
  have hl : lv_has ls 2 [(0, .ref (β (64 + j))), (1, .int (nI f))] := hl
  rcases (by omega : f = 0 ∨ f = 1 ∨ f = 2 ∨ f = 3 ∨ f = 4 ∨ f = 5 ∨ f = 6 ∨ f = 7 ∨ f = 8 ∨ f = 9 ∨ f = 10 ∨ f = 11 ∨ f = 12 ∨ f = 13) with rfl | rfl | rfl | rfl | rfl | rfl | rfl | rfl | rfl | rfl | rfl | rfl | rfl | rfl
  · refine lv_iload_n hx hb dX0_as_0 rfl (lv_at hl 1 rfl) ?_
    refine lv_tableIn (off := 67) (tgt := 68) hx hb dX0_as_1 (by decide) (by decide) rfl (by decide) ?_
    refine lv_aload_n hx hb dX0_as_68 rfl (lv_at hl 0 rfl) ?_
    exact w_castNo hC hX (k := kd μ j) (f := 0) (by omega) (by decide) (sy_thR hC.2.2.2.2 hM hj hn hk12) q100 rfl hg dX0_as_69 (fun tx b1 b2 => sy_throw hC hX hst hZ hS (hl.1.trans hml.symm) hlk htab 0 (by decide) b1 b2 (Nat.le_of_ble_eq_true rfl) (Nat.le_of_ble_eq_true rfl) (Nat.le_of_ble_eq_true rfl) (Nat.le_of_ble_eq_true rfl))
  · refine lv_iload_n hx hb dX0_as_0 rfl (lv_at hl 1 rfl) ?_
    refine lv_tableIn (off := 72) (tgt := 73) hx hb dX0_as_1 (by decide) (by decide) rfl (by decide) ?_
    refine lv_aload_n hx hb dX0_as_73 rfl (lv_at hl 0 rfl) ?_
    exact w_castNo hC hX (k := kd μ j) (f := 1) (by omega) (by decide) (sy_thR hC.2.2.2.2 hM hj hn hk12) q252 rfl hg dX0_as_74 (fun tx b1 b2 => sy_throw hC hX hst hZ hS (hl.1.trans hml.symm) hlk htab 0 (by decide) b1 b2 (Nat.le_of_ble_eq_true rfl) (Nat.le_of_ble_eq_true rfl) (Nat.le_of_ble_eq_true rfl) (Nat.le_of_ble_eq_true rfl))
  · refine lv_iload_n hx hb dX0_as_0 rfl (lv_at hl 1 rfl) ?_
    refine lv_tableIn (off := 77) (tgt := 78) hx hb dX0_as_1 (by decide) (by decide) rfl (by decide) ?_
    refine lv_aload_n hx hb dX0_as_78 rfl (lv_at hl 0 rfl) ?_
    exact w_castNo hC hX (k := kd μ j) (f := 2) (by omega) (by decide) (sy_thR hC.2.2.2.2 hM hj hn hk12) q253 rfl hg dX0_as_79 (fun tx b1 b2 => sy_throw hC hX hst hZ hS (hl.1.trans hml.symm) hlk htab 0 (by decide) b1 b2 (Nat.le_of_ble_eq_true rfl) (Nat.le_of_ble_eq_true rfl) (Nat.le_of_ble_eq_true rfl) (Nat.le_of_ble_eq_true rfl))
  · refine lv_iload_n hx hb dX0_as_0 rfl (lv_at hl 1 rfl) ?_
    refine lv_tableIn (off := 82) (tgt := 83) hx hb dX0_as_1 (by decide) (by decide) rfl (by decide) ?_
    refine lv_aload_n hx hb dX0_as_83 rfl (lv_at hl 0 rfl) ?_
    exact w_castNo hC hX (k := kd μ j) (f := 3) (by omega) (by decide) (sy_thR hC.2.2.2.2 hM hj hn hk12) q255 rfl hg dX0_as_84 (fun tx b1 b2 => sy_throw hC hX hst hZ hS (hl.1.trans hml.symm) hlk htab 0 (by decide) b1 b2 (Nat.le_of_ble_eq_true rfl) (Nat.le_of_ble_eq_true rfl) (Nat.le_of_ble_eq_true rfl) (Nat.le_of_ble_eq_true rfl))
  · refine lv_iload_n hx hb dX0_as_0 rfl (lv_at hl 1 rfl) ?_
    refine lv_tableIn (off := 87) (tgt := 88) hx hb dX0_as_1 (by decide) (by decide) rfl (by decide) ?_
    refine lv_aload_n hx hb dX0_as_88 rfl (lv_at hl 0 rfl) ?_
    exact w_castNo hC hX (k := kd μ j) (f := 4) (by omega) (by decide) (sy_thR hC.2.2.2.2 hM hj hn hk12) q284 rfl hg dX0_as_89 (fun tx b1 b2 => sy_throw hC hX hst hZ hS (hl.1.trans hml.symm) hlk htab 0 (by decide) b1 b2 (Nat.le_of_ble_eq_true rfl) (Nat.le_of_ble_eq_true rfl) (Nat.le_of_ble_eq_true rfl) (Nat.le_of_ble_eq_true rfl))
  · refine lv_iload_n hx hb dX0_as_0 rfl (lv_at hl 1 rfl) ?_
    refine lv_tableIn (off := 92) (tgt := 93) hx hb dX0_as_1 (by decide) (by decide) rfl (by decide) ?_
    refine lv_aload_n hx hb dX0_as_93 rfl (lv_at hl 0 rfl) ?_
    exact w_castNo hC hX (k := kd μ j) (f := 5) (by omega) (by decide) (sy_thR hC.2.2.2.2 hM hj hn hk12) q102 rfl hg dX0_as_94 (fun tx b1 b2 => sy_throw hC hX hst hZ hS (hl.1.trans hml.symm) hlk htab 0 (by decide) b1 b2 (Nat.le_of_ble_eq_true rfl) (Nat.le_of_ble_eq_true rfl) (Nat.le_of_ble_eq_true rfl) (Nat.le_of_ble_eq_true rfl))
  · refine lv_iload_n hx hb dX0_as_0 rfl (lv_at hl 1 rfl) ?_
    refine lv_tableIn (off := 97) (tgt := 98) hx hb dX0_as_1 (by decide) (by decide) rfl (by decide) ?_
    refine lv_aload_n hx hb dX0_as_98 rfl (lv_at hl 0 rfl) ?_
    exact w_castNo hC hX (k := kd μ j) (f := 6) (by omega) (by decide) (sy_thR hC.2.2.2.2 hM hj hn hk12) q116 rfl hg dX0_as_99 (fun tx b1 b2 => sy_throw hC hX hst hZ hS (hl.1.trans hml.symm) hlk htab 0 (by decide) b1 b2 (Nat.le_of_ble_eq_true rfl) (Nat.le_of_ble_eq_true rfl) (Nat.le_of_ble_eq_true rfl) (Nat.le_of_ble_eq_true rfl))
  · refine lv_iload_n hx hb dX0_as_0 rfl (lv_at hl 1 rfl) ?_
    refine lv_tableIn (off := 102) (tgt := 103) hx hb dX0_as_1 (by decide) (by decide) rfl (by decide) ?_
    refine lv_aload_n hx hb dX0_as_103 rfl (lv_at hl 0 rfl) ?_
    exact w_castNo hC hX (k := kd μ j) (f := 7) (by omega) (by decide) (sy_thR hC.2.2.2.2 hM hj hn hk12) q124 rfl hg dX0_as_104 (fun tx b1 b2 => sy_throw hC hX hst hZ hS (hl.1.trans hml.symm) hlk htab 0 (by decide) b1 b2 (Nat.le_of_ble_eq_true rfl) (Nat.le_of_ble_eq_true rfl) (Nat.le_of_ble_eq_true rfl) (Nat.le_of_ble_eq_true rfl))
  · refine lv_iload_n hx hb dX0_as_0 rfl (lv_at hl 1 rfl) ?_
    refine lv_tableIn (off := 107) (tgt := 108) hx hb dX0_as_1 (by decide) (by decide) rfl (by decide) ?_
    refine lv_aload_n hx hb dX0_as_108 rfl (lv_at hl 0 rfl) ?_
    exact w_castNo hC hX (k := kd μ j) (f := 8) (by omega) (by decide) (sy_thR hC.2.2.2.2 hM hj hn hk12) q138 rfl hg dX0_as_109 (fun tx b1 b2 => sy_throw hC hX hst hZ hS (hl.1.trans hml.symm) hlk htab 0 (by decide) b1 b2 (Nat.le_of_ble_eq_true rfl) (Nat.le_of_ble_eq_true rfl) (Nat.le_of_ble_eq_true rfl) (Nat.le_of_ble_eq_true rfl))
  · refine lv_iload_n hx hb dX0_as_0 rfl (lv_at hl 1 rfl) ?_
    refine lv_tableIn (off := 112) (tgt := 113) hx hb dX0_as_1 (by decide) (by decide) rfl (by decide) ?_
    refine lv_aload_n hx hb dX0_as_113 rfl (lv_at hl 0 rfl) ?_
    exact w_castNo hC hX (k := kd μ j) (f := 9) (by omega) (by decide) (sy_thR hC.2.2.2.2 hM hj hn hk12) q140 rfl hg dX0_as_114 (fun tx b1 b2 => sy_throw hC hX hst hZ hS (hl.1.trans hml.symm) hlk htab 0 (by decide) b1 b2 (Nat.le_of_ble_eq_true rfl) (Nat.le_of_ble_eq_true rfl) (Nat.le_of_ble_eq_true rfl) (Nat.le_of_ble_eq_true rfl))
  · refine lv_iload_n hx hb dX0_as_0 rfl (lv_at hl 1 rfl) ?_
    refine lv_tableIn (off := 117) (tgt := 118) hx hb dX0_as_1 (by decide) (by decide) rfl (by decide) ?_
    refine lv_aload_n hx hb dX0_as_118 rfl (lv_at hl 0 rfl) ?_
    exact w_castNo hC hX (k := kd μ j) (f := 10) (by omega) (by decide) (sy_thR hC.2.2.2.2 hM hj hn hk12) q285 rfl hg dX0_as_119 (fun tx b1 b2 => sy_throw hC hX hst hZ hS (hl.1.trans hml.symm) hlk htab 0 (by decide) b1 b2 (Nat.le_of_ble_eq_true rfl) (Nat.le_of_ble_eq_true rfl) (Nat.le_of_ble_eq_true rfl) (Nat.le_of_ble_eq_true rfl))
  · refine lv_iload_n hx hb dX0_as_0 rfl (lv_at hl 1 rfl) ?_
    refine lv_tableIn (off := 122) (tgt := 123) hx hb dX0_as_1 (by decide) (by decide) rfl (by decide) ?_
    refine lv_aload_n hx hb dX0_as_123 rfl (lv_at hl 0 rfl) ?_
    exact w_castNo hC hX (k := kd μ j) (f := 11) (by omega) (by decide) (sy_thR hC.2.2.2.2 hM hj hn hk12) q286 rfl hg dX0_as_124 (fun tx b1 b2 => sy_throw hC hX hst hZ hS (hl.1.trans hml.symm) hlk htab 0 (by decide) b1 b2 (Nat.le_of_ble_eq_true rfl) (Nat.le_of_ble_eq_true rfl) (Nat.le_of_ble_eq_true rfl) (Nat.le_of_ble_eq_true rfl))
  · refine lv_iload_n hx hb dX0_as_0 rfl (lv_at hl 1 rfl) ?_
    refine lv_tableIn (off := 127) (tgt := 128) hx hb dX0_as_1 (by decide) (by decide) rfl (by decide) ?_
    refine lv_aload_n hx hb dX0_as_128 rfl (lv_at hl 0 rfl) ?_
    exact w_castNo hC hX (k := kd μ j) (f := 12) (by omega) (by decide) (sy_thR hC.2.2.2.2 hM hj hn hk12) q305 rfl hg dX0_as_129 (fun tx b1 b2 => sy_throw hC hX hst hZ hS (hl.1.trans hml.symm) hlk htab 0 (by decide) b1 b2 (Nat.le_of_ble_eq_true rfl) (Nat.le_of_ble_eq_true rfl) (Nat.le_of_ble_eq_true rfl) (Nat.le_of_ble_eq_true rfl))
  · refine lv_iload_n hx hb dX0_as_0 rfl (lv_at hl 1 rfl) ?_
    refine lv_tableOut (tgt := 133) hx hb dX0_as_1 (by decide) (by decide) ?_
    refine lv_aload_n hx hb dX0_as_133 rfl (lv_at hl 0 rfl) ?_
    exact w_castNo hC hX (k := kd μ j) (f := 13) (by omega) (by decide) (sy_thR hC.2.2.2.2 hM hj hn hk12) q136 rfl hg dX0_as_134 (fun tx b1 b2 => sy_throw hC hX hst hZ hS (hl.1.trans hml.symm) hlk htab 0 (by decide) b1 b2 (Nat.le_of_ble_eq_true rfl) (Nat.le_of_ble_eq_true rfl) (Nat.le_of_ble_eq_true rfl) (Nat.le_of_ble_eq_true rfl))
